/-! SongLampsModel -/
set_option maxRecDepth 100000
def RX2 : String := "SongLampsModel"
def TX2 : u_T := fun k => match k with
  | 0 => ("SongLampsModel", "book", "[I", true)
  | 1 => ("SongLampsModel", "now", "[I", true)
  | 2 => ("SongLampsModel", "there", "I", false)
  | 3 => ("SongLampsModel", "low", "[I", true)
  | 4 => ("SongLampsModel", "high", "[I", true)
  | 5 => ("SongLampsModel", "lungs", "[I", true)
  | 6 => ("SongLampsModel", "passages", "[I", true)
  | 7 => ("SongLampsModel", "echo", "[I", true)
  | 8 => ("SongLampsModel", "gas", "I", false)
  | 9 => ("SongLampsModel", "sights", "I", false)
  | 10 => ("SongLampsModel", "sight", "[I", true)
  | 11 => ("SongLampsModel", "signs", "I", false)
  | 12 => ("SongLampsModel", "pad", "[I", true)
  | 13 => ("SongLampsModel", "darkAt", "I", false)
  | 14 => ("SongLampsModel", "darkWho", "I", false)
  | 15 => ("SongLampsModel", "bright", "[I", true)
  | 16 => ("SongLampsModel", "reason", "I", false)
  | 17 => ("SongLampsModel", "acts", "I", false)
  | 18 => ("SongLampsModel", "far", "[I", true)
  | 19 => ("SongLampsModel", "comes", "[Z", true)
  | 20 => ("SongLampsModel", "apart", "[I", true)
  | 21 => ("SongLampsModel", "counts", "[I", true)
  | 22 => ("SongLampsModel", "image", "[I", true)
  | _ => ("SongLampsModel", "isKept", "[Z", true)
def tyX2 : Nat → FieldType := fun k => match k with
  | 0 => .array .int
  | 1 => .array .int
  | 2 => .int
  | 3 => .array .int
  | 4 => .array .int
  | 5 => .array .int
  | 6 => .array .int
  | 7 => .array .int
  | 8 => .int
  | 9 => .int
  | 10 => .array .int
  | 11 => .int
  | 12 => .array .int
  | 13 => .int
  | 14 => .int
  | 15 => .array .int
  | 16 => .int
  | 17 => .int
  | 18 => .array .int
  | 19 => .array .boolean
  | 20 => .array .int
  | 21 => .array .int
  | 22 => .array .int
  | _ => .array .boolean
abbrev wsX20 : List Cond := u_ws RX2 TX2 24
set_option maxRecDepth 100000 in
theorem nmX2 : ∀ a, a < 24 → ∀ b, b < 24 → a ≠ b → (TX2 a).2.1 ≠ (TX2 b).2.1 := by decide +kernel
set_option maxRecDepth 100000 in
theorem tyX2_ok : ∀ k, k < 24 → parseFieldDescriptor (TX2 k).2.2.1 = some (tyX2 k) := by decide +kernel
abbrev cX2_init : ByteArray := prog_4_method_1_code
def yX2_init : MethodName := ⟨RX2, "<init>", "()V"⟩
def dkwX2_init_7 : List UInt8 := [180, 0, 28, 27, 27, 79, 132, 1, 1, 167, 255, 240, 177]
abbrev dktX2_init_7 : List UInt8 := dkwX2_init_7 ++ []
def dkwX2_init_6 : List UInt8 := [42, 180, 0, 7, 27, 16, 250, 79, 132, 1, 1, 167, 255, 239, 3, 60, 27, 16, 10, 162, 0, 16, 42]
abbrev dktX2_init_6 : List UInt8 := dkwX2_init_6 ++ dktX2_init_7
def dkwX2_init_5 : List UInt8 := [42, 17, 0, 220, 188, 10, 181, 0, 53, 42, 5, 188, 4, 181, 0, 56, 3, 60, 27, 16, 8, 162, 0, 17]
abbrev dktX2_init_5 : List UInt8 := dkwX2_init_5 ++ dktX2_init_6
def dkwX2_init_4 : List UInt8 := [17, 39, 16, 188, 4, 181, 0, 43, 42, 16, 100, 188, 10, 181, 0, 47, 42, 16, 25, 188, 10, 181, 0, 50]
abbrev dktX2_init_4 : List UInt8 := dkwX2_init_4 ++ dktX2_init_5
def dkwX2_init_3 : List UInt8 := [188, 10, 181, 0, 34, 42, 16, 10, 188, 10, 181, 0, 37, 42, 16, 10, 188, 10, 181, 0, 40, 42]
abbrev dktX2_init_3 : List UInt8 := dkwX2_init_3 ++ dktX2_init_4
def dkwX2_init_2 : List UInt8 := [188, 10, 181, 0, 25, 42, 16, 10, 188, 10, 181, 0, 28, 42, 16, 16, 188, 10, 181, 0, 31, 42, 16, 60]
abbrev dktX2_init_2 : List UInt8 := dkwX2_init_2 ++ dktX2_init_3
def dkwX2_init_1 : List UInt8 := [188, 10, 181, 0, 16, 42, 16, 8, 188, 10, 181, 0, 19, 42, 16, 8, 188, 10, 181, 0, 22, 42, 16, 10]
abbrev dktX2_init_1 : List UInt8 := dkwX2_init_1 ++ dktX2_init_2
def dkwX2_init_0 : List UInt8 := [42, 183, 0, 1, 42, 16, 36, 188, 10, 181, 0, 7, 42, 16, 36, 188, 10, 181, 0, 13, 42, 16, 8]
abbrev dktX2_init_0 : List UInt8 := dkwX2_init_0 ++ dktX2_init_1
theorem dksX2_init_0 : cX2_init.data.toList.drop 0 = dktX2_init_0 := by decide +kernel
theorem dksX2_init_1 : cX2_init.data.toList.drop 23 = dktX2_init_1 := dk_seg dksX2_init_0 23 rfl rfl
theorem dksX2_init_2 : cX2_init.data.toList.drop 47 = dktX2_init_2 := dk_seg dksX2_init_1 24 rfl rfl
theorem dksX2_init_3 : cX2_init.data.toList.drop 71 = dktX2_init_3 := dk_seg dksX2_init_2 24 rfl rfl
theorem dksX2_init_4 : cX2_init.data.toList.drop 93 = dktX2_init_4 := dk_seg dksX2_init_3 22 rfl rfl
theorem dksX2_init_5 : cX2_init.data.toList.drop 117 = dktX2_init_5 := dk_seg dksX2_init_4 24 rfl rfl
theorem dksX2_init_6 : cX2_init.data.toList.drop 141 = dktX2_init_6 := dk_seg dksX2_init_5 24 rfl rfl
theorem dksX2_init_7 : cX2_init.data.toList.drop 164 = dktX2_init_7 := dk_seg dksX2_init_6 23 rfl rfl
theorem dX2_init_0 : decode cX2_init 0 = .ok (.aload_n 0, 1) := dk_42 (dk_at dksX2_init_0 0 rfl rfl)
theorem dX2_init_1 : decode cX2_init 1 = .ok (.invokespecial 1, 3) := dk_183 0 1 (dk_at dksX2_init_0 1 rfl rfl)
theorem dX2_init_4 : decode cX2_init 4 = .ok (.aload_n 0, 1) := dk_42 (dk_at dksX2_init_0 4 rfl rfl)
theorem dX2_init_5 : decode cX2_init 5 = .ok (.bipush 36, 2) := dk_16 36 (dk_at dksX2_init_0 5 rfl rfl)
theorem dX2_init_7 : decode cX2_init 7 = .ok (.newarray .int, 2) := dk_188_10 (dk_at dksX2_init_0 7 rfl rfl)
theorem dX2_init_9 : decode cX2_init 9 = .ok (.putfield 7, 3) := dk_181 0 7 (dk_at dksX2_init_0 9 rfl rfl)
theorem dX2_init_12 : decode cX2_init 12 = .ok (.aload_n 0, 1) := dk_42 (dk_at dksX2_init_0 12 rfl rfl)
theorem dX2_init_13 : decode cX2_init 13 = .ok (.bipush 36, 2) := dk_16 36 (dk_at dksX2_init_0 13 rfl rfl)
theorem dX2_init_15 : decode cX2_init 15 = .ok (.newarray .int, 2) := dk_188_10 (dk_at dksX2_init_0 15 rfl rfl)
theorem dX2_init_17 : decode cX2_init 17 = .ok (.putfield 13, 3) := dk_181 0 13 (dk_at dksX2_init_0 17 rfl rfl)
theorem dX2_init_20 : decode cX2_init 20 = .ok (.aload_n 0, 1) := dk_42 (dk_at dksX2_init_0 20 rfl rfl)
theorem dX2_init_21 : decode cX2_init 21 = .ok (.bipush 8, 2) := dk_16 8 (dk_at dksX2_init_0 21 rfl rfl)
theorem dX2_init_23 : decode cX2_init 23 = .ok (.newarray .int, 2) := dk_188_10 (dk_at dksX2_init_1 0 rfl rfl)
theorem dX2_init_25 : decode cX2_init 25 = .ok (.putfield 16, 3) := dk_181 0 16 (dk_at dksX2_init_1 2 rfl rfl)
theorem dX2_init_28 : decode cX2_init 28 = .ok (.aload_n 0, 1) := dk_42 (dk_at dksX2_init_1 5 rfl rfl)
theorem dX2_init_29 : decode cX2_init 29 = .ok (.bipush 8, 2) := dk_16 8 (dk_at dksX2_init_1 6 rfl rfl)
theorem dX2_init_31 : decode cX2_init 31 = .ok (.newarray .int, 2) := dk_188_10 (dk_at dksX2_init_1 8 rfl rfl)
theorem dX2_init_33 : decode cX2_init 33 = .ok (.putfield 19, 3) := dk_181 0 19 (dk_at dksX2_init_1 10 rfl rfl)
theorem dX2_init_36 : decode cX2_init 36 = .ok (.aload_n 0, 1) := dk_42 (dk_at dksX2_init_1 13 rfl rfl)
theorem dX2_init_37 : decode cX2_init 37 = .ok (.bipush 8, 2) := dk_16 8 (dk_at dksX2_init_1 14 rfl rfl)
theorem dX2_init_39 : decode cX2_init 39 = .ok (.newarray .int, 2) := dk_188_10 (dk_at dksX2_init_1 16 rfl rfl)
theorem dX2_init_41 : decode cX2_init 41 = .ok (.putfield 22, 3) := dk_181 0 22 (dk_at dksX2_init_1 18 rfl rfl)
theorem dX2_init_44 : decode cX2_init 44 = .ok (.aload_n 0, 1) := dk_42 (dk_at dksX2_init_1 21 rfl rfl)
theorem dX2_init_45 : decode cX2_init 45 = .ok (.bipush 10, 2) := dk_16 10 (dk_at dksX2_init_1 22 rfl rfl)
theorem dX2_init_47 : decode cX2_init 47 = .ok (.newarray .int, 2) := dk_188_10 (dk_at dksX2_init_2 0 rfl rfl)
theorem dX2_init_49 : decode cX2_init 49 = .ok (.putfield 25, 3) := dk_181 0 25 (dk_at dksX2_init_2 2 rfl rfl)
theorem dX2_init_52 : decode cX2_init 52 = .ok (.aload_n 0, 1) := dk_42 (dk_at dksX2_init_2 5 rfl rfl)
theorem dX2_init_53 : decode cX2_init 53 = .ok (.bipush 10, 2) := dk_16 10 (dk_at dksX2_init_2 6 rfl rfl)
theorem dX2_init_55 : decode cX2_init 55 = .ok (.newarray .int, 2) := dk_188_10 (dk_at dksX2_init_2 8 rfl rfl)
theorem dX2_init_57 : decode cX2_init 57 = .ok (.putfield 28, 3) := dk_181 0 28 (dk_at dksX2_init_2 10 rfl rfl)
theorem dX2_init_60 : decode cX2_init 60 = .ok (.aload_n 0, 1) := dk_42 (dk_at dksX2_init_2 13 rfl rfl)
theorem dX2_init_61 : decode cX2_init 61 = .ok (.bipush 16, 2) := dk_16 16 (dk_at dksX2_init_2 14 rfl rfl)
theorem dX2_init_63 : decode cX2_init 63 = .ok (.newarray .int, 2) := dk_188_10 (dk_at dksX2_init_2 16 rfl rfl)
theorem dX2_init_65 : decode cX2_init 65 = .ok (.putfield 31, 3) := dk_181 0 31 (dk_at dksX2_init_2 18 rfl rfl)
theorem dX2_init_68 : decode cX2_init 68 = .ok (.aload_n 0, 1) := dk_42 (dk_at dksX2_init_2 21 rfl rfl)
theorem dX2_init_69 : decode cX2_init 69 = .ok (.bipush 60, 2) := dk_16 60 (dk_at dksX2_init_2 22 rfl rfl)
theorem dX2_init_71 : decode cX2_init 71 = .ok (.newarray .int, 2) := dk_188_10 (dk_at dksX2_init_3 0 rfl rfl)
theorem dX2_init_73 : decode cX2_init 73 = .ok (.putfield 34, 3) := dk_181 0 34 (dk_at dksX2_init_3 2 rfl rfl)
theorem dX2_init_76 : decode cX2_init 76 = .ok (.aload_n 0, 1) := dk_42 (dk_at dksX2_init_3 5 rfl rfl)
theorem dX2_init_77 : decode cX2_init 77 = .ok (.bipush 10, 2) := dk_16 10 (dk_at dksX2_init_3 6 rfl rfl)
theorem dX2_init_79 : decode cX2_init 79 = .ok (.newarray .int, 2) := dk_188_10 (dk_at dksX2_init_3 8 rfl rfl)
theorem dX2_init_81 : decode cX2_init 81 = .ok (.putfield 37, 3) := dk_181 0 37 (dk_at dksX2_init_3 10 rfl rfl)
theorem dX2_init_84 : decode cX2_init 84 = .ok (.aload_n 0, 1) := dk_42 (dk_at dksX2_init_3 13 rfl rfl)
theorem dX2_init_85 : decode cX2_init 85 = .ok (.bipush 10, 2) := dk_16 10 (dk_at dksX2_init_3 14 rfl rfl)
theorem dX2_init_87 : decode cX2_init 87 = .ok (.newarray .int, 2) := dk_188_10 (dk_at dksX2_init_3 16 rfl rfl)
theorem dX2_init_89 : decode cX2_init 89 = .ok (.putfield 40, 3) := dk_181 0 40 (dk_at dksX2_init_3 18 rfl rfl)
theorem dX2_init_92 : decode cX2_init 92 = .ok (.aload_n 0, 1) := dk_42 (dk_at dksX2_init_3 21 rfl rfl)
theorem dX2_init_93 : decode cX2_init 93 = .ok (.sipush 10000, 3) := dk_17 39 16 (dk_at dksX2_init_4 0 rfl rfl)
theorem dX2_init_96 : decode cX2_init 96 = .ok (.newarray .boolean, 2) := dk_188_4 (dk_at dksX2_init_4 3 rfl rfl)
theorem dX2_init_98 : decode cX2_init 98 = .ok (.putfield 43, 3) := dk_181 0 43 (dk_at dksX2_init_4 5 rfl rfl)
theorem dX2_init_101 : decode cX2_init 101 = .ok (.aload_n 0, 1) := dk_42 (dk_at dksX2_init_4 8 rfl rfl)
theorem dX2_init_102 : decode cX2_init 102 = .ok (.bipush 100, 2) := dk_16 100 (dk_at dksX2_init_4 9 rfl rfl)
theorem dX2_init_104 : decode cX2_init 104 = .ok (.newarray .int, 2) := dk_188_10 (dk_at dksX2_init_4 11 rfl rfl)
theorem dX2_init_106 : decode cX2_init 106 = .ok (.putfield 47, 3) := dk_181 0 47 (dk_at dksX2_init_4 13 rfl rfl)
theorem dX2_init_109 : decode cX2_init 109 = .ok (.aload_n 0, 1) := dk_42 (dk_at dksX2_init_4 16 rfl rfl)
theorem dX2_init_110 : decode cX2_init 110 = .ok (.bipush 25, 2) := dk_16 25 (dk_at dksX2_init_4 17 rfl rfl)
theorem dX2_init_112 : decode cX2_init 112 = .ok (.newarray .int, 2) := dk_188_10 (dk_at dksX2_init_4 19 rfl rfl)
theorem dX2_init_114 : decode cX2_init 114 = .ok (.putfield 50, 3) := dk_181 0 50 (dk_at dksX2_init_4 21 rfl rfl)
theorem dX2_init_117 : decode cX2_init 117 = .ok (.aload_n 0, 1) := dk_42 (dk_at dksX2_init_5 0 rfl rfl)
theorem dX2_init_118 : decode cX2_init 118 = .ok (.sipush 220, 3) := dk_17 0 220 (dk_at dksX2_init_5 1 rfl rfl)
theorem dX2_init_121 : decode cX2_init 121 = .ok (.newarray .int, 2) := dk_188_10 (dk_at dksX2_init_5 4 rfl rfl)
theorem dX2_init_123 : decode cX2_init 123 = .ok (.putfield 53, 3) := dk_181 0 53 (dk_at dksX2_init_5 6 rfl rfl)
theorem dX2_init_126 : decode cX2_init 126 = .ok (.aload_n 0, 1) := dk_42 (dk_at dksX2_init_5 9 rfl rfl)
theorem dX2_init_127 : decode cX2_init 127 = .ok (.iconst 2, 1) := dk_5 (dk_at dksX2_init_5 10 rfl rfl)
theorem dX2_init_128 : decode cX2_init 128 = .ok (.newarray .boolean, 2) := dk_188_4 (dk_at dksX2_init_5 11 rfl rfl)
theorem dX2_init_130 : decode cX2_init 130 = .ok (.putfield 56, 3) := dk_181 0 56 (dk_at dksX2_init_5 13 rfl rfl)
theorem dX2_init_133 : decode cX2_init 133 = .ok (.iconst 0, 1) := dk_3 (dk_at dksX2_init_5 16 rfl rfl)
theorem dX2_init_134 : decode cX2_init 134 = .ok (.istore_n 1, 1) := dk_60 (dk_at dksX2_init_5 17 rfl rfl)
theorem dX2_init_135 : decode cX2_init 135 = .ok (.iload_n 1, 1) := dk_27 (dk_at dksX2_init_5 18 rfl rfl)
theorem dX2_init_136 : decode cX2_init 136 = .ok (.bipush 8, 2) := dk_16 8 (dk_at dksX2_init_5 19 rfl rfl)
theorem dX2_init_138 : decode cX2_init 138 = .ok (.if_icmp .ge 17, 3) := dk_162 0 17 (dk_at dksX2_init_5 21 rfl rfl)
theorem dX2_init_141 : decode cX2_init 141 = .ok (.aload_n 0, 1) := dk_42 (dk_at dksX2_init_6 0 rfl rfl)
theorem dX2_init_142 : decode cX2_init 142 = .ok (.getfield 7, 3) := dk_180 0 7 (dk_at dksX2_init_6 1 rfl rfl)
theorem dX2_init_145 : decode cX2_init 145 = .ok (.iload_n 1, 1) := dk_27 (dk_at dksX2_init_6 4 rfl rfl)
theorem dX2_init_146 : decode cX2_init 146 = .ok (.bipush (-6), 2) := dk_16 250 (dk_at dksX2_init_6 5 rfl rfl)
theorem dX2_init_148 : decode cX2_init 148 = .ok (.iastore, 1) := dk_79 (dk_at dksX2_init_6 7 rfl rfl)
theorem dX2_init_149 : decode cX2_init 149 = .ok (.iinc 1 1, 3) := dk_132 1 1 (dk_at dksX2_init_6 8 rfl rfl)
theorem dX2_init_152 : decode cX2_init 152 = .ok (.goto (-17), 3) := dk_167 255 239 (dk_at dksX2_init_6 11 rfl rfl)
theorem dX2_init_155 : decode cX2_init 155 = .ok (.iconst 0, 1) := dk_3 (dk_at dksX2_init_6 14 rfl rfl)
theorem dX2_init_156 : decode cX2_init 156 = .ok (.istore_n 1, 1) := dk_60 (dk_at dksX2_init_6 15 rfl rfl)
theorem dX2_init_157 : decode cX2_init 157 = .ok (.iload_n 1, 1) := dk_27 (dk_at dksX2_init_6 16 rfl rfl)
theorem dX2_init_158 : decode cX2_init 158 = .ok (.bipush 10, 2) := dk_16 10 (dk_at dksX2_init_6 17 rfl rfl)
theorem dX2_init_160 : decode cX2_init 160 = .ok (.if_icmp .ge 16, 3) := dk_162 0 16 (dk_at dksX2_init_6 19 rfl rfl)
theorem dX2_init_163 : decode cX2_init 163 = .ok (.aload_n 0, 1) := dk_42 (dk_at dksX2_init_6 22 rfl rfl)
theorem dX2_init_164 : decode cX2_init 164 = .ok (.getfield 28, 3) := dk_180 0 28 (dk_at dksX2_init_7 0 rfl rfl)
theorem dX2_init_167 : decode cX2_init 167 = .ok (.iload_n 1, 1) := dk_27 (dk_at dksX2_init_7 3 rfl rfl)
theorem dX2_init_168 : decode cX2_init 168 = .ok (.iload_n 1, 1) := dk_27 (dk_at dksX2_init_7 4 rfl rfl)
theorem dX2_init_169 : decode cX2_init 169 = .ok (.iastore, 1) := dk_79 (dk_at dksX2_init_7 5 rfl rfl)
theorem dX2_init_170 : decode cX2_init 170 = .ok (.iinc 1 1, 3) := dk_132 1 1 (dk_at dksX2_init_7 6 rfl rfl)
theorem dX2_init_173 : decode cX2_init 173 = .ok (.goto (-16), 3) := dk_167 255 240 (dk_at dksX2_init_7 9 rfl rfl)
theorem dX2_init_176 : decode cX2_init 176 = .ok (.return_, 1) := dk_177 (dk_at dksX2_init_7 12 rfl rfl)
abbrev cX2_passage : ByteArray := prog_4_method_7_code
def yX2_passage : MethodName := ⟨RX2, "passage", "(IIZ)I"⟩
def dkwX2_passage_5 : List UInt8 := [132, 5, 1, 167, 255, 231, 21, 4, 5, 108, 172]
abbrev dktX2_passage_5 : List UInt8 := dkwX2_passage_5 ++ []
def dkwX2_passage_4 : List UInt8 := [54, 5, 21, 5, 16, 10, 162, 0, 24, 21, 4, 42, 180, 0, 25, 21, 5, 46, 184, 0, 75, 96, 54, 4]
abbrev dktX2_passage_4 : List UInt8 := dkwX2_passage_4 ++ dktX2_passage_5
def dkwX2_passage_3 : List UInt8 := [180, 0, 25, 28, 92, 46, 29, 153, 0, 9, 4, 27, 120, 167, 0, 4, 3, 128, 79, 3, 54, 4, 3]
abbrev dktX2_passage_3 : List UInt8 := dkwX2_passage_3 ++ dktX2_passage_4
def dkwX2_passage_2 : List UInt8 := [130, 126, 79, 42, 180, 0, 25, 27, 92, 46, 29, 153, 0, 9, 4, 28, 120, 167, 0, 4, 3, 128, 79, 42]
abbrev dktX2_passage_2 : List UInt8 := dkwX2_passage_2 ++ dktX2_passage_3
def dkwX2_passage_1 : List UInt8 := [180, 0, 25, 27, 92, 46, 4, 28, 120, 2, 130, 126, 79, 42, 180, 0, 25, 28, 92, 46, 4, 27, 120, 2]
abbrev dktX2_passage_1 : List UInt8 := dkwX2_passage_1 ++ dktX2_passage_2
def dkwX2_passage_0 : List UInt8 := [27, 184, 0, 71, 153, 0, 15, 28, 184, 0, 71, 153, 0, 8, 27, 28, 160, 0, 5, 2, 172, 42]
abbrev dktX2_passage_0 : List UInt8 := dkwX2_passage_0 ++ dktX2_passage_1
theorem dksX2_passage_0 : cX2_passage.data.toList.drop 0 = dktX2_passage_0 := by decide +kernel
theorem dksX2_passage_1 : cX2_passage.data.toList.drop 22 = dktX2_passage_1 := dk_seg dksX2_passage_0 22 rfl rfl
theorem dksX2_passage_2 : cX2_passage.data.toList.drop 46 = dktX2_passage_2 := dk_seg dksX2_passage_1 24 rfl rfl
theorem dksX2_passage_3 : cX2_passage.data.toList.drop 70 = dktX2_passage_3 := dk_seg dksX2_passage_2 24 rfl rfl
theorem dksX2_passage_4 : cX2_passage.data.toList.drop 93 = dktX2_passage_4 := dk_seg dksX2_passage_3 23 rfl rfl
theorem dksX2_passage_5 : cX2_passage.data.toList.drop 117 = dktX2_passage_5 := dk_seg dksX2_passage_4 24 rfl rfl
theorem dX2_passage_0 : decode cX2_passage 0 = .ok (.iload_n 1, 1) := dk_27 (dk_at dksX2_passage_0 0 rfl rfl)
theorem dX2_passage_1 : decode cX2_passage 1 = .ok (.invokestatic 71, 3) := dk_184 0 71 (dk_at dksX2_passage_0 1 rfl rfl)
theorem dX2_passage_4 : decode cX2_passage 4 = .ok (.ifCond .eq 15, 3) := dk_153 0 15 (dk_at dksX2_passage_0 4 rfl rfl)
theorem dX2_passage_7 : decode cX2_passage 7 = .ok (.iload_n 2, 1) := dk_28 (dk_at dksX2_passage_0 7 rfl rfl)
theorem dX2_passage_8 : decode cX2_passage 8 = .ok (.invokestatic 71, 3) := dk_184 0 71 (dk_at dksX2_passage_0 8 rfl rfl)
theorem dX2_passage_11 : decode cX2_passage 11 = .ok (.ifCond .eq 8, 3) := dk_153 0 8 (dk_at dksX2_passage_0 11 rfl rfl)
theorem dX2_passage_14 : decode cX2_passage 14 = .ok (.iload_n 1, 1) := dk_27 (dk_at dksX2_passage_0 14 rfl rfl)
theorem dX2_passage_15 : decode cX2_passage 15 = .ok (.iload_n 2, 1) := dk_28 (dk_at dksX2_passage_0 15 rfl rfl)
theorem dX2_passage_16 : decode cX2_passage 16 = .ok (.if_icmp .ne 5, 3) := dk_160 0 5 (dk_at dksX2_passage_0 16 rfl rfl)
theorem dX2_passage_19 : decode cX2_passage 19 = .ok (.iconst (-1), 1) := dk_2 (dk_at dksX2_passage_0 19 rfl rfl)
theorem dX2_passage_20 : decode cX2_passage 20 = .ok (.ireturn, 1) := dk_172 (dk_at dksX2_passage_0 20 rfl rfl)
theorem dX2_passage_21 : decode cX2_passage 21 = .ok (.aload_n 0, 1) := dk_42 (dk_at dksX2_passage_0 21 rfl rfl)
theorem dX2_passage_22 : decode cX2_passage 22 = .ok (.getfield 25, 3) := dk_180 0 25 (dk_at dksX2_passage_1 0 rfl rfl)
theorem dX2_passage_25 : decode cX2_passage 25 = .ok (.iload_n 1, 1) := dk_27 (dk_at dksX2_passage_1 3 rfl rfl)
theorem dX2_passage_26 : decode cX2_passage 26 = .ok (.dup2, 1) := dk_92 (dk_at dksX2_passage_1 4 rfl rfl)
theorem dX2_passage_27 : decode cX2_passage 27 = .ok (.iaload, 1) := dk_46 (dk_at dksX2_passage_1 5 rfl rfl)
theorem dX2_passage_28 : decode cX2_passage 28 = .ok (.iconst 1, 1) := dk_4 (dk_at dksX2_passage_1 6 rfl rfl)
theorem dX2_passage_29 : decode cX2_passage 29 = .ok (.iload_n 2, 1) := dk_28 (dk_at dksX2_passage_1 7 rfl rfl)
theorem dX2_passage_30 : decode cX2_passage 30 = .ok (.ishl, 1) := dk_120 (dk_at dksX2_passage_1 8 rfl rfl)
theorem dX2_passage_31 : decode cX2_passage 31 = .ok (.iconst (-1), 1) := dk_2 (dk_at dksX2_passage_1 9 rfl rfl)
theorem dX2_passage_32 : decode cX2_passage 32 = .ok (.ixor, 1) := dk_130 (dk_at dksX2_passage_1 10 rfl rfl)
theorem dX2_passage_33 : decode cX2_passage 33 = .ok (.iand, 1) := dk_126 (dk_at dksX2_passage_1 11 rfl rfl)
theorem dX2_passage_34 : decode cX2_passage 34 = .ok (.iastore, 1) := dk_79 (dk_at dksX2_passage_1 12 rfl rfl)
theorem dX2_passage_35 : decode cX2_passage 35 = .ok (.aload_n 0, 1) := dk_42 (dk_at dksX2_passage_1 13 rfl rfl)
theorem dX2_passage_36 : decode cX2_passage 36 = .ok (.getfield 25, 3) := dk_180 0 25 (dk_at dksX2_passage_1 14 rfl rfl)
theorem dX2_passage_39 : decode cX2_passage 39 = .ok (.iload_n 2, 1) := dk_28 (dk_at dksX2_passage_1 17 rfl rfl)
theorem dX2_passage_40 : decode cX2_passage 40 = .ok (.dup2, 1) := dk_92 (dk_at dksX2_passage_1 18 rfl rfl)
theorem dX2_passage_41 : decode cX2_passage 41 = .ok (.iaload, 1) := dk_46 (dk_at dksX2_passage_1 19 rfl rfl)
theorem dX2_passage_42 : decode cX2_passage 42 = .ok (.iconst 1, 1) := dk_4 (dk_at dksX2_passage_1 20 rfl rfl)
theorem dX2_passage_43 : decode cX2_passage 43 = .ok (.iload_n 1, 1) := dk_27 (dk_at dksX2_passage_1 21 rfl rfl)
theorem dX2_passage_44 : decode cX2_passage 44 = .ok (.ishl, 1) := dk_120 (dk_at dksX2_passage_1 22 rfl rfl)
theorem dX2_passage_45 : decode cX2_passage 45 = .ok (.iconst (-1), 1) := dk_2 (dk_at dksX2_passage_1 23 rfl rfl)
theorem dX2_passage_46 : decode cX2_passage 46 = .ok (.ixor, 1) := dk_130 (dk_at dksX2_passage_2 0 rfl rfl)
theorem dX2_passage_47 : decode cX2_passage 47 = .ok (.iand, 1) := dk_126 (dk_at dksX2_passage_2 1 rfl rfl)
theorem dX2_passage_48 : decode cX2_passage 48 = .ok (.iastore, 1) := dk_79 (dk_at dksX2_passage_2 2 rfl rfl)
theorem dX2_passage_49 : decode cX2_passage 49 = .ok (.aload_n 0, 1) := dk_42 (dk_at dksX2_passage_2 3 rfl rfl)
theorem dX2_passage_50 : decode cX2_passage 50 = .ok (.getfield 25, 3) := dk_180 0 25 (dk_at dksX2_passage_2 4 rfl rfl)
theorem dX2_passage_53 : decode cX2_passage 53 = .ok (.iload_n 1, 1) := dk_27 (dk_at dksX2_passage_2 7 rfl rfl)
theorem dX2_passage_54 : decode cX2_passage 54 = .ok (.dup2, 1) := dk_92 (dk_at dksX2_passage_2 8 rfl rfl)
theorem dX2_passage_55 : decode cX2_passage 55 = .ok (.iaload, 1) := dk_46 (dk_at dksX2_passage_2 9 rfl rfl)
theorem dX2_passage_56 : decode cX2_passage 56 = .ok (.iload_n 3, 1) := dk_29 (dk_at dksX2_passage_2 10 rfl rfl)
theorem dX2_passage_57 : decode cX2_passage 57 = .ok (.ifCond .eq 9, 3) := dk_153 0 9 (dk_at dksX2_passage_2 11 rfl rfl)
theorem dX2_passage_60 : decode cX2_passage 60 = .ok (.iconst 1, 1) := dk_4 (dk_at dksX2_passage_2 14 rfl rfl)
theorem dX2_passage_61 : decode cX2_passage 61 = .ok (.iload_n 2, 1) := dk_28 (dk_at dksX2_passage_2 15 rfl rfl)
theorem dX2_passage_62 : decode cX2_passage 62 = .ok (.ishl, 1) := dk_120 (dk_at dksX2_passage_2 16 rfl rfl)
theorem dX2_passage_63 : decode cX2_passage 63 = .ok (.goto 4, 3) := dk_167 0 4 (dk_at dksX2_passage_2 17 rfl rfl)
theorem dX2_passage_66 : decode cX2_passage 66 = .ok (.iconst 0, 1) := dk_3 (dk_at dksX2_passage_2 20 rfl rfl)
theorem dX2_passage_67 : decode cX2_passage 67 = .ok (.ior, 1) := dk_128 (dk_at dksX2_passage_2 21 rfl rfl)
theorem dX2_passage_68 : decode cX2_passage 68 = .ok (.iastore, 1) := dk_79 (dk_at dksX2_passage_2 22 rfl rfl)
theorem dX2_passage_69 : decode cX2_passage 69 = .ok (.aload_n 0, 1) := dk_42 (dk_at dksX2_passage_2 23 rfl rfl)
theorem dX2_passage_70 : decode cX2_passage 70 = .ok (.getfield 25, 3) := dk_180 0 25 (dk_at dksX2_passage_3 0 rfl rfl)
theorem dX2_passage_73 : decode cX2_passage 73 = .ok (.iload_n 2, 1) := dk_28 (dk_at dksX2_passage_3 3 rfl rfl)
theorem dX2_passage_74 : decode cX2_passage 74 = .ok (.dup2, 1) := dk_92 (dk_at dksX2_passage_3 4 rfl rfl)
theorem dX2_passage_75 : decode cX2_passage 75 = .ok (.iaload, 1) := dk_46 (dk_at dksX2_passage_3 5 rfl rfl)
theorem dX2_passage_76 : decode cX2_passage 76 = .ok (.iload_n 3, 1) := dk_29 (dk_at dksX2_passage_3 6 rfl rfl)
theorem dX2_passage_77 : decode cX2_passage 77 = .ok (.ifCond .eq 9, 3) := dk_153 0 9 (dk_at dksX2_passage_3 7 rfl rfl)
theorem dX2_passage_80 : decode cX2_passage 80 = .ok (.iconst 1, 1) := dk_4 (dk_at dksX2_passage_3 10 rfl rfl)
theorem dX2_passage_81 : decode cX2_passage 81 = .ok (.iload_n 1, 1) := dk_27 (dk_at dksX2_passage_3 11 rfl rfl)
theorem dX2_passage_82 : decode cX2_passage 82 = .ok (.ishl, 1) := dk_120 (dk_at dksX2_passage_3 12 rfl rfl)
theorem dX2_passage_83 : decode cX2_passage 83 = .ok (.goto 4, 3) := dk_167 0 4 (dk_at dksX2_passage_3 13 rfl rfl)
theorem dX2_passage_86 : decode cX2_passage 86 = .ok (.iconst 0, 1) := dk_3 (dk_at dksX2_passage_3 16 rfl rfl)
theorem dX2_passage_87 : decode cX2_passage 87 = .ok (.ior, 1) := dk_128 (dk_at dksX2_passage_3 17 rfl rfl)
theorem dX2_passage_88 : decode cX2_passage 88 = .ok (.iastore, 1) := dk_79 (dk_at dksX2_passage_3 18 rfl rfl)
theorem dX2_passage_89 : decode cX2_passage 89 = .ok (.iconst 0, 1) := dk_3 (dk_at dksX2_passage_3 19 rfl rfl)
theorem dX2_passage_90 : decode cX2_passage 90 = .ok (.istore 4, 2) := dk_54 4 (dk_at dksX2_passage_3 20 rfl rfl)
theorem dX2_passage_92 : decode cX2_passage 92 = .ok (.iconst 0, 1) := dk_3 (dk_at dksX2_passage_3 22 rfl rfl)
theorem dX2_passage_93 : decode cX2_passage 93 = .ok (.istore 5, 2) := dk_54 5 (dk_at dksX2_passage_4 0 rfl rfl)
theorem dX2_passage_95 : decode cX2_passage 95 = .ok (.iload 5, 2) := dk_21 5 (dk_at dksX2_passage_4 2 rfl rfl)
theorem dX2_passage_97 : decode cX2_passage 97 = .ok (.bipush 10, 2) := dk_16 10 (dk_at dksX2_passage_4 4 rfl rfl)
theorem dX2_passage_99 : decode cX2_passage 99 = .ok (.if_icmp .ge 24, 3) := dk_162 0 24 (dk_at dksX2_passage_4 6 rfl rfl)
theorem dX2_passage_102 : decode cX2_passage 102 = .ok (.iload 4, 2) := dk_21 4 (dk_at dksX2_passage_4 9 rfl rfl)
theorem dX2_passage_104 : decode cX2_passage 104 = .ok (.aload_n 0, 1) := dk_42 (dk_at dksX2_passage_4 11 rfl rfl)
theorem dX2_passage_105 : decode cX2_passage 105 = .ok (.getfield 25, 3) := dk_180 0 25 (dk_at dksX2_passage_4 12 rfl rfl)
theorem dX2_passage_108 : decode cX2_passage 108 = .ok (.iload 5, 2) := dk_21 5 (dk_at dksX2_passage_4 15 rfl rfl)
theorem dX2_passage_110 : decode cX2_passage 110 = .ok (.iaload, 1) := dk_46 (dk_at dksX2_passage_4 17 rfl rfl)
theorem dX2_passage_111 : decode cX2_passage 111 = .ok (.invokestatic 75, 3) := dk_184 0 75 (dk_at dksX2_passage_4 18 rfl rfl)
theorem dX2_passage_114 : decode cX2_passage 114 = .ok (.iadd, 1) := dk_96 (dk_at dksX2_passage_4 21 rfl rfl)
theorem dX2_passage_115 : decode cX2_passage 115 = .ok (.istore 4, 2) := dk_54 4 (dk_at dksX2_passage_4 22 rfl rfl)
theorem dX2_passage_117 : decode cX2_passage 117 = .ok (.iinc 5 1, 3) := dk_132 5 1 (dk_at dksX2_passage_5 0 rfl rfl)
theorem dX2_passage_120 : decode cX2_passage 120 = .ok (.goto (-25), 3) := dk_167 255 231 (dk_at dksX2_passage_5 3 rfl rfl)
theorem dX2_passage_123 : decode cX2_passage 123 = .ok (.iload 4, 2) := dk_21 4 (dk_at dksX2_passage_5 6 rfl rfl)
theorem dX2_passage_125 : decode cX2_passage 125 = .ok (.iconst 2, 1) := dk_5 (dk_at dksX2_passage_5 8 rfl rfl)
theorem dX2_passage_126 : decode cX2_passage 126 = .ok (.idiv, 1) := dk_108 (dk_at dksX2_passage_5 9 rfl rfl)
theorem dX2_passage_127 : decode cX2_passage 127 = .ok (.ireturn, 1) := dk_172 (dk_at dksX2_passage_5 10 rfl rfl)
abbrev cX2_isGallery : ByteArray := prog_4_method_5_code
def yX2_isGallery : MethodName := ⟨RX2, "isGallery", "(I)Z"⟩
def dkwX2_isGallery_0 : List UInt8 := [26, 3, 16, 9, 184, 0, 59, 172]
abbrev dktX2_isGallery_0 : List UInt8 := dkwX2_isGallery_0 ++ []
theorem dksX2_isGallery_0 : cX2_isGallery.data.toList.drop 0 = dktX2_isGallery_0 := by decide +kernel
theorem dX2_isGallery_0 : decode cX2_isGallery 0 = .ok (.iload_n 0, 1) := dk_26 (dk_at dksX2_isGallery_0 0 rfl rfl)
theorem dX2_isGallery_1 : decode cX2_isGallery 1 = .ok (.iconst 0, 1) := dk_3 (dk_at dksX2_isGallery_0 1 rfl rfl)
theorem dX2_isGallery_2 : decode cX2_isGallery 2 = .ok (.bipush 9, 2) := dk_16 9 (dk_at dksX2_isGallery_0 2 rfl rfl)
theorem dX2_isGallery_4 : decode cX2_isGallery 4 = .ok (.invokestatic 59, 3) := dk_184 0 59 (dk_at dksX2_isGallery_0 4 rfl rfl)
theorem dX2_isGallery_7 : decode cX2_isGallery 7 = .ok (.ireturn, 1) := dk_172 (dk_at dksX2_isGallery_0 7 rfl rfl)
abbrev cX2_in : ByteArray := prog_4_method_2_code
def yX2_in : MethodName := ⟨RX2, "in", "(III)Z"⟩
def dkwX2_in_0 : List UInt8 := [26, 27, 161, 0, 12, 26, 28, 163, 0, 7, 4, 167, 0, 4, 3, 172]
abbrev dktX2_in_0 : List UInt8 := dkwX2_in_0 ++ []
theorem dksX2_in_0 : cX2_in.data.toList.drop 0 = dktX2_in_0 := by decide +kernel
theorem dX2_in_0 : decode cX2_in 0 = .ok (.iload_n 0, 1) := dk_26 (dk_at dksX2_in_0 0 rfl rfl)
theorem dX2_in_1 : decode cX2_in 1 = .ok (.iload_n 1, 1) := dk_27 (dk_at dksX2_in_0 1 rfl rfl)
theorem dX2_in_2 : decode cX2_in 2 = .ok (.if_icmp .lt 12, 3) := dk_161 0 12 (dk_at dksX2_in_0 2 rfl rfl)
theorem dX2_in_5 : decode cX2_in 5 = .ok (.iload_n 0, 1) := dk_26 (dk_at dksX2_in_0 5 rfl rfl)
theorem dX2_in_6 : decode cX2_in 6 = .ok (.iload_n 2, 1) := dk_28 (dk_at dksX2_in_0 6 rfl rfl)
theorem dX2_in_7 : decode cX2_in 7 = .ok (.if_icmp .gt 7, 3) := dk_163 0 7 (dk_at dksX2_in_0 7 rfl rfl)
theorem dX2_in_10 : decode cX2_in 10 = .ok (.iconst 1, 1) := dk_4 (dk_at dksX2_in_0 10 rfl rfl)
theorem dX2_in_11 : decode cX2_in 11 = .ok (.goto 4, 3) := dk_167 0 4 (dk_at dksX2_in_0 11 rfl rfl)
theorem dX2_in_14 : decode cX2_in 14 = .ok (.iconst 0, 1) := dk_3 (dk_at dksX2_in_0 14 rfl rfl)
theorem dX2_in_15 : decode cX2_in 15 = .ok (.ireturn, 1) := dk_172 (dk_at dksX2_in_0 15 rfl rfl)
abbrev cX2_bits : ByteArray := prog_4_method_4_code
def yX2_bits : MethodName := ⟨RX2, "bits", "(I)I"⟩
def dkwX2_bits_1 : List UInt8 := [27, 172]
abbrev dktX2_bits_1 : List UInt8 := dkwX2_bits_1 ++ []
def dkwX2_bits_0 : List UInt8 := [3, 60, 3, 61, 28, 16, 10, 162, 0, 17, 27, 26, 28, 122, 4, 126, 96, 60, 132, 2, 1, 167, 255, 239]
abbrev dktX2_bits_0 : List UInt8 := dkwX2_bits_0 ++ dktX2_bits_1
theorem dksX2_bits_0 : cX2_bits.data.toList.drop 0 = dktX2_bits_0 := by decide +kernel
theorem dksX2_bits_1 : cX2_bits.data.toList.drop 24 = dktX2_bits_1 := dk_seg dksX2_bits_0 24 rfl rfl
theorem dX2_bits_0 : decode cX2_bits 0 = .ok (.iconst 0, 1) := dk_3 (dk_at dksX2_bits_0 0 rfl rfl)
theorem dX2_bits_1 : decode cX2_bits 1 = .ok (.istore_n 1, 1) := dk_60 (dk_at dksX2_bits_0 1 rfl rfl)
theorem dX2_bits_2 : decode cX2_bits 2 = .ok (.iconst 0, 1) := dk_3 (dk_at dksX2_bits_0 2 rfl rfl)
theorem dX2_bits_3 : decode cX2_bits 3 = .ok (.istore_n 2, 1) := dk_61 (dk_at dksX2_bits_0 3 rfl rfl)
theorem dX2_bits_4 : decode cX2_bits 4 = .ok (.iload_n 2, 1) := dk_28 (dk_at dksX2_bits_0 4 rfl rfl)
theorem dX2_bits_5 : decode cX2_bits 5 = .ok (.bipush 10, 2) := dk_16 10 (dk_at dksX2_bits_0 5 rfl rfl)
theorem dX2_bits_7 : decode cX2_bits 7 = .ok (.if_icmp .ge 17, 3) := dk_162 0 17 (dk_at dksX2_bits_0 7 rfl rfl)
theorem dX2_bits_10 : decode cX2_bits 10 = .ok (.iload_n 1, 1) := dk_27 (dk_at dksX2_bits_0 10 rfl rfl)
theorem dX2_bits_11 : decode cX2_bits 11 = .ok (.iload_n 0, 1) := dk_26 (dk_at dksX2_bits_0 11 rfl rfl)
theorem dX2_bits_12 : decode cX2_bits 12 = .ok (.iload_n 2, 1) := dk_28 (dk_at dksX2_bits_0 12 rfl rfl)
theorem dX2_bits_13 : decode cX2_bits 13 = .ok (.ishr, 1) := dk_122 (dk_at dksX2_bits_0 13 rfl rfl)
theorem dX2_bits_14 : decode cX2_bits 14 = .ok (.iconst 1, 1) := dk_4 (dk_at dksX2_bits_0 14 rfl rfl)
theorem dX2_bits_15 : decode cX2_bits 15 = .ok (.iand, 1) := dk_126 (dk_at dksX2_bits_0 15 rfl rfl)
theorem dX2_bits_16 : decode cX2_bits 16 = .ok (.iadd, 1) := dk_96 (dk_at dksX2_bits_0 16 rfl rfl)
theorem dX2_bits_17 : decode cX2_bits 17 = .ok (.istore_n 1, 1) := dk_60 (dk_at dksX2_bits_0 17 rfl rfl)
theorem dX2_bits_18 : decode cX2_bits 18 = .ok (.iinc 2 1, 3) := dk_132 2 1 (dk_at dksX2_bits_0 18 rfl rfl)
theorem dX2_bits_21 : decode cX2_bits 21 = .ok (.goto (-17), 3) := dk_167 255 239 (dk_at dksX2_bits_0 21 rfl rfl)
theorem dX2_bits_24 : decode cX2_bits 24 = .ok (.iload_n 1, 1) := dk_27 (dk_at dksX2_bits_1 0 rfl rfl)
theorem dX2_bits_25 : decode cX2_bits 25 = .ok (.ireturn, 1) := dk_172 (dk_at dksX2_bits_1 1 rfl rfl)
abbrev cX2_gallery : ByteArray := prog_4_method_8_code
def yX2_gallery : MethodName := ⟨RX2, "gallery", "(IIZ)I"⟩
def dkwX2_gallery_2 : List UInt8 := [180, 0, 79, 29, 153, 0, 9, 4, 27, 120, 167, 0, 4, 3, 128, 181, 0, 79, 21, 4, 172]
abbrev dktX2_gallery_2 : List UInt8 := dkwX2_gallery_2 ++ []
def dkwX2_gallery_1 : List UInt8 := [42, 180, 0, 28, 27, 28, 79, 42, 89, 180, 0, 79, 4, 27, 120, 2, 130, 126, 181, 0, 79, 42, 89]
abbrev dktX2_gallery_1 : List UInt8 := dkwX2_gallery_1 ++ dktX2_gallery_2
def dkwX2_gallery_0 : List UInt8 := [27, 184, 0, 71, 153, 0, 10, 28, 184, 0, 71, 154, 0, 5, 2, 172, 42, 180, 0, 28, 27, 46, 54, 4]
abbrev dktX2_gallery_0 : List UInt8 := dkwX2_gallery_0 ++ dktX2_gallery_1
theorem dksX2_gallery_0 : cX2_gallery.data.toList.drop 0 = dktX2_gallery_0 := by decide +kernel
theorem dksX2_gallery_1 : cX2_gallery.data.toList.drop 24 = dktX2_gallery_1 := dk_seg dksX2_gallery_0 24 rfl rfl
theorem dksX2_gallery_2 : cX2_gallery.data.toList.drop 47 = dktX2_gallery_2 := dk_seg dksX2_gallery_1 23 rfl rfl
theorem dX2_gallery_0 : decode cX2_gallery 0 = .ok (.iload_n 1, 1) := dk_27 (dk_at dksX2_gallery_0 0 rfl rfl)
theorem dX2_gallery_1 : decode cX2_gallery 1 = .ok (.invokestatic 71, 3) := dk_184 0 71 (dk_at dksX2_gallery_0 1 rfl rfl)
theorem dX2_gallery_4 : decode cX2_gallery 4 = .ok (.ifCond .eq 10, 3) := dk_153 0 10 (dk_at dksX2_gallery_0 4 rfl rfl)
theorem dX2_gallery_7 : decode cX2_gallery 7 = .ok (.iload_n 2, 1) := dk_28 (dk_at dksX2_gallery_0 7 rfl rfl)
theorem dX2_gallery_8 : decode cX2_gallery 8 = .ok (.invokestatic 71, 3) := dk_184 0 71 (dk_at dksX2_gallery_0 8 rfl rfl)
theorem dX2_gallery_11 : decode cX2_gallery 11 = .ok (.ifCond .ne 5, 3) := dk_154 0 5 (dk_at dksX2_gallery_0 11 rfl rfl)
theorem dX2_gallery_14 : decode cX2_gallery 14 = .ok (.iconst (-1), 1) := dk_2 (dk_at dksX2_gallery_0 14 rfl rfl)
theorem dX2_gallery_15 : decode cX2_gallery 15 = .ok (.ireturn, 1) := dk_172 (dk_at dksX2_gallery_0 15 rfl rfl)
theorem dX2_gallery_16 : decode cX2_gallery 16 = .ok (.aload_n 0, 1) := dk_42 (dk_at dksX2_gallery_0 16 rfl rfl)
theorem dX2_gallery_17 : decode cX2_gallery 17 = .ok (.getfield 28, 3) := dk_180 0 28 (dk_at dksX2_gallery_0 17 rfl rfl)
theorem dX2_gallery_20 : decode cX2_gallery 20 = .ok (.iload_n 1, 1) := dk_27 (dk_at dksX2_gallery_0 20 rfl rfl)
theorem dX2_gallery_21 : decode cX2_gallery 21 = .ok (.iaload, 1) := dk_46 (dk_at dksX2_gallery_0 21 rfl rfl)
theorem dX2_gallery_22 : decode cX2_gallery 22 = .ok (.istore 4, 2) := dk_54 4 (dk_at dksX2_gallery_0 22 rfl rfl)
theorem dX2_gallery_24 : decode cX2_gallery 24 = .ok (.aload_n 0, 1) := dk_42 (dk_at dksX2_gallery_1 0 rfl rfl)
theorem dX2_gallery_25 : decode cX2_gallery 25 = .ok (.getfield 28, 3) := dk_180 0 28 (dk_at dksX2_gallery_1 1 rfl rfl)
theorem dX2_gallery_28 : decode cX2_gallery 28 = .ok (.iload_n 1, 1) := dk_27 (dk_at dksX2_gallery_1 4 rfl rfl)
theorem dX2_gallery_29 : decode cX2_gallery 29 = .ok (.iload_n 2, 1) := dk_28 (dk_at dksX2_gallery_1 5 rfl rfl)
theorem dX2_gallery_30 : decode cX2_gallery 30 = .ok (.iastore, 1) := dk_79 (dk_at dksX2_gallery_1 6 rfl rfl)
theorem dX2_gallery_31 : decode cX2_gallery 31 = .ok (.aload_n 0, 1) := dk_42 (dk_at dksX2_gallery_1 7 rfl rfl)
theorem dX2_gallery_32 : decode cX2_gallery 32 = .ok (.dup, 1) := dk_89 (dk_at dksX2_gallery_1 8 rfl rfl)
theorem dX2_gallery_33 : decode cX2_gallery 33 = .ok (.getfield 79, 3) := dk_180 0 79 (dk_at dksX2_gallery_1 9 rfl rfl)
theorem dX2_gallery_36 : decode cX2_gallery 36 = .ok (.iconst 1, 1) := dk_4 (dk_at dksX2_gallery_1 12 rfl rfl)
theorem dX2_gallery_37 : decode cX2_gallery 37 = .ok (.iload_n 1, 1) := dk_27 (dk_at dksX2_gallery_1 13 rfl rfl)
theorem dX2_gallery_38 : decode cX2_gallery 38 = .ok (.ishl, 1) := dk_120 (dk_at dksX2_gallery_1 14 rfl rfl)
theorem dX2_gallery_39 : decode cX2_gallery 39 = .ok (.iconst (-1), 1) := dk_2 (dk_at dksX2_gallery_1 15 rfl rfl)
theorem dX2_gallery_40 : decode cX2_gallery 40 = .ok (.ixor, 1) := dk_130 (dk_at dksX2_gallery_1 16 rfl rfl)
theorem dX2_gallery_41 : decode cX2_gallery 41 = .ok (.iand, 1) := dk_126 (dk_at dksX2_gallery_1 17 rfl rfl)
theorem dX2_gallery_42 : decode cX2_gallery 42 = .ok (.putfield 79, 3) := dk_181 0 79 (dk_at dksX2_gallery_1 18 rfl rfl)
theorem dX2_gallery_45 : decode cX2_gallery 45 = .ok (.aload_n 0, 1) := dk_42 (dk_at dksX2_gallery_1 21 rfl rfl)
theorem dX2_gallery_46 : decode cX2_gallery 46 = .ok (.dup, 1) := dk_89 (dk_at dksX2_gallery_1 22 rfl rfl)
theorem dX2_gallery_47 : decode cX2_gallery 47 = .ok (.getfield 79, 3) := dk_180 0 79 (dk_at dksX2_gallery_2 0 rfl rfl)
theorem dX2_gallery_50 : decode cX2_gallery 50 = .ok (.iload_n 3, 1) := dk_29 (dk_at dksX2_gallery_2 3 rfl rfl)
theorem dX2_gallery_51 : decode cX2_gallery 51 = .ok (.ifCond .eq 9, 3) := dk_153 0 9 (dk_at dksX2_gallery_2 4 rfl rfl)
theorem dX2_gallery_54 : decode cX2_gallery 54 = .ok (.iconst 1, 1) := dk_4 (dk_at dksX2_gallery_2 7 rfl rfl)
theorem dX2_gallery_55 : decode cX2_gallery 55 = .ok (.iload_n 1, 1) := dk_27 (dk_at dksX2_gallery_2 8 rfl rfl)
theorem dX2_gallery_56 : decode cX2_gallery 56 = .ok (.ishl, 1) := dk_120 (dk_at dksX2_gallery_2 9 rfl rfl)
theorem dX2_gallery_57 : decode cX2_gallery 57 = .ok (.goto 4, 3) := dk_167 0 4 (dk_at dksX2_gallery_2 10 rfl rfl)
theorem dX2_gallery_60 : decode cX2_gallery 60 = .ok (.iconst 0, 1) := dk_3 (dk_at dksX2_gallery_2 13 rfl rfl)
theorem dX2_gallery_61 : decode cX2_gallery 61 = .ok (.ior, 1) := dk_128 (dk_at dksX2_gallery_2 14 rfl rfl)
theorem dX2_gallery_62 : decode cX2_gallery 62 = .ok (.putfield 79, 3) := dk_181 0 79 (dk_at dksX2_gallery_2 15 rfl rfl)
theorem dX2_gallery_65 : decode cX2_gallery 65 = .ok (.iload 4, 2) := dk_21 4 (dk_at dksX2_gallery_2 18 rfl rfl)
theorem dX2_gallery_67 : decode cX2_gallery 67 = .ok (.ireturn, 1) := dk_172 (dk_at dksX2_gallery_2 20 rfl rfl)
abbrev cX2_voice : ByteArray := prog_4_method_9_code
def yX2_voice : MethodName := ⟨RX2, "voice", "(IIIII)I"⟩
def dkwX2_voice_5 : List UInt8 := [180, 0, 63, 184, 0, 75, 172]
abbrev dktX2_voice_5 : List UInt8 := dkwX2_voice_5 ++ []
def dkwX2_voice_4 : List UInt8 := [42, 180, 0, 7, 16, 8, 27, 96, 21, 4, 79, 42, 180, 0, 7, 16, 16, 27, 96, 21, 5, 79, 42]
abbrev dktX2_voice_4 : List UInt8 := dkwX2_voice_4 ++ dktX2_voice_5
def dkwX2_voice_3 : List UInt8 := [79, 42, 180, 0, 19, 27, 29, 79, 42, 180, 0, 22, 27, 21, 4, 79, 42, 180, 0, 7, 27, 16, 250, 79]
abbrev dktX2_voice_3 : List UInt8 := dkwX2_voice_3 ++ dktX2_voice_4
def dkwX2_voice_2 : List UInt8 := [154, 0, 6, 16, 254, 172, 42, 89, 180, 0, 63, 4, 27, 120, 128, 181, 0, 63, 42, 180, 0, 16, 27, 28]
abbrev dktX2_voice_2 : List UInt8 := dkwX2_voice_2 ++ dktX2_voice_3
def dkwX2_voice_1 : List UInt8 := [184, 0, 59, 153, 0, 24, 29, 28, 16, 23, 184, 0, 59, 153, 0, 14, 21, 4, 3, 16, 99, 184, 0, 59]
abbrev dktX2_voice_1 : List UInt8 := dkwX2_voice_1 ++ dktX2_voice_2
def dkwX2_voice_0 : List UInt8 := [27, 3, 16, 7, 184, 0, 59, 153, 0, 11, 21, 5, 184, 0, 71, 154, 0, 5, 2, 172, 28, 3, 16, 23]
abbrev dktX2_voice_0 : List UInt8 := dkwX2_voice_0 ++ dktX2_voice_1
theorem dksX2_voice_0 : cX2_voice.data.toList.drop 0 = dktX2_voice_0 := by decide +kernel
theorem dksX2_voice_1 : cX2_voice.data.toList.drop 24 = dktX2_voice_1 := dk_seg dksX2_voice_0 24 rfl rfl
theorem dksX2_voice_2 : cX2_voice.data.toList.drop 48 = dktX2_voice_2 := dk_seg dksX2_voice_1 24 rfl rfl
theorem dksX2_voice_3 : cX2_voice.data.toList.drop 72 = dktX2_voice_3 := dk_seg dksX2_voice_2 24 rfl rfl
theorem dksX2_voice_4 : cX2_voice.data.toList.drop 96 = dktX2_voice_4 := dk_seg dksX2_voice_3 24 rfl rfl
theorem dksX2_voice_5 : cX2_voice.data.toList.drop 119 = dktX2_voice_5 := dk_seg dksX2_voice_4 23 rfl rfl
theorem dX2_voice_0 : decode cX2_voice 0 = .ok (.iload_n 1, 1) := dk_27 (dk_at dksX2_voice_0 0 rfl rfl)
theorem dX2_voice_1 : decode cX2_voice 1 = .ok (.iconst 0, 1) := dk_3 (dk_at dksX2_voice_0 1 rfl rfl)
theorem dX2_voice_2 : decode cX2_voice 2 = .ok (.bipush 7, 2) := dk_16 7 (dk_at dksX2_voice_0 2 rfl rfl)
theorem dX2_voice_4 : decode cX2_voice 4 = .ok (.invokestatic 59, 3) := dk_184 0 59 (dk_at dksX2_voice_0 4 rfl rfl)
theorem dX2_voice_7 : decode cX2_voice 7 = .ok (.ifCond .eq 11, 3) := dk_153 0 11 (dk_at dksX2_voice_0 7 rfl rfl)
theorem dX2_voice_10 : decode cX2_voice 10 = .ok (.iload 5, 2) := dk_21 5 (dk_at dksX2_voice_0 10 rfl rfl)
theorem dX2_voice_12 : decode cX2_voice 12 = .ok (.invokestatic 71, 3) := dk_184 0 71 (dk_at dksX2_voice_0 12 rfl rfl)
theorem dX2_voice_15 : decode cX2_voice 15 = .ok (.ifCond .ne 5, 3) := dk_154 0 5 (dk_at dksX2_voice_0 15 rfl rfl)
theorem dX2_voice_18 : decode cX2_voice 18 = .ok (.iconst (-1), 1) := dk_2 (dk_at dksX2_voice_0 18 rfl rfl)
theorem dX2_voice_19 : decode cX2_voice 19 = .ok (.ireturn, 1) := dk_172 (dk_at dksX2_voice_0 19 rfl rfl)
theorem dX2_voice_20 : decode cX2_voice 20 = .ok (.iload_n 2, 1) := dk_28 (dk_at dksX2_voice_0 20 rfl rfl)
theorem dX2_voice_21 : decode cX2_voice 21 = .ok (.iconst 0, 1) := dk_3 (dk_at dksX2_voice_0 21 rfl rfl)
theorem dX2_voice_22 : decode cX2_voice 22 = .ok (.bipush 23, 2) := dk_16 23 (dk_at dksX2_voice_0 22 rfl rfl)
theorem dX2_voice_24 : decode cX2_voice 24 = .ok (.invokestatic 59, 3) := dk_184 0 59 (dk_at dksX2_voice_1 0 rfl rfl)
theorem dX2_voice_27 : decode cX2_voice 27 = .ok (.ifCond .eq 24, 3) := dk_153 0 24 (dk_at dksX2_voice_1 3 rfl rfl)
theorem dX2_voice_30 : decode cX2_voice 30 = .ok (.iload_n 3, 1) := dk_29 (dk_at dksX2_voice_1 6 rfl rfl)
theorem dX2_voice_31 : decode cX2_voice 31 = .ok (.iload_n 2, 1) := dk_28 (dk_at dksX2_voice_1 7 rfl rfl)
theorem dX2_voice_32 : decode cX2_voice 32 = .ok (.bipush 23, 2) := dk_16 23 (dk_at dksX2_voice_1 8 rfl rfl)
theorem dX2_voice_34 : decode cX2_voice 34 = .ok (.invokestatic 59, 3) := dk_184 0 59 (dk_at dksX2_voice_1 10 rfl rfl)
theorem dX2_voice_37 : decode cX2_voice 37 = .ok (.ifCond .eq 14, 3) := dk_153 0 14 (dk_at dksX2_voice_1 13 rfl rfl)
theorem dX2_voice_40 : decode cX2_voice 40 = .ok (.iload 4, 2) := dk_21 4 (dk_at dksX2_voice_1 16 rfl rfl)
theorem dX2_voice_42 : decode cX2_voice 42 = .ok (.iconst 0, 1) := dk_3 (dk_at dksX2_voice_1 18 rfl rfl)
theorem dX2_voice_43 : decode cX2_voice 43 = .ok (.bipush 99, 2) := dk_16 99 (dk_at dksX2_voice_1 19 rfl rfl)
theorem dX2_voice_45 : decode cX2_voice 45 = .ok (.invokestatic 59, 3) := dk_184 0 59 (dk_at dksX2_voice_1 21 rfl rfl)
theorem dX2_voice_48 : decode cX2_voice 48 = .ok (.ifCond .ne 6, 3) := dk_154 0 6 (dk_at dksX2_voice_2 0 rfl rfl)
theorem dX2_voice_51 : decode cX2_voice 51 = .ok (.bipush (-2), 2) := dk_16 254 (dk_at dksX2_voice_2 3 rfl rfl)
theorem dX2_voice_53 : decode cX2_voice 53 = .ok (.ireturn, 1) := dk_172 (dk_at dksX2_voice_2 5 rfl rfl)
theorem dX2_voice_54 : decode cX2_voice 54 = .ok (.aload_n 0, 1) := dk_42 (dk_at dksX2_voice_2 6 rfl rfl)
theorem dX2_voice_55 : decode cX2_voice 55 = .ok (.dup, 1) := dk_89 (dk_at dksX2_voice_2 7 rfl rfl)
theorem dX2_voice_56 : decode cX2_voice 56 = .ok (.getfield 63, 3) := dk_180 0 63 (dk_at dksX2_voice_2 8 rfl rfl)
theorem dX2_voice_59 : decode cX2_voice 59 = .ok (.iconst 1, 1) := dk_4 (dk_at dksX2_voice_2 11 rfl rfl)
theorem dX2_voice_60 : decode cX2_voice 60 = .ok (.iload_n 1, 1) := dk_27 (dk_at dksX2_voice_2 12 rfl rfl)
theorem dX2_voice_61 : decode cX2_voice 61 = .ok (.ishl, 1) := dk_120 (dk_at dksX2_voice_2 13 rfl rfl)
theorem dX2_voice_62 : decode cX2_voice 62 = .ok (.ior, 1) := dk_128 (dk_at dksX2_voice_2 14 rfl rfl)
theorem dX2_voice_63 : decode cX2_voice 63 = .ok (.putfield 63, 3) := dk_181 0 63 (dk_at dksX2_voice_2 15 rfl rfl)
theorem dX2_voice_66 : decode cX2_voice 66 = .ok (.aload_n 0, 1) := dk_42 (dk_at dksX2_voice_2 18 rfl rfl)
theorem dX2_voice_67 : decode cX2_voice 67 = .ok (.getfield 16, 3) := dk_180 0 16 (dk_at dksX2_voice_2 19 rfl rfl)
theorem dX2_voice_70 : decode cX2_voice 70 = .ok (.iload_n 1, 1) := dk_27 (dk_at dksX2_voice_2 22 rfl rfl)
theorem dX2_voice_71 : decode cX2_voice 71 = .ok (.iload_n 2, 1) := dk_28 (dk_at dksX2_voice_2 23 rfl rfl)
theorem dX2_voice_72 : decode cX2_voice 72 = .ok (.iastore, 1) := dk_79 (dk_at dksX2_voice_3 0 rfl rfl)
theorem dX2_voice_73 : decode cX2_voice 73 = .ok (.aload_n 0, 1) := dk_42 (dk_at dksX2_voice_3 1 rfl rfl)
theorem dX2_voice_74 : decode cX2_voice 74 = .ok (.getfield 19, 3) := dk_180 0 19 (dk_at dksX2_voice_3 2 rfl rfl)
theorem dX2_voice_77 : decode cX2_voice 77 = .ok (.iload_n 1, 1) := dk_27 (dk_at dksX2_voice_3 5 rfl rfl)
theorem dX2_voice_78 : decode cX2_voice 78 = .ok (.iload_n 3, 1) := dk_29 (dk_at dksX2_voice_3 6 rfl rfl)
theorem dX2_voice_79 : decode cX2_voice 79 = .ok (.iastore, 1) := dk_79 (dk_at dksX2_voice_3 7 rfl rfl)
theorem dX2_voice_80 : decode cX2_voice 80 = .ok (.aload_n 0, 1) := dk_42 (dk_at dksX2_voice_3 8 rfl rfl)
theorem dX2_voice_81 : decode cX2_voice 81 = .ok (.getfield 22, 3) := dk_180 0 22 (dk_at dksX2_voice_3 9 rfl rfl)
theorem dX2_voice_84 : decode cX2_voice 84 = .ok (.iload_n 1, 1) := dk_27 (dk_at dksX2_voice_3 12 rfl rfl)
theorem dX2_voice_85 : decode cX2_voice 85 = .ok (.iload 4, 2) := dk_21 4 (dk_at dksX2_voice_3 13 rfl rfl)
theorem dX2_voice_87 : decode cX2_voice 87 = .ok (.iastore, 1) := dk_79 (dk_at dksX2_voice_3 15 rfl rfl)
theorem dX2_voice_88 : decode cX2_voice 88 = .ok (.aload_n 0, 1) := dk_42 (dk_at dksX2_voice_3 16 rfl rfl)
theorem dX2_voice_89 : decode cX2_voice 89 = .ok (.getfield 7, 3) := dk_180 0 7 (dk_at dksX2_voice_3 17 rfl rfl)
theorem dX2_voice_92 : decode cX2_voice 92 = .ok (.iload_n 1, 1) := dk_27 (dk_at dksX2_voice_3 20 rfl rfl)
theorem dX2_voice_93 : decode cX2_voice 93 = .ok (.bipush (-6), 2) := dk_16 250 (dk_at dksX2_voice_3 21 rfl rfl)
theorem dX2_voice_95 : decode cX2_voice 95 = .ok (.iastore, 1) := dk_79 (dk_at dksX2_voice_3 23 rfl rfl)
theorem dX2_voice_96 : decode cX2_voice 96 = .ok (.aload_n 0, 1) := dk_42 (dk_at dksX2_voice_4 0 rfl rfl)
theorem dX2_voice_97 : decode cX2_voice 97 = .ok (.getfield 7, 3) := dk_180 0 7 (dk_at dksX2_voice_4 1 rfl rfl)
theorem dX2_voice_100 : decode cX2_voice 100 = .ok (.bipush 8, 2) := dk_16 8 (dk_at dksX2_voice_4 4 rfl rfl)
theorem dX2_voice_102 : decode cX2_voice 102 = .ok (.iload_n 1, 1) := dk_27 (dk_at dksX2_voice_4 6 rfl rfl)
theorem dX2_voice_103 : decode cX2_voice 103 = .ok (.iadd, 1) := dk_96 (dk_at dksX2_voice_4 7 rfl rfl)
theorem dX2_voice_104 : decode cX2_voice 104 = .ok (.iload 4, 2) := dk_21 4 (dk_at dksX2_voice_4 8 rfl rfl)
theorem dX2_voice_106 : decode cX2_voice 106 = .ok (.iastore, 1) := dk_79 (dk_at dksX2_voice_4 10 rfl rfl)
theorem dX2_voice_107 : decode cX2_voice 107 = .ok (.aload_n 0, 1) := dk_42 (dk_at dksX2_voice_4 11 rfl rfl)
theorem dX2_voice_108 : decode cX2_voice 108 = .ok (.getfield 7, 3) := dk_180 0 7 (dk_at dksX2_voice_4 12 rfl rfl)
theorem dX2_voice_111 : decode cX2_voice 111 = .ok (.bipush 16, 2) := dk_16 16 (dk_at dksX2_voice_4 15 rfl rfl)
theorem dX2_voice_113 : decode cX2_voice 113 = .ok (.iload_n 1, 1) := dk_27 (dk_at dksX2_voice_4 17 rfl rfl)
theorem dX2_voice_114 : decode cX2_voice 114 = .ok (.iadd, 1) := dk_96 (dk_at dksX2_voice_4 18 rfl rfl)
theorem dX2_voice_115 : decode cX2_voice 115 = .ok (.iload 5, 2) := dk_21 5 (dk_at dksX2_voice_4 19 rfl rfl)
theorem dX2_voice_117 : decode cX2_voice 117 = .ok (.iastore, 1) := dk_79 (dk_at dksX2_voice_4 21 rfl rfl)
theorem dX2_voice_118 : decode cX2_voice 118 = .ok (.aload_n 0, 1) := dk_42 (dk_at dksX2_voice_4 22 rfl rfl)
theorem dX2_voice_119 : decode cX2_voice 119 = .ok (.getfield 63, 3) := dk_180 0 63 (dk_at dksX2_voice_5 0 rfl rfl)
theorem dX2_voice_122 : decode cX2_voice 122 = .ok (.invokestatic 75, 3) := dk_184 0 75 (dk_at dksX2_voice_5 3 rfl rfl)
theorem dX2_voice_125 : decode cX2_voice 125 = .ok (.ireturn, 1) := dk_172 (dk_at dksX2_voice_5 6 rfl rfl)
abbrev cX2_breath : ByteArray := prog_4_method_10_code
def yX2_breath : MethodName := ⟨RX2, "breath", "(II)I"⟩
def dkwX2_breath_2 : List UInt8 := [180, 0, 7, 27, 28, 154, 0, 8, 16, 250, 167, 0, 9, 42, 180, 0, 7, 27, 46, 79, 29, 172]
abbrev dktX2_breath_2 : List UInt8 := dkwX2_breath_2 ++ []
def dkwX2_breath_1 : List UInt8 := [16, 254, 172, 42, 180, 0, 7, 16, 8, 27, 96, 46, 62, 42, 180, 0, 7, 16, 8, 27, 96, 28, 79, 42]
abbrev dktX2_breath_1 : List UInt8 := dkwX2_breath_1 ++ dktX2_breath_2
def dkwX2_breath_0 : List UInt8 := [42, 27, 182, 0, 82, 154, 0, 5, 2, 172, 28, 3, 42, 180, 0, 22, 27, 46, 184, 0, 59, 154, 0, 6]
abbrev dktX2_breath_0 : List UInt8 := dkwX2_breath_0 ++ dktX2_breath_1
theorem dksX2_breath_0 : cX2_breath.data.toList.drop 0 = dktX2_breath_0 := by decide +kernel
theorem dksX2_breath_1 : cX2_breath.data.toList.drop 24 = dktX2_breath_1 := dk_seg dksX2_breath_0 24 rfl rfl
theorem dksX2_breath_2 : cX2_breath.data.toList.drop 48 = dktX2_breath_2 := dk_seg dksX2_breath_1 24 rfl rfl
theorem dX2_breath_0 : decode cX2_breath 0 = .ok (.aload_n 0, 1) := dk_42 (dk_at dksX2_breath_0 0 rfl rfl)
theorem dX2_breath_1 : decode cX2_breath 1 = .ok (.iload_n 1, 1) := dk_27 (dk_at dksX2_breath_0 1 rfl rfl)
theorem dX2_breath_2 : decode cX2_breath 2 = .ok (.invokevirtual 82, 3) := dk_182 0 82 (dk_at dksX2_breath_0 2 rfl rfl)
theorem dX2_breath_5 : decode cX2_breath 5 = .ok (.ifCond .ne 5, 3) := dk_154 0 5 (dk_at dksX2_breath_0 5 rfl rfl)
theorem dX2_breath_8 : decode cX2_breath 8 = .ok (.iconst (-1), 1) := dk_2 (dk_at dksX2_breath_0 8 rfl rfl)
theorem dX2_breath_9 : decode cX2_breath 9 = .ok (.ireturn, 1) := dk_172 (dk_at dksX2_breath_0 9 rfl rfl)
theorem dX2_breath_10 : decode cX2_breath 10 = .ok (.iload_n 2, 1) := dk_28 (dk_at dksX2_breath_0 10 rfl rfl)
theorem dX2_breath_11 : decode cX2_breath 11 = .ok (.iconst 0, 1) := dk_3 (dk_at dksX2_breath_0 11 rfl rfl)
theorem dX2_breath_12 : decode cX2_breath 12 = .ok (.aload_n 0, 1) := dk_42 (dk_at dksX2_breath_0 12 rfl rfl)
theorem dX2_breath_13 : decode cX2_breath 13 = .ok (.getfield 22, 3) := dk_180 0 22 (dk_at dksX2_breath_0 13 rfl rfl)
theorem dX2_breath_16 : decode cX2_breath 16 = .ok (.iload_n 1, 1) := dk_27 (dk_at dksX2_breath_0 16 rfl rfl)
theorem dX2_breath_17 : decode cX2_breath 17 = .ok (.iaload, 1) := dk_46 (dk_at dksX2_breath_0 17 rfl rfl)
theorem dX2_breath_18 : decode cX2_breath 18 = .ok (.invokestatic 59, 3) := dk_184 0 59 (dk_at dksX2_breath_0 18 rfl rfl)
theorem dX2_breath_21 : decode cX2_breath 21 = .ok (.ifCond .ne 6, 3) := dk_154 0 6 (dk_at dksX2_breath_0 21 rfl rfl)
theorem dX2_breath_24 : decode cX2_breath 24 = .ok (.bipush (-2), 2) := dk_16 254 (dk_at dksX2_breath_1 0 rfl rfl)
theorem dX2_breath_26 : decode cX2_breath 26 = .ok (.ireturn, 1) := dk_172 (dk_at dksX2_breath_1 2 rfl rfl)
theorem dX2_breath_27 : decode cX2_breath 27 = .ok (.aload_n 0, 1) := dk_42 (dk_at dksX2_breath_1 3 rfl rfl)
theorem dX2_breath_28 : decode cX2_breath 28 = .ok (.getfield 7, 3) := dk_180 0 7 (dk_at dksX2_breath_1 4 rfl rfl)
theorem dX2_breath_31 : decode cX2_breath 31 = .ok (.bipush 8, 2) := dk_16 8 (dk_at dksX2_breath_1 7 rfl rfl)
theorem dX2_breath_33 : decode cX2_breath 33 = .ok (.iload_n 1, 1) := dk_27 (dk_at dksX2_breath_1 9 rfl rfl)
theorem dX2_breath_34 : decode cX2_breath 34 = .ok (.iadd, 1) := dk_96 (dk_at dksX2_breath_1 10 rfl rfl)
theorem dX2_breath_35 : decode cX2_breath 35 = .ok (.iaload, 1) := dk_46 (dk_at dksX2_breath_1 11 rfl rfl)
theorem dX2_breath_36 : decode cX2_breath 36 = .ok (.istore_n 3, 1) := dk_62 (dk_at dksX2_breath_1 12 rfl rfl)
theorem dX2_breath_37 : decode cX2_breath 37 = .ok (.aload_n 0, 1) := dk_42 (dk_at dksX2_breath_1 13 rfl rfl)
theorem dX2_breath_38 : decode cX2_breath 38 = .ok (.getfield 7, 3) := dk_180 0 7 (dk_at dksX2_breath_1 14 rfl rfl)
theorem dX2_breath_41 : decode cX2_breath 41 = .ok (.bipush 8, 2) := dk_16 8 (dk_at dksX2_breath_1 17 rfl rfl)
theorem dX2_breath_43 : decode cX2_breath 43 = .ok (.iload_n 1, 1) := dk_27 (dk_at dksX2_breath_1 19 rfl rfl)
theorem dX2_breath_44 : decode cX2_breath 44 = .ok (.iadd, 1) := dk_96 (dk_at dksX2_breath_1 20 rfl rfl)
theorem dX2_breath_45 : decode cX2_breath 45 = .ok (.iload_n 2, 1) := dk_28 (dk_at dksX2_breath_1 21 rfl rfl)
theorem dX2_breath_46 : decode cX2_breath 46 = .ok (.iastore, 1) := dk_79 (dk_at dksX2_breath_1 22 rfl rfl)
theorem dX2_breath_47 : decode cX2_breath 47 = .ok (.aload_n 0, 1) := dk_42 (dk_at dksX2_breath_1 23 rfl rfl)
theorem dX2_breath_48 : decode cX2_breath 48 = .ok (.getfield 7, 3) := dk_180 0 7 (dk_at dksX2_breath_2 0 rfl rfl)
theorem dX2_breath_51 : decode cX2_breath 51 = .ok (.iload_n 1, 1) := dk_27 (dk_at dksX2_breath_2 3 rfl rfl)
theorem dX2_breath_52 : decode cX2_breath 52 = .ok (.iload_n 2, 1) := dk_28 (dk_at dksX2_breath_2 4 rfl rfl)
theorem dX2_breath_53 : decode cX2_breath 53 = .ok (.ifCond .ne 8, 3) := dk_154 0 8 (dk_at dksX2_breath_2 5 rfl rfl)
theorem dX2_breath_56 : decode cX2_breath 56 = .ok (.bipush (-6), 2) := dk_16 250 (dk_at dksX2_breath_2 8 rfl rfl)
theorem dX2_breath_58 : decode cX2_breath 58 = .ok (.goto 9, 3) := dk_167 0 9 (dk_at dksX2_breath_2 10 rfl rfl)
theorem dX2_breath_61 : decode cX2_breath 61 = .ok (.aload_n 0, 1) := dk_42 (dk_at dksX2_breath_2 13 rfl rfl)
theorem dX2_breath_62 : decode cX2_breath 62 = .ok (.getfield 7, 3) := dk_180 0 7 (dk_at dksX2_breath_2 14 rfl rfl)
theorem dX2_breath_65 : decode cX2_breath 65 = .ok (.iload_n 1, 1) := dk_27 (dk_at dksX2_breath_2 17 rfl rfl)
theorem dX2_breath_66 : decode cX2_breath 66 = .ok (.iaload, 1) := dk_46 (dk_at dksX2_breath_2 18 rfl rfl)
theorem dX2_breath_67 : decode cX2_breath 67 = .ok (.iastore, 1) := dk_79 (dk_at dksX2_breath_2 19 rfl rfl)
theorem dX2_breath_68 : decode cX2_breath 68 = .ok (.iload_n 3, 1) := dk_29 (dk_at dksX2_breath_2 20 rfl rfl)
theorem dX2_breath_69 : decode cX2_breath 69 = .ok (.ireturn, 1) := dk_172 (dk_at dksX2_breath_2 21 rfl rfl)
abbrev cX2_isThere : ByteArray := prog_4_method_6_code
def yX2_isThere : MethodName := ⟨RX2, "isThere", "(I)Z"⟩
def dkwX2_isThere_1 : List UInt8 := [167, 0, 4, 3, 172]
abbrev dktX2_isThere_1 : List UInt8 := dkwX2_isThere_1 ++ []
def dkwX2_isThere_0 : List UInt8 := [27, 3, 16, 7, 184, 0, 59, 153, 0, 18, 42, 180, 0, 63, 27, 184, 0, 67, 153, 0, 7, 4]
abbrev dktX2_isThere_0 : List UInt8 := dkwX2_isThere_0 ++ dktX2_isThere_1
theorem dksX2_isThere_0 : cX2_isThere.data.toList.drop 0 = dktX2_isThere_0 := by decide +kernel
theorem dksX2_isThere_1 : cX2_isThere.data.toList.drop 22 = dktX2_isThere_1 := dk_seg dksX2_isThere_0 22 rfl rfl
theorem dX2_isThere_0 : decode cX2_isThere 0 = .ok (.iload_n 1, 1) := dk_27 (dk_at dksX2_isThere_0 0 rfl rfl)
theorem dX2_isThere_1 : decode cX2_isThere 1 = .ok (.iconst 0, 1) := dk_3 (dk_at dksX2_isThere_0 1 rfl rfl)
theorem dX2_isThere_2 : decode cX2_isThere 2 = .ok (.bipush 7, 2) := dk_16 7 (dk_at dksX2_isThere_0 2 rfl rfl)
theorem dX2_isThere_4 : decode cX2_isThere 4 = .ok (.invokestatic 59, 3) := dk_184 0 59 (dk_at dksX2_isThere_0 4 rfl rfl)
theorem dX2_isThere_7 : decode cX2_isThere 7 = .ok (.ifCond .eq 18, 3) := dk_153 0 18 (dk_at dksX2_isThere_0 7 rfl rfl)
theorem dX2_isThere_10 : decode cX2_isThere 10 = .ok (.aload_n 0, 1) := dk_42 (dk_at dksX2_isThere_0 10 rfl rfl)
theorem dX2_isThere_11 : decode cX2_isThere 11 = .ok (.getfield 63, 3) := dk_180 0 63 (dk_at dksX2_isThere_0 11 rfl rfl)
theorem dX2_isThere_14 : decode cX2_isThere 14 = .ok (.iload_n 1, 1) := dk_27 (dk_at dksX2_isThere_0 14 rfl rfl)
theorem dX2_isThere_15 : decode cX2_isThere 15 = .ok (.invokestatic 67, 3) := dk_184 0 67 (dk_at dksX2_isThere_0 15 rfl rfl)
theorem dX2_isThere_18 : decode cX2_isThere 18 = .ok (.ifCond .eq 7, 3) := dk_153 0 7 (dk_at dksX2_isThere_0 18 rfl rfl)
theorem dX2_isThere_21 : decode cX2_isThere 21 = .ok (.iconst 1, 1) := dk_4 (dk_at dksX2_isThere_0 21 rfl rfl)
theorem dX2_isThere_22 : decode cX2_isThere 22 = .ok (.goto 4, 3) := dk_167 0 4 (dk_at dksX2_isThere_1 0 rfl rfl)
theorem dX2_isThere_25 : decode cX2_isThere 25 = .ok (.iconst 0, 1) := dk_3 (dk_at dksX2_isThere_1 3 rfl rfl)
theorem dX2_isThere_26 : decode cX2_isThere 26 = .ok (.ireturn, 1) := dk_172 (dk_at dksX2_isThere_1 4 rfl rfl)
abbrev cX2_has : ByteArray := prog_4_method_3_code
def yX2_has : MethodName := ⟨RX2, "has", "(II)Z"⟩
def dkwX2_has_0 : List UInt8 := [26, 27, 122, 4, 126, 4, 160, 0, 7, 4, 167, 0, 4, 3, 172]
abbrev dktX2_has_0 : List UInt8 := dkwX2_has_0 ++ []
theorem dksX2_has_0 : cX2_has.data.toList.drop 0 = dktX2_has_0 := by decide +kernel
theorem dX2_has_0 : decode cX2_has 0 = .ok (.iload_n 0, 1) := dk_26 (dk_at dksX2_has_0 0 rfl rfl)
theorem dX2_has_1 : decode cX2_has 1 = .ok (.iload_n 1, 1) := dk_27 (dk_at dksX2_has_0 1 rfl rfl)
theorem dX2_has_2 : decode cX2_has 2 = .ok (.ishr, 1) := dk_122 (dk_at dksX2_has_0 2 rfl rfl)
theorem dX2_has_3 : decode cX2_has 3 = .ok (.iconst 1, 1) := dk_4 (dk_at dksX2_has_0 3 rfl rfl)
theorem dX2_has_4 : decode cX2_has 4 = .ok (.iand, 1) := dk_126 (dk_at dksX2_has_0 4 rfl rfl)
theorem dX2_has_5 : decode cX2_has 5 = .ok (.iconst 1, 1) := dk_4 (dk_at dksX2_has_0 5 rfl rfl)
theorem dX2_has_6 : decode cX2_has 6 = .ok (.if_icmp .ne 7, 3) := dk_160 0 7 (dk_at dksX2_has_0 6 rfl rfl)
theorem dX2_has_9 : decode cX2_has 9 = .ok (.iconst 1, 1) := dk_4 (dk_at dksX2_has_0 9 rfl rfl)
theorem dX2_has_10 : decode cX2_has 10 = .ok (.goto 4, 3) := dk_167 0 4 (dk_at dksX2_has_0 10 rfl rfl)
theorem dX2_has_13 : decode cX2_has 13 = .ok (.iconst 0, 1) := dk_3 (dk_at dksX2_has_0 13 rfl rfl)
theorem dX2_has_14 : decode cX2_has 14 = .ok (.ireturn, 1) := dk_172 (dk_at dksX2_has_0 14 rfl rfl)
abbrev cX2_leave : ByteArray := prog_4_method_11_code
def yX2_leave : MethodName := ⟨RX2, "leave", "(I)I"⟩
def dkwX2_leave_1 : List UInt8 := [42, 180, 0, 63, 184, 0, 75, 172]
abbrev dktX2_leave_1 : List UInt8 := dkwX2_leave_1 ++ []
def dkwX2_leave_0 : List UInt8 := [42, 27, 182, 0, 82, 154, 0, 5, 2, 172, 42, 89, 180, 0, 63, 4, 27, 120, 2, 130, 126, 181, 0, 63]
abbrev dktX2_leave_0 : List UInt8 := dkwX2_leave_0 ++ dktX2_leave_1
theorem dksX2_leave_0 : cX2_leave.data.toList.drop 0 = dktX2_leave_0 := by decide +kernel
theorem dksX2_leave_1 : cX2_leave.data.toList.drop 24 = dktX2_leave_1 := dk_seg dksX2_leave_0 24 rfl rfl
theorem dX2_leave_0 : decode cX2_leave 0 = .ok (.aload_n 0, 1) := dk_42 (dk_at dksX2_leave_0 0 rfl rfl)
theorem dX2_leave_1 : decode cX2_leave 1 = .ok (.iload_n 1, 1) := dk_27 (dk_at dksX2_leave_0 1 rfl rfl)
theorem dX2_leave_2 : decode cX2_leave 2 = .ok (.invokevirtual 82, 3) := dk_182 0 82 (dk_at dksX2_leave_0 2 rfl rfl)
theorem dX2_leave_5 : decode cX2_leave 5 = .ok (.ifCond .ne 5, 3) := dk_154 0 5 (dk_at dksX2_leave_0 5 rfl rfl)
theorem dX2_leave_8 : decode cX2_leave 8 = .ok (.iconst (-1), 1) := dk_2 (dk_at dksX2_leave_0 8 rfl rfl)
theorem dX2_leave_9 : decode cX2_leave 9 = .ok (.ireturn, 1) := dk_172 (dk_at dksX2_leave_0 9 rfl rfl)
theorem dX2_leave_10 : decode cX2_leave 10 = .ok (.aload_n 0, 1) := dk_42 (dk_at dksX2_leave_0 10 rfl rfl)
theorem dX2_leave_11 : decode cX2_leave 11 = .ok (.dup, 1) := dk_89 (dk_at dksX2_leave_0 11 rfl rfl)
theorem dX2_leave_12 : decode cX2_leave 12 = .ok (.getfield 63, 3) := dk_180 0 63 (dk_at dksX2_leave_0 12 rfl rfl)
theorem dX2_leave_15 : decode cX2_leave 15 = .ok (.iconst 1, 1) := dk_4 (dk_at dksX2_leave_0 15 rfl rfl)
theorem dX2_leave_16 : decode cX2_leave 16 = .ok (.iload_n 1, 1) := dk_27 (dk_at dksX2_leave_0 16 rfl rfl)
theorem dX2_leave_17 : decode cX2_leave 17 = .ok (.ishl, 1) := dk_120 (dk_at dksX2_leave_0 17 rfl rfl)
theorem dX2_leave_18 : decode cX2_leave 18 = .ok (.iconst (-1), 1) := dk_2 (dk_at dksX2_leave_0 18 rfl rfl)
theorem dX2_leave_19 : decode cX2_leave 19 = .ok (.ixor, 1) := dk_130 (dk_at dksX2_leave_0 19 rfl rfl)
theorem dX2_leave_20 : decode cX2_leave 20 = .ok (.iand, 1) := dk_126 (dk_at dksX2_leave_0 20 rfl rfl)
theorem dX2_leave_21 : decode cX2_leave 21 = .ok (.putfield 63, 3) := dk_181 0 63 (dk_at dksX2_leave_0 21 rfl rfl)
theorem dX2_leave_24 : decode cX2_leave 24 = .ok (.aload_n 0, 1) := dk_42 (dk_at dksX2_leave_1 0 rfl rfl)
theorem dX2_leave_25 : decode cX2_leave 25 = .ok (.getfield 63, 3) := dk_180 0 63 (dk_at dksX2_leave_1 1 rfl rfl)
theorem dX2_leave_28 : decode cX2_leave 28 = .ok (.invokestatic 75, 3) := dk_184 0 75 (dk_at dksX2_leave_1 4 rfl rfl)
theorem dX2_leave_31 : decode cX2_leave 31 = .ok (.ireturn, 1) := dk_172 (dk_at dksX2_leave_1 7 rfl rfl)
abbrev cX2_say : ByteArray := prog_4_method_12_code
def yX2_say : MethodName := ⟨RX2, "say", "(I)I"⟩
def dkwX2_say_2 : List UInt8 := [180, 0, 85, 172]
abbrev dktX2_say_2 : List UInt8 := dkwX2_say_2 ++ []
def dkwX2_say_1 : List UInt8 := [16, 252, 172, 42, 180, 0, 34, 42, 180, 0, 85, 27, 79, 42, 89, 180, 0, 85, 4, 96, 181, 0, 85, 42]
abbrev dktX2_say_1 : List UInt8 := dkwX2_say_1 ++ dktX2_say_2
def dkwX2_say_0 : List UInt8 := [27, 16, 33, 16, 126, 184, 0, 59, 154, 0, 6, 16, 254, 172, 42, 180, 0, 85, 16, 60, 160, 0, 6]
abbrev dktX2_say_0 : List UInt8 := dkwX2_say_0 ++ dktX2_say_1
theorem dksX2_say_0 : cX2_say.data.toList.drop 0 = dktX2_say_0 := by decide +kernel
theorem dksX2_say_1 : cX2_say.data.toList.drop 23 = dktX2_say_1 := dk_seg dksX2_say_0 23 rfl rfl
theorem dksX2_say_2 : cX2_say.data.toList.drop 47 = dktX2_say_2 := dk_seg dksX2_say_1 24 rfl rfl
theorem dX2_say_0 : decode cX2_say 0 = .ok (.iload_n 1, 1) := dk_27 (dk_at dksX2_say_0 0 rfl rfl)
theorem dX2_say_1 : decode cX2_say 1 = .ok (.bipush 33, 2) := dk_16 33 (dk_at dksX2_say_0 1 rfl rfl)
theorem dX2_say_3 : decode cX2_say 3 = .ok (.bipush 126, 2) := dk_16 126 (dk_at dksX2_say_0 3 rfl rfl)
theorem dX2_say_5 : decode cX2_say 5 = .ok (.invokestatic 59, 3) := dk_184 0 59 (dk_at dksX2_say_0 5 rfl rfl)
theorem dX2_say_8 : decode cX2_say 8 = .ok (.ifCond .ne 6, 3) := dk_154 0 6 (dk_at dksX2_say_0 8 rfl rfl)
theorem dX2_say_11 : decode cX2_say 11 = .ok (.bipush (-2), 2) := dk_16 254 (dk_at dksX2_say_0 11 rfl rfl)
theorem dX2_say_13 : decode cX2_say 13 = .ok (.ireturn, 1) := dk_172 (dk_at dksX2_say_0 13 rfl rfl)
theorem dX2_say_14 : decode cX2_say 14 = .ok (.aload_n 0, 1) := dk_42 (dk_at dksX2_say_0 14 rfl rfl)
theorem dX2_say_15 : decode cX2_say 15 = .ok (.getfield 85, 3) := dk_180 0 85 (dk_at dksX2_say_0 15 rfl rfl)
theorem dX2_say_18 : decode cX2_say 18 = .ok (.bipush 60, 2) := dk_16 60 (dk_at dksX2_say_0 18 rfl rfl)
theorem dX2_say_20 : decode cX2_say 20 = .ok (.if_icmp .ne 6, 3) := dk_160 0 6 (dk_at dksX2_say_0 20 rfl rfl)
theorem dX2_say_23 : decode cX2_say 23 = .ok (.bipush (-4), 2) := dk_16 252 (dk_at dksX2_say_1 0 rfl rfl)
theorem dX2_say_25 : decode cX2_say 25 = .ok (.ireturn, 1) := dk_172 (dk_at dksX2_say_1 2 rfl rfl)
theorem dX2_say_26 : decode cX2_say 26 = .ok (.aload_n 0, 1) := dk_42 (dk_at dksX2_say_1 3 rfl rfl)
theorem dX2_say_27 : decode cX2_say 27 = .ok (.getfield 34, 3) := dk_180 0 34 (dk_at dksX2_say_1 4 rfl rfl)
theorem dX2_say_30 : decode cX2_say 30 = .ok (.aload_n 0, 1) := dk_42 (dk_at dksX2_say_1 7 rfl rfl)
theorem dX2_say_31 : decode cX2_say 31 = .ok (.getfield 85, 3) := dk_180 0 85 (dk_at dksX2_say_1 8 rfl rfl)
theorem dX2_say_34 : decode cX2_say 34 = .ok (.iload_n 1, 1) := dk_27 (dk_at dksX2_say_1 11 rfl rfl)
theorem dX2_say_35 : decode cX2_say 35 = .ok (.iastore, 1) := dk_79 (dk_at dksX2_say_1 12 rfl rfl)
theorem dX2_say_36 : decode cX2_say 36 = .ok (.aload_n 0, 1) := dk_42 (dk_at dksX2_say_1 13 rfl rfl)
theorem dX2_say_37 : decode cX2_say 37 = .ok (.dup, 1) := dk_89 (dk_at dksX2_say_1 14 rfl rfl)
theorem dX2_say_38 : decode cX2_say 38 = .ok (.getfield 85, 3) := dk_180 0 85 (dk_at dksX2_say_1 15 rfl rfl)
theorem dX2_say_41 : decode cX2_say 41 = .ok (.iconst 1, 1) := dk_4 (dk_at dksX2_say_1 18 rfl rfl)
theorem dX2_say_42 : decode cX2_say 42 = .ok (.iadd, 1) := dk_96 (dk_at dksX2_say_1 19 rfl rfl)
theorem dX2_say_43 : decode cX2_say 43 = .ok (.putfield 85, 3) := dk_181 0 85 (dk_at dksX2_say_1 20 rfl rfl)
theorem dX2_say_46 : decode cX2_say 46 = .ok (.aload_n 0, 1) := dk_42 (dk_at dksX2_say_1 23 rfl rfl)
theorem dX2_say_47 : decode cX2_say 47 = .ok (.getfield 85, 3) := dk_180 0 85 (dk_at dksX2_say_2 0 rfl rfl)
theorem dX2_say_50 : decode cX2_say 50 = .ok (.ireturn, 1) := dk_172 (dk_at dksX2_say_2 3 rfl rfl)
abbrev cX2_wipe : ByteArray := prog_4_method_13_code
def yX2_wipe : MethodName := ⟨RX2, "wipe", "()I"⟩
def dkwX2_wipe_0 : List UInt8 := [42, 180, 0, 85, 60, 42, 3, 181, 0, 85, 27, 172]
abbrev dktX2_wipe_0 : List UInt8 := dkwX2_wipe_0 ++ []
theorem dksX2_wipe_0 : cX2_wipe.data.toList.drop 0 = dktX2_wipe_0 := by decide +kernel
theorem dX2_wipe_0 : decode cX2_wipe 0 = .ok (.aload_n 0, 1) := dk_42 (dk_at dksX2_wipe_0 0 rfl rfl)
theorem dX2_wipe_1 : decode cX2_wipe 1 = .ok (.getfield 85, 3) := dk_180 0 85 (dk_at dksX2_wipe_0 1 rfl rfl)
theorem dX2_wipe_4 : decode cX2_wipe 4 = .ok (.istore_n 1, 1) := dk_60 (dk_at dksX2_wipe_0 4 rfl rfl)
theorem dX2_wipe_5 : decode cX2_wipe 5 = .ok (.aload_n 0, 1) := dk_42 (dk_at dksX2_wipe_0 5 rfl rfl)
theorem dX2_wipe_6 : decode cX2_wipe 6 = .ok (.iconst 0, 1) := dk_3 (dk_at dksX2_wipe_0 6 rfl rfl)
theorem dX2_wipe_7 : decode cX2_wipe 7 = .ok (.putfield 85, 3) := dk_181 0 85 (dk_at dksX2_wipe_0 7 rfl rfl)
theorem dX2_wipe_10 : decode cX2_wipe 10 = .ok (.iload_n 1, 1) := dk_27 (dk_at dksX2_wipe_0 10 rfl rfl)
theorem dX2_wipe_11 : decode cX2_wipe 11 = .ok (.ireturn, 1) := dk_172 (dk_at dksX2_wipe_0 11 rfl rfl)
abbrev cX2_fault : ByteArray := prog_4_method_15_code
def yX2_fault : MethodName := ⟨RX2, "fault", "()I"⟩
theorem dX2_fault_0 : decode cX2_fault 0 = .ok (.aload_n 0, 1) := by decide +kernel
theorem dX2_fault_1 : decode cX2_fault 1 = .ok (.invokevirtual 88, 3) := by decide +kernel
theorem dX2_fault_4 : decode cX2_fault 4 = .ok (.ireturn, 1) := by decide +kernel
abbrev cX2_faultOf : ByteArray := prog_4_method_14_code
def yX2_faultOf : MethodName := ⟨RX2, "faultOf", "()I"⟩
def dkwX2_faultOf_7 : List UInt8 := [167, 0, 7, 42, 180, 0, 85, 172]
abbrev dktX2_faultOf_7 : List UInt8 := dkwX2_faultOf_7 ++ []
def dkwX2_faultOf_6 : List UInt8 := [16, 62, 160, 0, 7, 5, 167, 0, 4, 3, 60, 132, 2, 1, 167, 255, 105, 27, 154, 0, 8, 16, 250]
abbrev dktX2_faultOf_6 : List UInt8 := dkwX2_faultOf_6 ++ dktX2_faultOf_7
def dkwX2_faultOf_5 : List UInt8 := [167, 0, 33, 29, 16, 42, 160, 0, 7, 5, 167, 0, 23, 4, 167, 0, 19, 27, 4, 160, 0, 13, 29]
abbrev dktX2_faultOf_5 : List UInt8 := dkwX2_faultOf_5 ++ dktX2_faultOf_6
def dkwX2_faultOf_4 : List UInt8 := [184, 0, 59, 54, 4, 21, 4, 154, 0, 5, 28, 172, 27, 154, 0, 27, 29, 16, 46, 160, 0, 7, 3]
abbrev dktX2_faultOf_4 : List UInt8 := dkwX2_faultOf_4 ++ dktX2_faultOf_5
def dkwX2_faultOf_3 : List UInt8 := [16, 45, 159, 0, 9, 29, 16, 62, 160, 0, 7, 4, 167, 0, 15, 3, 167, 0, 11, 29, 16, 48, 16, 57]
abbrev dktX2_faultOf_3 : List UInt8 := dkwX2_faultOf_3 ++ dktX2_faultOf_4
def dkwX2_faultOf_2 : List UInt8 := [167, 0, 51, 3, 167, 0, 47, 27, 4, 160, 0, 34, 29, 16, 97, 16, 120, 184, 0, 59, 154, 0, 15, 29]
abbrev dktX2_faultOf_2 : List UInt8 := dkwX2_faultOf_2 ++ dktX2_faultOf_3
def dkwX2_faultOf_1 : List UInt8 := [16, 65, 16, 72, 184, 0, 59, 154, 0, 15, 29, 16, 42, 159, 0, 9, 29, 16, 46, 160, 0, 7, 4]
abbrev dktX2_faultOf_1 : List UInt8 := dkwX2_faultOf_1 ++ dktX2_faultOf_2
def dkwX2_faultOf_0 : List UInt8 := [3, 60, 3, 61, 28, 42, 180, 0, 85, 162, 0, 149, 42, 180, 0, 34, 28, 46, 62, 27, 154, 0, 34, 29]
abbrev dktX2_faultOf_0 : List UInt8 := dkwX2_faultOf_0 ++ dktX2_faultOf_1
theorem dksX2_faultOf_0 : cX2_faultOf.data.toList.drop 0 = dktX2_faultOf_0 := by decide +kernel
theorem dksX2_faultOf_1 : cX2_faultOf.data.toList.drop 24 = dktX2_faultOf_1 := dk_seg dksX2_faultOf_0 24 rfl rfl
theorem dksX2_faultOf_2 : cX2_faultOf.data.toList.drop 47 = dktX2_faultOf_2 := dk_seg dksX2_faultOf_1 23 rfl rfl
theorem dksX2_faultOf_3 : cX2_faultOf.data.toList.drop 71 = dktX2_faultOf_3 := dk_seg dksX2_faultOf_2 24 rfl rfl
theorem dksX2_faultOf_4 : cX2_faultOf.data.toList.drop 95 = dktX2_faultOf_4 := dk_seg dksX2_faultOf_3 24 rfl rfl
theorem dksX2_faultOf_5 : cX2_faultOf.data.toList.drop 118 = dktX2_faultOf_5 := dk_seg dksX2_faultOf_4 23 rfl rfl
theorem dksX2_faultOf_6 : cX2_faultOf.data.toList.drop 141 = dktX2_faultOf_6 := dk_seg dksX2_faultOf_5 23 rfl rfl
theorem dksX2_faultOf_7 : cX2_faultOf.data.toList.drop 164 = dktX2_faultOf_7 := dk_seg dksX2_faultOf_6 23 rfl rfl
theorem dX2_faultOf_0 : decode cX2_faultOf 0 = .ok (.iconst 0, 1) := dk_3 (dk_at dksX2_faultOf_0 0 rfl rfl)
theorem dX2_faultOf_1 : decode cX2_faultOf 1 = .ok (.istore_n 1, 1) := dk_60 (dk_at dksX2_faultOf_0 1 rfl rfl)
theorem dX2_faultOf_2 : decode cX2_faultOf 2 = .ok (.iconst 0, 1) := dk_3 (dk_at dksX2_faultOf_0 2 rfl rfl)
theorem dX2_faultOf_3 : decode cX2_faultOf 3 = .ok (.istore_n 2, 1) := dk_61 (dk_at dksX2_faultOf_0 3 rfl rfl)
theorem dX2_faultOf_4 : decode cX2_faultOf 4 = .ok (.iload_n 2, 1) := dk_28 (dk_at dksX2_faultOf_0 4 rfl rfl)
theorem dX2_faultOf_5 : decode cX2_faultOf 5 = .ok (.aload_n 0, 1) := dk_42 (dk_at dksX2_faultOf_0 5 rfl rfl)
theorem dX2_faultOf_6 : decode cX2_faultOf 6 = .ok (.getfield 85, 3) := dk_180 0 85 (dk_at dksX2_faultOf_0 6 rfl rfl)
theorem dX2_faultOf_9 : decode cX2_faultOf 9 = .ok (.if_icmp .ge 149, 3) := dk_162 0 149 (dk_at dksX2_faultOf_0 9 rfl rfl)
theorem dX2_faultOf_12 : decode cX2_faultOf 12 = .ok (.aload_n 0, 1) := dk_42 (dk_at dksX2_faultOf_0 12 rfl rfl)
theorem dX2_faultOf_13 : decode cX2_faultOf 13 = .ok (.getfield 34, 3) := dk_180 0 34 (dk_at dksX2_faultOf_0 13 rfl rfl)
theorem dX2_faultOf_16 : decode cX2_faultOf 16 = .ok (.iload_n 2, 1) := dk_28 (dk_at dksX2_faultOf_0 16 rfl rfl)
theorem dX2_faultOf_17 : decode cX2_faultOf 17 = .ok (.iaload, 1) := dk_46 (dk_at dksX2_faultOf_0 17 rfl rfl)
theorem dX2_faultOf_18 : decode cX2_faultOf 18 = .ok (.istore_n 3, 1) := dk_62 (dk_at dksX2_faultOf_0 18 rfl rfl)
theorem dX2_faultOf_19 : decode cX2_faultOf 19 = .ok (.iload_n 1, 1) := dk_27 (dk_at dksX2_faultOf_0 19 rfl rfl)
theorem dX2_faultOf_20 : decode cX2_faultOf 20 = .ok (.ifCond .ne 34, 3) := dk_154 0 34 (dk_at dksX2_faultOf_0 20 rfl rfl)
theorem dX2_faultOf_23 : decode cX2_faultOf 23 = .ok (.iload_n 3, 1) := dk_29 (dk_at dksX2_faultOf_0 23 rfl rfl)
theorem dX2_faultOf_24 : decode cX2_faultOf 24 = .ok (.bipush 65, 2) := dk_16 65 (dk_at dksX2_faultOf_1 0 rfl rfl)
theorem dX2_faultOf_26 : decode cX2_faultOf 26 = .ok (.bipush 72, 2) := dk_16 72 (dk_at dksX2_faultOf_1 2 rfl rfl)
theorem dX2_faultOf_28 : decode cX2_faultOf 28 = .ok (.invokestatic 59, 3) := dk_184 0 59 (dk_at dksX2_faultOf_1 4 rfl rfl)
theorem dX2_faultOf_31 : decode cX2_faultOf 31 = .ok (.ifCond .ne 15, 3) := dk_154 0 15 (dk_at dksX2_faultOf_1 7 rfl rfl)
theorem dX2_faultOf_34 : decode cX2_faultOf 34 = .ok (.iload_n 3, 1) := dk_29 (dk_at dksX2_faultOf_1 10 rfl rfl)
theorem dX2_faultOf_35 : decode cX2_faultOf 35 = .ok (.bipush 42, 2) := dk_16 42 (dk_at dksX2_faultOf_1 11 rfl rfl)
theorem dX2_faultOf_37 : decode cX2_faultOf 37 = .ok (.if_icmp .eq 9, 3) := dk_159 0 9 (dk_at dksX2_faultOf_1 13 rfl rfl)
theorem dX2_faultOf_40 : decode cX2_faultOf 40 = .ok (.iload_n 3, 1) := dk_29 (dk_at dksX2_faultOf_1 16 rfl rfl)
theorem dX2_faultOf_41 : decode cX2_faultOf 41 = .ok (.bipush 46, 2) := dk_16 46 (dk_at dksX2_faultOf_1 17 rfl rfl)
theorem dX2_faultOf_43 : decode cX2_faultOf 43 = .ok (.if_icmp .ne 7, 3) := dk_160 0 7 (dk_at dksX2_faultOf_1 19 rfl rfl)
theorem dX2_faultOf_46 : decode cX2_faultOf 46 = .ok (.iconst 1, 1) := dk_4 (dk_at dksX2_faultOf_1 22 rfl rfl)
theorem dX2_faultOf_47 : decode cX2_faultOf 47 = .ok (.goto 51, 3) := dk_167 0 51 (dk_at dksX2_faultOf_2 0 rfl rfl)
theorem dX2_faultOf_50 : decode cX2_faultOf 50 = .ok (.iconst 0, 1) := dk_3 (dk_at dksX2_faultOf_2 3 rfl rfl)
theorem dX2_faultOf_51 : decode cX2_faultOf 51 = .ok (.goto 47, 3) := dk_167 0 47 (dk_at dksX2_faultOf_2 4 rfl rfl)
theorem dX2_faultOf_54 : decode cX2_faultOf 54 = .ok (.iload_n 1, 1) := dk_27 (dk_at dksX2_faultOf_2 7 rfl rfl)
theorem dX2_faultOf_55 : decode cX2_faultOf 55 = .ok (.iconst 1, 1) := dk_4 (dk_at dksX2_faultOf_2 8 rfl rfl)
theorem dX2_faultOf_56 : decode cX2_faultOf 56 = .ok (.if_icmp .ne 34, 3) := dk_160 0 34 (dk_at dksX2_faultOf_2 9 rfl rfl)
theorem dX2_faultOf_59 : decode cX2_faultOf 59 = .ok (.iload_n 3, 1) := dk_29 (dk_at dksX2_faultOf_2 12 rfl rfl)
theorem dX2_faultOf_60 : decode cX2_faultOf 60 = .ok (.bipush 97, 2) := dk_16 97 (dk_at dksX2_faultOf_2 13 rfl rfl)
theorem dX2_faultOf_62 : decode cX2_faultOf 62 = .ok (.bipush 120, 2) := dk_16 120 (dk_at dksX2_faultOf_2 15 rfl rfl)
theorem dX2_faultOf_64 : decode cX2_faultOf 64 = .ok (.invokestatic 59, 3) := dk_184 0 59 (dk_at dksX2_faultOf_2 17 rfl rfl)
theorem dX2_faultOf_67 : decode cX2_faultOf 67 = .ok (.ifCond .ne 15, 3) := dk_154 0 15 (dk_at dksX2_faultOf_2 20 rfl rfl)
theorem dX2_faultOf_70 : decode cX2_faultOf 70 = .ok (.iload_n 3, 1) := dk_29 (dk_at dksX2_faultOf_2 23 rfl rfl)
theorem dX2_faultOf_71 : decode cX2_faultOf 71 = .ok (.bipush 45, 2) := dk_16 45 (dk_at dksX2_faultOf_3 0 rfl rfl)
theorem dX2_faultOf_73 : decode cX2_faultOf 73 = .ok (.if_icmp .eq 9, 3) := dk_159 0 9 (dk_at dksX2_faultOf_3 2 rfl rfl)
theorem dX2_faultOf_76 : decode cX2_faultOf 76 = .ok (.iload_n 3, 1) := dk_29 (dk_at dksX2_faultOf_3 5 rfl rfl)
theorem dX2_faultOf_77 : decode cX2_faultOf 77 = .ok (.bipush 62, 2) := dk_16 62 (dk_at dksX2_faultOf_3 6 rfl rfl)
theorem dX2_faultOf_79 : decode cX2_faultOf 79 = .ok (.if_icmp .ne 7, 3) := dk_160 0 7 (dk_at dksX2_faultOf_3 8 rfl rfl)
theorem dX2_faultOf_82 : decode cX2_faultOf 82 = .ok (.iconst 1, 1) := dk_4 (dk_at dksX2_faultOf_3 11 rfl rfl)
theorem dX2_faultOf_83 : decode cX2_faultOf 83 = .ok (.goto 15, 3) := dk_167 0 15 (dk_at dksX2_faultOf_3 12 rfl rfl)
theorem dX2_faultOf_86 : decode cX2_faultOf 86 = .ok (.iconst 0, 1) := dk_3 (dk_at dksX2_faultOf_3 15 rfl rfl)
theorem dX2_faultOf_87 : decode cX2_faultOf 87 = .ok (.goto 11, 3) := dk_167 0 11 (dk_at dksX2_faultOf_3 16 rfl rfl)
theorem dX2_faultOf_90 : decode cX2_faultOf 90 = .ok (.iload_n 3, 1) := dk_29 (dk_at dksX2_faultOf_3 19 rfl rfl)
theorem dX2_faultOf_91 : decode cX2_faultOf 91 = .ok (.bipush 48, 2) := dk_16 48 (dk_at dksX2_faultOf_3 20 rfl rfl)
theorem dX2_faultOf_93 : decode cX2_faultOf 93 = .ok (.bipush 57, 2) := dk_16 57 (dk_at dksX2_faultOf_3 22 rfl rfl)
theorem dX2_faultOf_95 : decode cX2_faultOf 95 = .ok (.invokestatic 59, 3) := dk_184 0 59 (dk_at dksX2_faultOf_4 0 rfl rfl)
theorem dX2_faultOf_98 : decode cX2_faultOf 98 = .ok (.istore 4, 2) := dk_54 4 (dk_at dksX2_faultOf_4 3 rfl rfl)
theorem dX2_faultOf_100 : decode cX2_faultOf 100 = .ok (.iload 4, 2) := dk_21 4 (dk_at dksX2_faultOf_4 5 rfl rfl)
theorem dX2_faultOf_102 : decode cX2_faultOf 102 = .ok (.ifCond .ne 5, 3) := dk_154 0 5 (dk_at dksX2_faultOf_4 7 rfl rfl)
theorem dX2_faultOf_105 : decode cX2_faultOf 105 = .ok (.iload_n 2, 1) := dk_28 (dk_at dksX2_faultOf_4 10 rfl rfl)
theorem dX2_faultOf_106 : decode cX2_faultOf 106 = .ok (.ireturn, 1) := dk_172 (dk_at dksX2_faultOf_4 11 rfl rfl)
theorem dX2_faultOf_107 : decode cX2_faultOf 107 = .ok (.iload_n 1, 1) := dk_27 (dk_at dksX2_faultOf_4 12 rfl rfl)
theorem dX2_faultOf_108 : decode cX2_faultOf 108 = .ok (.ifCond .ne 27, 3) := dk_154 0 27 (dk_at dksX2_faultOf_4 13 rfl rfl)
theorem dX2_faultOf_111 : decode cX2_faultOf 111 = .ok (.iload_n 3, 1) := dk_29 (dk_at dksX2_faultOf_4 16 rfl rfl)
theorem dX2_faultOf_112 : decode cX2_faultOf 112 = .ok (.bipush 46, 2) := dk_16 46 (dk_at dksX2_faultOf_4 17 rfl rfl)
theorem dX2_faultOf_114 : decode cX2_faultOf 114 = .ok (.if_icmp .ne 7, 3) := dk_160 0 7 (dk_at dksX2_faultOf_4 19 rfl rfl)
theorem dX2_faultOf_117 : decode cX2_faultOf 117 = .ok (.iconst 0, 1) := dk_3 (dk_at dksX2_faultOf_4 22 rfl rfl)
theorem dX2_faultOf_118 : decode cX2_faultOf 118 = .ok (.goto 33, 3) := dk_167 0 33 (dk_at dksX2_faultOf_5 0 rfl rfl)
theorem dX2_faultOf_121 : decode cX2_faultOf 121 = .ok (.iload_n 3, 1) := dk_29 (dk_at dksX2_faultOf_5 3 rfl rfl)
theorem dX2_faultOf_122 : decode cX2_faultOf 122 = .ok (.bipush 42, 2) := dk_16 42 (dk_at dksX2_faultOf_5 4 rfl rfl)
theorem dX2_faultOf_124 : decode cX2_faultOf 124 = .ok (.if_icmp .ne 7, 3) := dk_160 0 7 (dk_at dksX2_faultOf_5 6 rfl rfl)
theorem dX2_faultOf_127 : decode cX2_faultOf 127 = .ok (.iconst 2, 1) := dk_5 (dk_at dksX2_faultOf_5 9 rfl rfl)
theorem dX2_faultOf_128 : decode cX2_faultOf 128 = .ok (.goto 23, 3) := dk_167 0 23 (dk_at dksX2_faultOf_5 10 rfl rfl)
theorem dX2_faultOf_131 : decode cX2_faultOf 131 = .ok (.iconst 1, 1) := dk_4 (dk_at dksX2_faultOf_5 13 rfl rfl)
theorem dX2_faultOf_132 : decode cX2_faultOf 132 = .ok (.goto 19, 3) := dk_167 0 19 (dk_at dksX2_faultOf_5 14 rfl rfl)
theorem dX2_faultOf_135 : decode cX2_faultOf 135 = .ok (.iload_n 1, 1) := dk_27 (dk_at dksX2_faultOf_5 17 rfl rfl)
theorem dX2_faultOf_136 : decode cX2_faultOf 136 = .ok (.iconst 1, 1) := dk_4 (dk_at dksX2_faultOf_5 18 rfl rfl)
theorem dX2_faultOf_137 : decode cX2_faultOf 137 = .ok (.if_icmp .ne 13, 3) := dk_160 0 13 (dk_at dksX2_faultOf_5 19 rfl rfl)
theorem dX2_faultOf_140 : decode cX2_faultOf 140 = .ok (.iload_n 3, 1) := dk_29 (dk_at dksX2_faultOf_5 22 rfl rfl)
theorem dX2_faultOf_141 : decode cX2_faultOf 141 = .ok (.bipush 62, 2) := dk_16 62 (dk_at dksX2_faultOf_6 0 rfl rfl)
theorem dX2_faultOf_143 : decode cX2_faultOf 143 = .ok (.if_icmp .ne 7, 3) := dk_160 0 7 (dk_at dksX2_faultOf_6 2 rfl rfl)
theorem dX2_faultOf_146 : decode cX2_faultOf 146 = .ok (.iconst 2, 1) := dk_5 (dk_at dksX2_faultOf_6 5 rfl rfl)
theorem dX2_faultOf_147 : decode cX2_faultOf 147 = .ok (.goto 4, 3) := dk_167 0 4 (dk_at dksX2_faultOf_6 6 rfl rfl)
theorem dX2_faultOf_150 : decode cX2_faultOf 150 = .ok (.iconst 0, 1) := dk_3 (dk_at dksX2_faultOf_6 9 rfl rfl)
theorem dX2_faultOf_151 : decode cX2_faultOf 151 = .ok (.istore_n 1, 1) := dk_60 (dk_at dksX2_faultOf_6 10 rfl rfl)
theorem dX2_faultOf_152 : decode cX2_faultOf 152 = .ok (.iinc 2 1, 3) := dk_132 2 1 (dk_at dksX2_faultOf_6 11 rfl rfl)
theorem dX2_faultOf_155 : decode cX2_faultOf 155 = .ok (.goto (-151), 3) := dk_167 255 105 (dk_at dksX2_faultOf_6 14 rfl rfl)
theorem dX2_faultOf_158 : decode cX2_faultOf 158 = .ok (.iload_n 1, 1) := dk_27 (dk_at dksX2_faultOf_6 17 rfl rfl)
theorem dX2_faultOf_159 : decode cX2_faultOf 159 = .ok (.ifCond .ne 8, 3) := dk_154 0 8 (dk_at dksX2_faultOf_6 18 rfl rfl)
theorem dX2_faultOf_162 : decode cX2_faultOf 162 = .ok (.bipush (-6), 2) := dk_16 250 (dk_at dksX2_faultOf_6 21 rfl rfl)
theorem dX2_faultOf_164 : decode cX2_faultOf 164 = .ok (.goto 7, 3) := dk_167 0 7 (dk_at dksX2_faultOf_7 0 rfl rfl)
theorem dX2_faultOf_167 : decode cX2_faultOf 167 = .ok (.aload_n 0, 1) := dk_42 (dk_at dksX2_faultOf_7 3 rfl rfl)
theorem dX2_faultOf_168 : decode cX2_faultOf 168 = .ok (.getfield 85, 3) := dk_180 0 85 (dk_at dksX2_faultOf_7 4 rfl rfl)
theorem dX2_faultOf_171 : decode cX2_faultOf 171 = .ok (.ireturn, 1) := dk_172 (dk_at dksX2_faultOf_7 7 rfl rfl)
abbrev cX2_judge : ByteArray := prog_4_method_27_code
def yX2_judge : MethodName := ⟨RX2, "judge", "(I)I"⟩
def dkwX2_judge_1 : List UInt8 := [182, 0, 135, 61, 28, 155, 0, 7, 27, 154, 0, 7, 28, 167, 0, 7, 42, 180, 0, 119, 172]
abbrev dktX2_judge_1 : List UInt8 := dkwX2_judge_1 ++ []
def dkwX2_judge_0 : List UInt8 := [27, 3, 4, 184, 0, 59, 154, 0, 6, 16, 254, 172, 42, 182, 0, 88, 155, 0, 6, 16, 251, 172, 42]
abbrev dktX2_judge_0 : List UInt8 := dkwX2_judge_0 ++ dktX2_judge_1
theorem dksX2_judge_0 : cX2_judge.data.toList.drop 0 = dktX2_judge_0 := by decide +kernel
theorem dksX2_judge_1 : cX2_judge.data.toList.drop 23 = dktX2_judge_1 := dk_seg dksX2_judge_0 23 rfl rfl
theorem dX2_judge_0 : decode cX2_judge 0 = .ok (.iload_n 1, 1) := dk_27 (dk_at dksX2_judge_0 0 rfl rfl)
theorem dX2_judge_1 : decode cX2_judge 1 = .ok (.iconst 0, 1) := dk_3 (dk_at dksX2_judge_0 1 rfl rfl)
theorem dX2_judge_2 : decode cX2_judge 2 = .ok (.iconst 1, 1) := dk_4 (dk_at dksX2_judge_0 2 rfl rfl)
theorem dX2_judge_3 : decode cX2_judge 3 = .ok (.invokestatic 59, 3) := dk_184 0 59 (dk_at dksX2_judge_0 3 rfl rfl)
theorem dX2_judge_6 : decode cX2_judge 6 = .ok (.ifCond .ne 6, 3) := dk_154 0 6 (dk_at dksX2_judge_0 6 rfl rfl)
theorem dX2_judge_9 : decode cX2_judge 9 = .ok (.bipush (-2), 2) := dk_16 254 (dk_at dksX2_judge_0 9 rfl rfl)
theorem dX2_judge_11 : decode cX2_judge 11 = .ok (.ireturn, 1) := dk_172 (dk_at dksX2_judge_0 11 rfl rfl)
theorem dX2_judge_12 : decode cX2_judge 12 = .ok (.aload_n 0, 1) := dk_42 (dk_at dksX2_judge_0 12 rfl rfl)
theorem dX2_judge_13 : decode cX2_judge 13 = .ok (.invokevirtual 88, 3) := dk_182 0 88 (dk_at dksX2_judge_0 13 rfl rfl)
theorem dX2_judge_16 : decode cX2_judge 16 = .ok (.ifCond .lt 6, 3) := dk_155 0 6 (dk_at dksX2_judge_0 16 rfl rfl)
theorem dX2_judge_19 : decode cX2_judge 19 = .ok (.bipush (-5), 2) := dk_16 251 (dk_at dksX2_judge_0 19 rfl rfl)
theorem dX2_judge_21 : decode cX2_judge 21 = .ok (.ireturn, 1) := dk_172 (dk_at dksX2_judge_0 21 rfl rfl)
theorem dX2_judge_22 : decode cX2_judge 22 = .ok (.aload_n 0, 1) := dk_42 (dk_at dksX2_judge_0 22 rfl rfl)
theorem dX2_judge_23 : decode cX2_judge 23 = .ok (.invokevirtual 135, 3) := dk_182 0 135 (dk_at dksX2_judge_1 0 rfl rfl)
theorem dX2_judge_26 : decode cX2_judge 26 = .ok (.istore_n 2, 1) := dk_61 (dk_at dksX2_judge_1 3 rfl rfl)
theorem dX2_judge_27 : decode cX2_judge 27 = .ok (.iload_n 2, 1) := dk_28 (dk_at dksX2_judge_1 4 rfl rfl)
theorem dX2_judge_28 : decode cX2_judge 28 = .ok (.ifCond .lt 7, 3) := dk_155 0 7 (dk_at dksX2_judge_1 5 rfl rfl)
theorem dX2_judge_31 : decode cX2_judge 31 = .ok (.iload_n 1, 1) := dk_27 (dk_at dksX2_judge_1 8 rfl rfl)
theorem dX2_judge_32 : decode cX2_judge 32 = .ok (.ifCond .ne 7, 3) := dk_154 0 7 (dk_at dksX2_judge_1 9 rfl rfl)
theorem dX2_judge_35 : decode cX2_judge 35 = .ok (.iload_n 2, 1) := dk_28 (dk_at dksX2_judge_1 12 rfl rfl)
theorem dX2_judge_36 : decode cX2_judge 36 = .ok (.goto 7, 3) := dk_167 0 7 (dk_at dksX2_judge_1 13 rfl rfl)
theorem dX2_judge_39 : decode cX2_judge 39 = .ok (.aload_n 0, 1) := dk_42 (dk_at dksX2_judge_1 16 rfl rfl)
theorem dX2_judge_40 : decode cX2_judge 40 = .ok (.getfield 119, 3) := dk_180 0 119 (dk_at dksX2_judge_1 17 rfl rfl)
theorem dX2_judge_43 : decode cX2_judge 43 = .ok (.ireturn, 1) := dk_172 (dk_at dksX2_judge_1 20 rfl rfl)
abbrev cX2_goShifts : ByteArray := prog_4_method_26_code
def yX2_goShifts : MethodName := ⟨RX2, "goShifts", "()I"⟩
def dkwX2_goShifts_11 : List UInt8 := [180, 0, 113, 4, 96, 181, 0, 113, 167, 255, 10, 16, 250, 172]
abbrev dktX2_goShifts_11 : List UInt8 := dkwX2_goShifts_11 ++ []
def dkwX2_goShifts_10 : List UInt8 := [180, 0, 113, 181, 0, 104, 42, 21, 5, 181, 0, 107, 132, 5, 1, 167, 255, 211, 21, 4, 61, 42, 89]
abbrev dktX2_goShifts_10 : List UInt8 := dkwX2_goShifts_10 ++ dktX2_goShifts_11
def dkwX2_goShifts_9 : List UInt8 := [42, 180, 0, 104, 156, 0, 37, 28, 21, 4, 2, 130, 126, 21, 5, 184, 0, 67, 153, 0, 17, 42, 42]
abbrev dktX2_goShifts_9 : List UInt8 := dkwX2_goShifts_9 ++ dktX2_goShifts_10
def dkwX2_goShifts_8 : List UInt8 := [158, 0, 8, 42, 180, 0, 113, 172, 42, 182, 0, 116, 54, 4, 3, 54, 5, 21, 5, 16, 10, 162, 0, 44]
abbrev dktX2_goShifts_8 : List UInt8 := dkwX2_goShifts_8 ++ dktX2_goShifts_9
def dkwX2_goShifts_7 : List UInt8 := [181, 0, 119, 27, 21, 4, 16, 62, 160, 0, 7, 6, 167, 0, 4, 5, 96, 60, 42, 180, 0, 119]
abbrev dktX2_goShifts_7 : List UInt8 := dkwX2_goShifts_7 ++ dktX2_goShifts_8
def dkwX2_goShifts_6 : List UInt8 := [16, 48, 100, 182, 0, 128, 167, 0, 16, 42, 29, 16, 65, 100, 21, 4, 16, 97, 100, 182, 0, 132]
abbrev dktX2_goShifts_6 : List UInt8 := dkwX2_goShifts_6 ++ dktX2_goShifts_7
def dkwX2_goShifts_5 : List UInt8 := [167, 0, 45, 21, 4, 16, 62, 160, 0, 25, 42, 29, 16, 65, 100, 42, 180, 0, 34, 27, 5, 96, 46]
abbrev dktX2_goShifts_5 : List UInt8 := dkwX2_goShifts_5 ++ dktX2_goShifts_6
def dkwX2_goShifts_4 : List UInt8 := [27, 4, 96, 46, 54, 4, 42, 21, 4, 16, 45, 160, 0, 14, 42, 29, 16, 65, 100, 182, 0, 125]
abbrev dktX2_goShifts_4 : List UInt8 := dkwX2_goShifts_4 ++ dktX2_goShifts_5
def dkwX2_goShifts_3 : List UInt8 := [42, 180, 0, 34, 27, 4, 96, 46, 16, 48, 100, 120, 130, 79, 132, 1, 2, 167, 0, 92, 42, 180, 0, 34]
abbrev dktX2_goShifts_3 : List UInt8 := dkwX2_goShifts_3 ++ dktX2_goShifts_4
def dkwX2_goShifts_2 : List UInt8 := [181, 0, 119, 132, 1, 1, 167, 0, 127, 29, 16, 42, 160, 0, 32, 42, 180, 0, 13, 16, 34, 92, 46, 4]
abbrev dktX2_goShifts_2 : List UInt8 := dkwX2_goShifts_2 ++ dktX2_goShifts_3
def dkwX2_goShifts_1 : List UInt8 := [42, 180, 0, 34, 27, 46, 62, 42, 3, 181, 0, 119, 29, 16, 46, 160, 0, 17, 42, 42, 182, 0, 122]
abbrev dktX2_goShifts_1 : List UInt8 := dkwX2_goShifts_1 ++ dktX2_goShifts_2
def dkwX2_goShifts_0 : List UInt8 := [42, 182, 0, 110, 42, 3, 181, 0, 113, 3, 60, 42, 182, 0, 116, 61, 27, 42, 180, 0, 85, 162, 0, 244]
abbrev dktX2_goShifts_0 : List UInt8 := dkwX2_goShifts_0 ++ dktX2_goShifts_1
theorem dksX2_goShifts_0 : cX2_goShifts.data.toList.drop 0 = dktX2_goShifts_0 := by decide +kernel
theorem dksX2_goShifts_1 : cX2_goShifts.data.toList.drop 24 = dktX2_goShifts_1 := dk_seg dksX2_goShifts_0 24 rfl rfl
theorem dksX2_goShifts_2 : cX2_goShifts.data.toList.drop 47 = dktX2_goShifts_2 := dk_seg dksX2_goShifts_1 23 rfl rfl
theorem dksX2_goShifts_3 : cX2_goShifts.data.toList.drop 71 = dktX2_goShifts_3 := dk_seg dksX2_goShifts_2 24 rfl rfl
theorem dksX2_goShifts_4 : cX2_goShifts.data.toList.drop 95 = dktX2_goShifts_4 := dk_seg dksX2_goShifts_3 24 rfl rfl
theorem dksX2_goShifts_5 : cX2_goShifts.data.toList.drop 117 = dktX2_goShifts_5 := dk_seg dksX2_goShifts_4 22 rfl rfl
theorem dksX2_goShifts_6 : cX2_goShifts.data.toList.drop 140 = dktX2_goShifts_6 := dk_seg dksX2_goShifts_5 23 rfl rfl
theorem dksX2_goShifts_7 : cX2_goShifts.data.toList.drop 162 = dktX2_goShifts_7 := dk_seg dksX2_goShifts_6 22 rfl rfl
theorem dksX2_goShifts_8 : cX2_goShifts.data.toList.drop 184 = dktX2_goShifts_8 := dk_seg dksX2_goShifts_7 22 rfl rfl
theorem dksX2_goShifts_9 : cX2_goShifts.data.toList.drop 208 = dktX2_goShifts_9 := dk_seg dksX2_goShifts_8 24 rfl rfl
theorem dksX2_goShifts_10 : cX2_goShifts.data.toList.drop 231 = dktX2_goShifts_10 := dk_seg dksX2_goShifts_9 23 rfl rfl
theorem dksX2_goShifts_11 : cX2_goShifts.data.toList.drop 254 = dktX2_goShifts_11 := dk_seg dksX2_goShifts_10 23 rfl rfl
theorem dX2_goShifts_0 : decode cX2_goShifts 0 = .ok (.aload_n 0, 1) := dk_42 (dk_at dksX2_goShifts_0 0 rfl rfl)
theorem dX2_goShifts_1 : decode cX2_goShifts 1 = .ok (.invokevirtual 110, 3) := dk_182 0 110 (dk_at dksX2_goShifts_0 1 rfl rfl)
theorem dX2_goShifts_4 : decode cX2_goShifts 4 = .ok (.aload_n 0, 1) := dk_42 (dk_at dksX2_goShifts_0 4 rfl rfl)
theorem dX2_goShifts_5 : decode cX2_goShifts 5 = .ok (.iconst 0, 1) := dk_3 (dk_at dksX2_goShifts_0 5 rfl rfl)
theorem dX2_goShifts_6 : decode cX2_goShifts 6 = .ok (.putfield 113, 3) := dk_181 0 113 (dk_at dksX2_goShifts_0 6 rfl rfl)
theorem dX2_goShifts_9 : decode cX2_goShifts 9 = .ok (.iconst 0, 1) := dk_3 (dk_at dksX2_goShifts_0 9 rfl rfl)
theorem dX2_goShifts_10 : decode cX2_goShifts 10 = .ok (.istore_n 1, 1) := dk_60 (dk_at dksX2_goShifts_0 10 rfl rfl)
theorem dX2_goShifts_11 : decode cX2_goShifts 11 = .ok (.aload_n 0, 1) := dk_42 (dk_at dksX2_goShifts_0 11 rfl rfl)
theorem dX2_goShifts_12 : decode cX2_goShifts 12 = .ok (.invokevirtual 116, 3) := dk_182 0 116 (dk_at dksX2_goShifts_0 12 rfl rfl)
theorem dX2_goShifts_15 : decode cX2_goShifts 15 = .ok (.istore_n 2, 1) := dk_61 (dk_at dksX2_goShifts_0 15 rfl rfl)
theorem dX2_goShifts_16 : decode cX2_goShifts 16 = .ok (.iload_n 1, 1) := dk_27 (dk_at dksX2_goShifts_0 16 rfl rfl)
theorem dX2_goShifts_17 : decode cX2_goShifts 17 = .ok (.aload_n 0, 1) := dk_42 (dk_at dksX2_goShifts_0 17 rfl rfl)
theorem dX2_goShifts_18 : decode cX2_goShifts 18 = .ok (.getfield 85, 3) := dk_180 0 85 (dk_at dksX2_goShifts_0 18 rfl rfl)
theorem dX2_goShifts_21 : decode cX2_goShifts 21 = .ok (.if_icmp .ge 244, 3) := dk_162 0 244 (dk_at dksX2_goShifts_0 21 rfl rfl)
theorem dX2_goShifts_24 : decode cX2_goShifts 24 = .ok (.aload_n 0, 1) := dk_42 (dk_at dksX2_goShifts_1 0 rfl rfl)
theorem dX2_goShifts_25 : decode cX2_goShifts 25 = .ok (.getfield 34, 3) := dk_180 0 34 (dk_at dksX2_goShifts_1 1 rfl rfl)
theorem dX2_goShifts_28 : decode cX2_goShifts 28 = .ok (.iload_n 1, 1) := dk_27 (dk_at dksX2_goShifts_1 4 rfl rfl)
theorem dX2_goShifts_29 : decode cX2_goShifts 29 = .ok (.iaload, 1) := dk_46 (dk_at dksX2_goShifts_1 5 rfl rfl)
theorem dX2_goShifts_30 : decode cX2_goShifts 30 = .ok (.istore_n 3, 1) := dk_62 (dk_at dksX2_goShifts_1 6 rfl rfl)
theorem dX2_goShifts_31 : decode cX2_goShifts 31 = .ok (.aload_n 0, 1) := dk_42 (dk_at dksX2_goShifts_1 7 rfl rfl)
theorem dX2_goShifts_32 : decode cX2_goShifts 32 = .ok (.iconst 0, 1) := dk_3 (dk_at dksX2_goShifts_1 8 rfl rfl)
theorem dX2_goShifts_33 : decode cX2_goShifts 33 = .ok (.putfield 119, 3) := dk_181 0 119 (dk_at dksX2_goShifts_1 9 rfl rfl)
theorem dX2_goShifts_36 : decode cX2_goShifts 36 = .ok (.iload_n 3, 1) := dk_29 (dk_at dksX2_goShifts_1 12 rfl rfl)
theorem dX2_goShifts_37 : decode cX2_goShifts 37 = .ok (.bipush 46, 2) := dk_16 46 (dk_at dksX2_goShifts_1 13 rfl rfl)
theorem dX2_goShifts_39 : decode cX2_goShifts 39 = .ok (.if_icmp .ne 17, 3) := dk_160 0 17 (dk_at dksX2_goShifts_1 15 rfl rfl)
theorem dX2_goShifts_42 : decode cX2_goShifts 42 = .ok (.aload_n 0, 1) := dk_42 (dk_at dksX2_goShifts_1 18 rfl rfl)
theorem dX2_goShifts_43 : decode cX2_goShifts 43 = .ok (.aload_n 0, 1) := dk_42 (dk_at dksX2_goShifts_1 19 rfl rfl)
theorem dX2_goShifts_44 : decode cX2_goShifts 44 = .ok (.invokevirtual 122, 3) := dk_182 0 122 (dk_at dksX2_goShifts_1 20 rfl rfl)
theorem dX2_goShifts_47 : decode cX2_goShifts 47 = .ok (.putfield 119, 3) := dk_181 0 119 (dk_at dksX2_goShifts_2 0 rfl rfl)
theorem dX2_goShifts_50 : decode cX2_goShifts 50 = .ok (.iinc 1 1, 3) := dk_132 1 1 (dk_at dksX2_goShifts_2 3 rfl rfl)
theorem dX2_goShifts_53 : decode cX2_goShifts 53 = .ok (.goto 127, 3) := dk_167 0 127 (dk_at dksX2_goShifts_2 6 rfl rfl)
theorem dX2_goShifts_56 : decode cX2_goShifts 56 = .ok (.iload_n 3, 1) := dk_29 (dk_at dksX2_goShifts_2 9 rfl rfl)
theorem dX2_goShifts_57 : decode cX2_goShifts 57 = .ok (.bipush 42, 2) := dk_16 42 (dk_at dksX2_goShifts_2 10 rfl rfl)
theorem dX2_goShifts_59 : decode cX2_goShifts 59 = .ok (.if_icmp .ne 32, 3) := dk_160 0 32 (dk_at dksX2_goShifts_2 12 rfl rfl)
theorem dX2_goShifts_62 : decode cX2_goShifts 62 = .ok (.aload_n 0, 1) := dk_42 (dk_at dksX2_goShifts_2 15 rfl rfl)
theorem dX2_goShifts_63 : decode cX2_goShifts 63 = .ok (.getfield 13, 3) := dk_180 0 13 (dk_at dksX2_goShifts_2 16 rfl rfl)
theorem dX2_goShifts_66 : decode cX2_goShifts 66 = .ok (.bipush 34, 2) := dk_16 34 (dk_at dksX2_goShifts_2 19 rfl rfl)
theorem dX2_goShifts_68 : decode cX2_goShifts 68 = .ok (.dup2, 1) := dk_92 (dk_at dksX2_goShifts_2 21 rfl rfl)
theorem dX2_goShifts_69 : decode cX2_goShifts 69 = .ok (.iaload, 1) := dk_46 (dk_at dksX2_goShifts_2 22 rfl rfl)
theorem dX2_goShifts_70 : decode cX2_goShifts 70 = .ok (.iconst 1, 1) := dk_4 (dk_at dksX2_goShifts_2 23 rfl rfl)
theorem dX2_goShifts_71 : decode cX2_goShifts 71 = .ok (.aload_n 0, 1) := dk_42 (dk_at dksX2_goShifts_3 0 rfl rfl)
theorem dX2_goShifts_72 : decode cX2_goShifts 72 = .ok (.getfield 34, 3) := dk_180 0 34 (dk_at dksX2_goShifts_3 1 rfl rfl)
theorem dX2_goShifts_75 : decode cX2_goShifts 75 = .ok (.iload_n 1, 1) := dk_27 (dk_at dksX2_goShifts_3 4 rfl rfl)
theorem dX2_goShifts_76 : decode cX2_goShifts 76 = .ok (.iconst 1, 1) := dk_4 (dk_at dksX2_goShifts_3 5 rfl rfl)
theorem dX2_goShifts_77 : decode cX2_goShifts 77 = .ok (.iadd, 1) := dk_96 (dk_at dksX2_goShifts_3 6 rfl rfl)
theorem dX2_goShifts_78 : decode cX2_goShifts 78 = .ok (.iaload, 1) := dk_46 (dk_at dksX2_goShifts_3 7 rfl rfl)
theorem dX2_goShifts_79 : decode cX2_goShifts 79 = .ok (.bipush 48, 2) := dk_16 48 (dk_at dksX2_goShifts_3 8 rfl rfl)
theorem dX2_goShifts_81 : decode cX2_goShifts 81 = .ok (.isub, 1) := dk_100 (dk_at dksX2_goShifts_3 10 rfl rfl)
theorem dX2_goShifts_82 : decode cX2_goShifts 82 = .ok (.ishl, 1) := dk_120 (dk_at dksX2_goShifts_3 11 rfl rfl)
theorem dX2_goShifts_83 : decode cX2_goShifts 83 = .ok (.ixor, 1) := dk_130 (dk_at dksX2_goShifts_3 12 rfl rfl)
theorem dX2_goShifts_84 : decode cX2_goShifts 84 = .ok (.iastore, 1) := dk_79 (dk_at dksX2_goShifts_3 13 rfl rfl)
theorem dX2_goShifts_85 : decode cX2_goShifts 85 = .ok (.iinc 1 2, 3) := dk_132 1 2 (dk_at dksX2_goShifts_3 14 rfl rfl)
theorem dX2_goShifts_88 : decode cX2_goShifts 88 = .ok (.goto 92, 3) := dk_167 0 92 (dk_at dksX2_goShifts_3 17 rfl rfl)
theorem dX2_goShifts_91 : decode cX2_goShifts 91 = .ok (.aload_n 0, 1) := dk_42 (dk_at dksX2_goShifts_3 20 rfl rfl)
theorem dX2_goShifts_92 : decode cX2_goShifts 92 = .ok (.getfield 34, 3) := dk_180 0 34 (dk_at dksX2_goShifts_3 21 rfl rfl)
theorem dX2_goShifts_95 : decode cX2_goShifts 95 = .ok (.iload_n 1, 1) := dk_27 (dk_at dksX2_goShifts_4 0 rfl rfl)
theorem dX2_goShifts_96 : decode cX2_goShifts 96 = .ok (.iconst 1, 1) := dk_4 (dk_at dksX2_goShifts_4 1 rfl rfl)
theorem dX2_goShifts_97 : decode cX2_goShifts 97 = .ok (.iadd, 1) := dk_96 (dk_at dksX2_goShifts_4 2 rfl rfl)
theorem dX2_goShifts_98 : decode cX2_goShifts 98 = .ok (.iaload, 1) := dk_46 (dk_at dksX2_goShifts_4 3 rfl rfl)
theorem dX2_goShifts_99 : decode cX2_goShifts 99 = .ok (.istore 4, 2) := dk_54 4 (dk_at dksX2_goShifts_4 4 rfl rfl)
theorem dX2_goShifts_101 : decode cX2_goShifts 101 = .ok (.aload_n 0, 1) := dk_42 (dk_at dksX2_goShifts_4 6 rfl rfl)
theorem dX2_goShifts_102 : decode cX2_goShifts 102 = .ok (.iload 4, 2) := dk_21 4 (dk_at dksX2_goShifts_4 7 rfl rfl)
theorem dX2_goShifts_104 : decode cX2_goShifts 104 = .ok (.bipush 45, 2) := dk_16 45 (dk_at dksX2_goShifts_4 9 rfl rfl)
theorem dX2_goShifts_106 : decode cX2_goShifts 106 = .ok (.if_icmp .ne 14, 3) := dk_160 0 14 (dk_at dksX2_goShifts_4 11 rfl rfl)
theorem dX2_goShifts_109 : decode cX2_goShifts 109 = .ok (.aload_n 0, 1) := dk_42 (dk_at dksX2_goShifts_4 14 rfl rfl)
theorem dX2_goShifts_110 : decode cX2_goShifts 110 = .ok (.iload_n 3, 1) := dk_29 (dk_at dksX2_goShifts_4 15 rfl rfl)
theorem dX2_goShifts_111 : decode cX2_goShifts 111 = .ok (.bipush 65, 2) := dk_16 65 (dk_at dksX2_goShifts_4 16 rfl rfl)
theorem dX2_goShifts_113 : decode cX2_goShifts 113 = .ok (.isub, 1) := dk_100 (dk_at dksX2_goShifts_4 18 rfl rfl)
theorem dX2_goShifts_114 : decode cX2_goShifts 114 = .ok (.invokevirtual 125, 3) := dk_182 0 125 (dk_at dksX2_goShifts_4 19 rfl rfl)
theorem dX2_goShifts_117 : decode cX2_goShifts 117 = .ok (.goto 45, 3) := dk_167 0 45 (dk_at dksX2_goShifts_5 0 rfl rfl)
theorem dX2_goShifts_120 : decode cX2_goShifts 120 = .ok (.iload 4, 2) := dk_21 4 (dk_at dksX2_goShifts_5 3 rfl rfl)
theorem dX2_goShifts_122 : decode cX2_goShifts 122 = .ok (.bipush 62, 2) := dk_16 62 (dk_at dksX2_goShifts_5 5 rfl rfl)
theorem dX2_goShifts_124 : decode cX2_goShifts 124 = .ok (.if_icmp .ne 25, 3) := dk_160 0 25 (dk_at dksX2_goShifts_5 7 rfl rfl)
theorem dX2_goShifts_127 : decode cX2_goShifts 127 = .ok (.aload_n 0, 1) := dk_42 (dk_at dksX2_goShifts_5 10 rfl rfl)
theorem dX2_goShifts_128 : decode cX2_goShifts 128 = .ok (.iload_n 3, 1) := dk_29 (dk_at dksX2_goShifts_5 11 rfl rfl)
theorem dX2_goShifts_129 : decode cX2_goShifts 129 = .ok (.bipush 65, 2) := dk_16 65 (dk_at dksX2_goShifts_5 12 rfl rfl)
theorem dX2_goShifts_131 : decode cX2_goShifts 131 = .ok (.isub, 1) := dk_100 (dk_at dksX2_goShifts_5 14 rfl rfl)
theorem dX2_goShifts_132 : decode cX2_goShifts 132 = .ok (.aload_n 0, 1) := dk_42 (dk_at dksX2_goShifts_5 15 rfl rfl)
theorem dX2_goShifts_133 : decode cX2_goShifts 133 = .ok (.getfield 34, 3) := dk_180 0 34 (dk_at dksX2_goShifts_5 16 rfl rfl)
theorem dX2_goShifts_136 : decode cX2_goShifts 136 = .ok (.iload_n 1, 1) := dk_27 (dk_at dksX2_goShifts_5 19 rfl rfl)
theorem dX2_goShifts_137 : decode cX2_goShifts 137 = .ok (.iconst 2, 1) := dk_5 (dk_at dksX2_goShifts_5 20 rfl rfl)
theorem dX2_goShifts_138 : decode cX2_goShifts 138 = .ok (.iadd, 1) := dk_96 (dk_at dksX2_goShifts_5 21 rfl rfl)
theorem dX2_goShifts_139 : decode cX2_goShifts 139 = .ok (.iaload, 1) := dk_46 (dk_at dksX2_goShifts_5 22 rfl rfl)
theorem dX2_goShifts_140 : decode cX2_goShifts 140 = .ok (.bipush 48, 2) := dk_16 48 (dk_at dksX2_goShifts_6 0 rfl rfl)
theorem dX2_goShifts_142 : decode cX2_goShifts 142 = .ok (.isub, 1) := dk_100 (dk_at dksX2_goShifts_6 2 rfl rfl)
theorem dX2_goShifts_143 : decode cX2_goShifts 143 = .ok (.invokevirtual 128, 3) := dk_182 0 128 (dk_at dksX2_goShifts_6 3 rfl rfl)
theorem dX2_goShifts_146 : decode cX2_goShifts 146 = .ok (.goto 16, 3) := dk_167 0 16 (dk_at dksX2_goShifts_6 6 rfl rfl)
theorem dX2_goShifts_149 : decode cX2_goShifts 149 = .ok (.aload_n 0, 1) := dk_42 (dk_at dksX2_goShifts_6 9 rfl rfl)
theorem dX2_goShifts_150 : decode cX2_goShifts 150 = .ok (.iload_n 3, 1) := dk_29 (dk_at dksX2_goShifts_6 10 rfl rfl)
theorem dX2_goShifts_151 : decode cX2_goShifts 151 = .ok (.bipush 65, 2) := dk_16 65 (dk_at dksX2_goShifts_6 11 rfl rfl)
theorem dX2_goShifts_153 : decode cX2_goShifts 153 = .ok (.isub, 1) := dk_100 (dk_at dksX2_goShifts_6 13 rfl rfl)
theorem dX2_goShifts_154 : decode cX2_goShifts 154 = .ok (.iload 4, 2) := dk_21 4 (dk_at dksX2_goShifts_6 14 rfl rfl)
theorem dX2_goShifts_156 : decode cX2_goShifts 156 = .ok (.bipush 97, 2) := dk_16 97 (dk_at dksX2_goShifts_6 16 rfl rfl)
theorem dX2_goShifts_158 : decode cX2_goShifts 158 = .ok (.isub, 1) := dk_100 (dk_at dksX2_goShifts_6 18 rfl rfl)
theorem dX2_goShifts_159 : decode cX2_goShifts 159 = .ok (.invokevirtual 132, 3) := dk_182 0 132 (dk_at dksX2_goShifts_6 19 rfl rfl)
theorem dX2_goShifts_162 : decode cX2_goShifts 162 = .ok (.putfield 119, 3) := dk_181 0 119 (dk_at dksX2_goShifts_7 0 rfl rfl)
theorem dX2_goShifts_165 : decode cX2_goShifts 165 = .ok (.iload_n 1, 1) := dk_27 (dk_at dksX2_goShifts_7 3 rfl rfl)
theorem dX2_goShifts_166 : decode cX2_goShifts 166 = .ok (.iload 4, 2) := dk_21 4 (dk_at dksX2_goShifts_7 4 rfl rfl)
theorem dX2_goShifts_168 : decode cX2_goShifts 168 = .ok (.bipush 62, 2) := dk_16 62 (dk_at dksX2_goShifts_7 6 rfl rfl)
theorem dX2_goShifts_170 : decode cX2_goShifts 170 = .ok (.if_icmp .ne 7, 3) := dk_160 0 7 (dk_at dksX2_goShifts_7 8 rfl rfl)
theorem dX2_goShifts_173 : decode cX2_goShifts 173 = .ok (.iconst 3, 1) := dk_6 (dk_at dksX2_goShifts_7 11 rfl rfl)
theorem dX2_goShifts_174 : decode cX2_goShifts 174 = .ok (.goto 4, 3) := dk_167 0 4 (dk_at dksX2_goShifts_7 12 rfl rfl)
theorem dX2_goShifts_177 : decode cX2_goShifts 177 = .ok (.iconst 2, 1) := dk_5 (dk_at dksX2_goShifts_7 15 rfl rfl)
theorem dX2_goShifts_178 : decode cX2_goShifts 178 = .ok (.iadd, 1) := dk_96 (dk_at dksX2_goShifts_7 16 rfl rfl)
theorem dX2_goShifts_179 : decode cX2_goShifts 179 = .ok (.istore_n 1, 1) := dk_60 (dk_at dksX2_goShifts_7 17 rfl rfl)
theorem dX2_goShifts_180 : decode cX2_goShifts 180 = .ok (.aload_n 0, 1) := dk_42 (dk_at dksX2_goShifts_7 18 rfl rfl)
theorem dX2_goShifts_181 : decode cX2_goShifts 181 = .ok (.getfield 119, 3) := dk_180 0 119 (dk_at dksX2_goShifts_7 19 rfl rfl)
theorem dX2_goShifts_184 : decode cX2_goShifts 184 = .ok (.ifCond .le 8, 3) := dk_158 0 8 (dk_at dksX2_goShifts_8 0 rfl rfl)
theorem dX2_goShifts_187 : decode cX2_goShifts 187 = .ok (.aload_n 0, 1) := dk_42 (dk_at dksX2_goShifts_8 3 rfl rfl)
theorem dX2_goShifts_188 : decode cX2_goShifts 188 = .ok (.getfield 113, 3) := dk_180 0 113 (dk_at dksX2_goShifts_8 4 rfl rfl)
theorem dX2_goShifts_191 : decode cX2_goShifts 191 = .ok (.ireturn, 1) := dk_172 (dk_at dksX2_goShifts_8 7 rfl rfl)
theorem dX2_goShifts_192 : decode cX2_goShifts 192 = .ok (.aload_n 0, 1) := dk_42 (dk_at dksX2_goShifts_8 8 rfl rfl)
theorem dX2_goShifts_193 : decode cX2_goShifts 193 = .ok (.invokevirtual 116, 3) := dk_182 0 116 (dk_at dksX2_goShifts_8 9 rfl rfl)
theorem dX2_goShifts_196 : decode cX2_goShifts 196 = .ok (.istore 4, 2) := dk_54 4 (dk_at dksX2_goShifts_8 12 rfl rfl)
theorem dX2_goShifts_198 : decode cX2_goShifts 198 = .ok (.iconst 0, 1) := dk_3 (dk_at dksX2_goShifts_8 14 rfl rfl)
theorem dX2_goShifts_199 : decode cX2_goShifts 199 = .ok (.istore 5, 2) := dk_54 5 (dk_at dksX2_goShifts_8 15 rfl rfl)
theorem dX2_goShifts_201 : decode cX2_goShifts 201 = .ok (.iload 5, 2) := dk_21 5 (dk_at dksX2_goShifts_8 17 rfl rfl)
theorem dX2_goShifts_203 : decode cX2_goShifts 203 = .ok (.bipush 10, 2) := dk_16 10 (dk_at dksX2_goShifts_8 19 rfl rfl)
theorem dX2_goShifts_205 : decode cX2_goShifts 205 = .ok (.if_icmp .ge 44, 3) := dk_162 0 44 (dk_at dksX2_goShifts_8 21 rfl rfl)
theorem dX2_goShifts_208 : decode cX2_goShifts 208 = .ok (.aload_n 0, 1) := dk_42 (dk_at dksX2_goShifts_9 0 rfl rfl)
theorem dX2_goShifts_209 : decode cX2_goShifts 209 = .ok (.getfield 104, 3) := dk_180 0 104 (dk_at dksX2_goShifts_9 1 rfl rfl)
theorem dX2_goShifts_212 : decode cX2_goShifts 212 = .ok (.ifCond .ge 37, 3) := dk_156 0 37 (dk_at dksX2_goShifts_9 4 rfl rfl)
theorem dX2_goShifts_215 : decode cX2_goShifts 215 = .ok (.iload_n 2, 1) := dk_28 (dk_at dksX2_goShifts_9 7 rfl rfl)
theorem dX2_goShifts_216 : decode cX2_goShifts 216 = .ok (.iload 4, 2) := dk_21 4 (dk_at dksX2_goShifts_9 8 rfl rfl)
theorem dX2_goShifts_218 : decode cX2_goShifts 218 = .ok (.iconst (-1), 1) := dk_2 (dk_at dksX2_goShifts_9 10 rfl rfl)
theorem dX2_goShifts_219 : decode cX2_goShifts 219 = .ok (.ixor, 1) := dk_130 (dk_at dksX2_goShifts_9 11 rfl rfl)
theorem dX2_goShifts_220 : decode cX2_goShifts 220 = .ok (.iand, 1) := dk_126 (dk_at dksX2_goShifts_9 12 rfl rfl)
theorem dX2_goShifts_221 : decode cX2_goShifts 221 = .ok (.iload 5, 2) := dk_21 5 (dk_at dksX2_goShifts_9 13 rfl rfl)
theorem dX2_goShifts_223 : decode cX2_goShifts 223 = .ok (.invokestatic 67, 3) := dk_184 0 67 (dk_at dksX2_goShifts_9 15 rfl rfl)
theorem dX2_goShifts_226 : decode cX2_goShifts 226 = .ok (.ifCond .eq 17, 3) := dk_153 0 17 (dk_at dksX2_goShifts_9 18 rfl rfl)
theorem dX2_goShifts_229 : decode cX2_goShifts 229 = .ok (.aload_n 0, 1) := dk_42 (dk_at dksX2_goShifts_9 21 rfl rfl)
theorem dX2_goShifts_230 : decode cX2_goShifts 230 = .ok (.aload_n 0, 1) := dk_42 (dk_at dksX2_goShifts_9 22 rfl rfl)
theorem dX2_goShifts_231 : decode cX2_goShifts 231 = .ok (.getfield 113, 3) := dk_180 0 113 (dk_at dksX2_goShifts_10 0 rfl rfl)
theorem dX2_goShifts_234 : decode cX2_goShifts 234 = .ok (.putfield 104, 3) := dk_181 0 104 (dk_at dksX2_goShifts_10 3 rfl rfl)
theorem dX2_goShifts_237 : decode cX2_goShifts 237 = .ok (.aload_n 0, 1) := dk_42 (dk_at dksX2_goShifts_10 6 rfl rfl)
theorem dX2_goShifts_238 : decode cX2_goShifts 238 = .ok (.iload 5, 2) := dk_21 5 (dk_at dksX2_goShifts_10 7 rfl rfl)
theorem dX2_goShifts_240 : decode cX2_goShifts 240 = .ok (.putfield 107, 3) := dk_181 0 107 (dk_at dksX2_goShifts_10 9 rfl rfl)
theorem dX2_goShifts_243 : decode cX2_goShifts 243 = .ok (.iinc 5 1, 3) := dk_132 5 1 (dk_at dksX2_goShifts_10 12 rfl rfl)
theorem dX2_goShifts_246 : decode cX2_goShifts 246 = .ok (.goto (-45), 3) := dk_167 255 211 (dk_at dksX2_goShifts_10 15 rfl rfl)
theorem dX2_goShifts_249 : decode cX2_goShifts 249 = .ok (.iload 4, 2) := dk_21 4 (dk_at dksX2_goShifts_10 18 rfl rfl)
theorem dX2_goShifts_251 : decode cX2_goShifts 251 = .ok (.istore_n 2, 1) := dk_61 (dk_at dksX2_goShifts_10 20 rfl rfl)
theorem dX2_goShifts_252 : decode cX2_goShifts 252 = .ok (.aload_n 0, 1) := dk_42 (dk_at dksX2_goShifts_10 21 rfl rfl)
theorem dX2_goShifts_253 : decode cX2_goShifts 253 = .ok (.dup, 1) := dk_89 (dk_at dksX2_goShifts_10 22 rfl rfl)
theorem dX2_goShifts_254 : decode cX2_goShifts 254 = .ok (.getfield 113, 3) := dk_180 0 113 (dk_at dksX2_goShifts_11 0 rfl rfl)
theorem dX2_goShifts_257 : decode cX2_goShifts 257 = .ok (.iconst 1, 1) := dk_4 (dk_at dksX2_goShifts_11 3 rfl rfl)
theorem dX2_goShifts_258 : decode cX2_goShifts 258 = .ok (.iadd, 1) := dk_96 (dk_at dksX2_goShifts_11 4 rfl rfl)
theorem dX2_goShifts_259 : decode cX2_goShifts 259 = .ok (.putfield 113, 3) := dk_181 0 113 (dk_at dksX2_goShifts_11 5 rfl rfl)
theorem dX2_goShifts_262 : decode cX2_goShifts 262 = .ok (.goto (-246), 3) := dk_167 255 10 (dk_at dksX2_goShifts_11 8 rfl rfl)
theorem dX2_goShifts_265 : decode cX2_goShifts 265 = .ok (.bipush (-6), 2) := dk_16 250 (dk_at dksX2_goShifts_11 11 rfl rfl)
theorem dX2_goShifts_267 : decode cX2_goShifts 267 = .ok (.ireturn, 1) := dk_172 (dk_at dksX2_goShifts_11 13 rfl rfl)
abbrev cX2_asNow : ByteArray := prog_4_method_21_code
def yX2_asNow : MethodName := ⟨RX2, "asNow", "()V"⟩
def dkwX2_asNow_1 : List UInt8 := [167, 255, 235, 42, 16, 250, 181, 0, 104, 42, 16, 250, 181, 0, 107, 177]
abbrev dktX2_asNow_1 : List UInt8 := dkwX2_asNow_1 ++ []
def dkwX2_asNow_0 : List UInt8 := [3, 60, 27, 16, 36, 162, 0, 21, 42, 180, 0, 13, 27, 42, 180, 0, 7, 27, 46, 79, 132, 1, 1]
abbrev dktX2_asNow_0 : List UInt8 := dkwX2_asNow_0 ++ dktX2_asNow_1
theorem dksX2_asNow_0 : cX2_asNow.data.toList.drop 0 = dktX2_asNow_0 := by decide +kernel
theorem dksX2_asNow_1 : cX2_asNow.data.toList.drop 23 = dktX2_asNow_1 := dk_seg dksX2_asNow_0 23 rfl rfl
theorem dX2_asNow_0 : decode cX2_asNow 0 = .ok (.iconst 0, 1) := dk_3 (dk_at dksX2_asNow_0 0 rfl rfl)
theorem dX2_asNow_1 : decode cX2_asNow 1 = .ok (.istore_n 1, 1) := dk_60 (dk_at dksX2_asNow_0 1 rfl rfl)
theorem dX2_asNow_2 : decode cX2_asNow 2 = .ok (.iload_n 1, 1) := dk_27 (dk_at dksX2_asNow_0 2 rfl rfl)
theorem dX2_asNow_3 : decode cX2_asNow 3 = .ok (.bipush 36, 2) := dk_16 36 (dk_at dksX2_asNow_0 3 rfl rfl)
theorem dX2_asNow_5 : decode cX2_asNow 5 = .ok (.if_icmp .ge 21, 3) := dk_162 0 21 (dk_at dksX2_asNow_0 5 rfl rfl)
theorem dX2_asNow_8 : decode cX2_asNow 8 = .ok (.aload_n 0, 1) := dk_42 (dk_at dksX2_asNow_0 8 rfl rfl)
theorem dX2_asNow_9 : decode cX2_asNow 9 = .ok (.getfield 13, 3) := dk_180 0 13 (dk_at dksX2_asNow_0 9 rfl rfl)
theorem dX2_asNow_12 : decode cX2_asNow 12 = .ok (.iload_n 1, 1) := dk_27 (dk_at dksX2_asNow_0 12 rfl rfl)
theorem dX2_asNow_13 : decode cX2_asNow 13 = .ok (.aload_n 0, 1) := dk_42 (dk_at dksX2_asNow_0 13 rfl rfl)
theorem dX2_asNow_14 : decode cX2_asNow 14 = .ok (.getfield 7, 3) := dk_180 0 7 (dk_at dksX2_asNow_0 14 rfl rfl)
theorem dX2_asNow_17 : decode cX2_asNow 17 = .ok (.iload_n 1, 1) := dk_27 (dk_at dksX2_asNow_0 17 rfl rfl)
theorem dX2_asNow_18 : decode cX2_asNow 18 = .ok (.iaload, 1) := dk_46 (dk_at dksX2_asNow_0 18 rfl rfl)
theorem dX2_asNow_19 : decode cX2_asNow 19 = .ok (.iastore, 1) := dk_79 (dk_at dksX2_asNow_0 19 rfl rfl)
theorem dX2_asNow_20 : decode cX2_asNow 20 = .ok (.iinc 1 1, 3) := dk_132 1 1 (dk_at dksX2_asNow_0 20 rfl rfl)
theorem dX2_asNow_23 : decode cX2_asNow 23 = .ok (.goto (-21), 3) := dk_167 255 235 (dk_at dksX2_asNow_1 0 rfl rfl)
theorem dX2_asNow_26 : decode cX2_asNow 26 = .ok (.aload_n 0, 1) := dk_42 (dk_at dksX2_asNow_1 3 rfl rfl)
theorem dX2_asNow_27 : decode cX2_asNow 27 = .ok (.bipush (-6), 2) := dk_16 250 (dk_at dksX2_asNow_1 4 rfl rfl)
theorem dX2_asNow_29 : decode cX2_asNow 29 = .ok (.putfield 104, 3) := dk_181 0 104 (dk_at dksX2_asNow_1 6 rfl rfl)
theorem dX2_asNow_32 : decode cX2_asNow 32 = .ok (.aload_n 0, 1) := dk_42 (dk_at dksX2_asNow_1 9 rfl rfl)
theorem dX2_asNow_33 : decode cX2_asNow 33 = .ok (.bipush (-6), 2) := dk_16 250 (dk_at dksX2_asNow_1 10 rfl rfl)
theorem dX2_asNow_35 : decode cX2_asNow 35 = .ok (.putfield 107, 3) := dk_181 0 107 (dk_at dksX2_asNow_1 12 rfl rfl)
theorem dX2_asNow_38 : decode cX2_asNow 38 = .ok (.return_, 1) := dk_177 (dk_at dksX2_asNow_1 15 rfl rfl)
abbrev cX2_lamps : ByteArray := prog_4_method_20_code
def yX2_lamps : MethodName := ⟨RX2, "lamps", "()I"⟩
def dkwX2_lamps_1 : List UInt8 := [167, 0, 4, 3, 128, 60, 132, 2, 1, 167, 255, 229, 27, 172]
abbrev dktX2_lamps_1 : List UInt8 := dkwX2_lamps_1 ++ []
def dkwX2_lamps_0 : List UInt8 := [3, 60, 3, 61, 28, 16, 10, 162, 0, 27, 27, 42, 28, 182, 0, 101, 158, 0, 9, 4, 28, 120]
abbrev dktX2_lamps_0 : List UInt8 := dkwX2_lamps_0 ++ dktX2_lamps_1
theorem dksX2_lamps_0 : cX2_lamps.data.toList.drop 0 = dktX2_lamps_0 := by decide +kernel
theorem dksX2_lamps_1 : cX2_lamps.data.toList.drop 22 = dktX2_lamps_1 := dk_seg dksX2_lamps_0 22 rfl rfl
theorem dX2_lamps_0 : decode cX2_lamps 0 = .ok (.iconst 0, 1) := dk_3 (dk_at dksX2_lamps_0 0 rfl rfl)
theorem dX2_lamps_1 : decode cX2_lamps 1 = .ok (.istore_n 1, 1) := dk_60 (dk_at dksX2_lamps_0 1 rfl rfl)
theorem dX2_lamps_2 : decode cX2_lamps 2 = .ok (.iconst 0, 1) := dk_3 (dk_at dksX2_lamps_0 2 rfl rfl)
theorem dX2_lamps_3 : decode cX2_lamps 3 = .ok (.istore_n 2, 1) := dk_61 (dk_at dksX2_lamps_0 3 rfl rfl)
theorem dX2_lamps_4 : decode cX2_lamps 4 = .ok (.iload_n 2, 1) := dk_28 (dk_at dksX2_lamps_0 4 rfl rfl)
theorem dX2_lamps_5 : decode cX2_lamps 5 = .ok (.bipush 10, 2) := dk_16 10 (dk_at dksX2_lamps_0 5 rfl rfl)
theorem dX2_lamps_7 : decode cX2_lamps 7 = .ok (.if_icmp .ge 27, 3) := dk_162 0 27 (dk_at dksX2_lamps_0 7 rfl rfl)
theorem dX2_lamps_10 : decode cX2_lamps 10 = .ok (.iload_n 1, 1) := dk_27 (dk_at dksX2_lamps_0 10 rfl rfl)
theorem dX2_lamps_11 : decode cX2_lamps 11 = .ok (.aload_n 0, 1) := dk_42 (dk_at dksX2_lamps_0 11 rfl rfl)
theorem dX2_lamps_12 : decode cX2_lamps 12 = .ok (.iload_n 2, 1) := dk_28 (dk_at dksX2_lamps_0 12 rfl rfl)
theorem dX2_lamps_13 : decode cX2_lamps 13 = .ok (.invokevirtual 101, 3) := dk_182 0 101 (dk_at dksX2_lamps_0 13 rfl rfl)
theorem dX2_lamps_16 : decode cX2_lamps 16 = .ok (.ifCond .le 9, 3) := dk_158 0 9 (dk_at dksX2_lamps_0 16 rfl rfl)
theorem dX2_lamps_19 : decode cX2_lamps 19 = .ok (.iconst 1, 1) := dk_4 (dk_at dksX2_lamps_0 19 rfl rfl)
theorem dX2_lamps_20 : decode cX2_lamps 20 = .ok (.iload_n 2, 1) := dk_28 (dk_at dksX2_lamps_0 20 rfl rfl)
theorem dX2_lamps_21 : decode cX2_lamps 21 = .ok (.ishl, 1) := dk_120 (dk_at dksX2_lamps_0 21 rfl rfl)
theorem dX2_lamps_22 : decode cX2_lamps 22 = .ok (.goto 4, 3) := dk_167 0 4 (dk_at dksX2_lamps_1 0 rfl rfl)
theorem dX2_lamps_25 : decode cX2_lamps 25 = .ok (.iconst 0, 1) := dk_3 (dk_at dksX2_lamps_1 3 rfl rfl)
theorem dX2_lamps_26 : decode cX2_lamps 26 = .ok (.ior, 1) := dk_128 (dk_at dksX2_lamps_1 4 rfl rfl)
theorem dX2_lamps_27 : decode cX2_lamps 27 = .ok (.istore_n 1, 1) := dk_60 (dk_at dksX2_lamps_1 5 rfl rfl)
theorem dX2_lamps_28 : decode cX2_lamps 28 = .ok (.iinc 2 1, 3) := dk_132 2 1 (dk_at dksX2_lamps_1 6 rfl rfl)
theorem dX2_lamps_31 : decode cX2_lamps 31 = .ok (.goto (-27), 3) := dk_167 255 229 (dk_at dksX2_lamps_1 9 rfl rfl)
theorem dX2_lamps_34 : decode cX2_lamps 34 = .ok (.iload_n 1, 1) := dk_27 (dk_at dksX2_lamps_1 12 rfl rfl)
theorem dX2_lamps_35 : decode cX2_lamps 35 = .ok (.ireturn, 1) := dk_172 (dk_at dksX2_lamps_1 13 rfl rfl)
abbrev cX2_lightOf : ByteArray := prog_4_method_19_code
def yX2_lightOf : MethodName := ⟨RX2, "lightOf", "(I)I"⟩
def dkwX2_lightOf_2 : List UInt8 := [167, 0, 4, 28, 61, 132, 3, 1, 167, 255, 210, 28, 172]
abbrev dktX2_lightOf_2 : List UInt8 := dkwX2_lightOf_2 ++ []
def dkwX2_lightOf_1 : List UInt8 := [46, 27, 160, 0, 25, 42, 29, 182, 0, 98, 5, 108, 54, 4, 21, 4, 28, 164, 0, 8, 21, 4]
abbrev dktX2_lightOf_1 : List UInt8 := dkwX2_lightOf_1 ++ dktX2_lightOf_2
def dkwX2_lightOf_0 : List UInt8 := [42, 27, 182, 0, 98, 61, 3, 62, 29, 16, 10, 162, 0, 46, 29, 27, 159, 0, 35, 42, 180, 0, 28, 29]
abbrev dktX2_lightOf_0 : List UInt8 := dkwX2_lightOf_0 ++ dktX2_lightOf_1
theorem dksX2_lightOf_0 : cX2_lightOf.data.toList.drop 0 = dktX2_lightOf_0 := by decide +kernel
theorem dksX2_lightOf_1 : cX2_lightOf.data.toList.drop 24 = dktX2_lightOf_1 := dk_seg dksX2_lightOf_0 24 rfl rfl
theorem dksX2_lightOf_2 : cX2_lightOf.data.toList.drop 46 = dktX2_lightOf_2 := dk_seg dksX2_lightOf_1 22 rfl rfl
theorem dX2_lightOf_0 : decode cX2_lightOf 0 = .ok (.aload_n 0, 1) := dk_42 (dk_at dksX2_lightOf_0 0 rfl rfl)
theorem dX2_lightOf_1 : decode cX2_lightOf 1 = .ok (.iload_n 1, 1) := dk_27 (dk_at dksX2_lightOf_0 1 rfl rfl)
theorem dX2_lightOf_2 : decode cX2_lightOf 2 = .ok (.invokevirtual 98, 3) := dk_182 0 98 (dk_at dksX2_lightOf_0 2 rfl rfl)
theorem dX2_lightOf_5 : decode cX2_lightOf 5 = .ok (.istore_n 2, 1) := dk_61 (dk_at dksX2_lightOf_0 5 rfl rfl)
theorem dX2_lightOf_6 : decode cX2_lightOf 6 = .ok (.iconst 0, 1) := dk_3 (dk_at dksX2_lightOf_0 6 rfl rfl)
theorem dX2_lightOf_7 : decode cX2_lightOf 7 = .ok (.istore_n 3, 1) := dk_62 (dk_at dksX2_lightOf_0 7 rfl rfl)
theorem dX2_lightOf_8 : decode cX2_lightOf 8 = .ok (.iload_n 3, 1) := dk_29 (dk_at dksX2_lightOf_0 8 rfl rfl)
theorem dX2_lightOf_9 : decode cX2_lightOf 9 = .ok (.bipush 10, 2) := dk_16 10 (dk_at dksX2_lightOf_0 9 rfl rfl)
theorem dX2_lightOf_11 : decode cX2_lightOf 11 = .ok (.if_icmp .ge 46, 3) := dk_162 0 46 (dk_at dksX2_lightOf_0 11 rfl rfl)
theorem dX2_lightOf_14 : decode cX2_lightOf 14 = .ok (.iload_n 3, 1) := dk_29 (dk_at dksX2_lightOf_0 14 rfl rfl)
theorem dX2_lightOf_15 : decode cX2_lightOf 15 = .ok (.iload_n 1, 1) := dk_27 (dk_at dksX2_lightOf_0 15 rfl rfl)
theorem dX2_lightOf_16 : decode cX2_lightOf 16 = .ok (.if_icmp .eq 35, 3) := dk_159 0 35 (dk_at dksX2_lightOf_0 16 rfl rfl)
theorem dX2_lightOf_19 : decode cX2_lightOf 19 = .ok (.aload_n 0, 1) := dk_42 (dk_at dksX2_lightOf_0 19 rfl rfl)
theorem dX2_lightOf_20 : decode cX2_lightOf 20 = .ok (.getfield 28, 3) := dk_180 0 28 (dk_at dksX2_lightOf_0 20 rfl rfl)
theorem dX2_lightOf_23 : decode cX2_lightOf 23 = .ok (.iload_n 3, 1) := dk_29 (dk_at dksX2_lightOf_0 23 rfl rfl)
theorem dX2_lightOf_24 : decode cX2_lightOf 24 = .ok (.iaload, 1) := dk_46 (dk_at dksX2_lightOf_1 0 rfl rfl)
theorem dX2_lightOf_25 : decode cX2_lightOf 25 = .ok (.iload_n 1, 1) := dk_27 (dk_at dksX2_lightOf_1 1 rfl rfl)
theorem dX2_lightOf_26 : decode cX2_lightOf 26 = .ok (.if_icmp .ne 25, 3) := dk_160 0 25 (dk_at dksX2_lightOf_1 2 rfl rfl)
theorem dX2_lightOf_29 : decode cX2_lightOf 29 = .ok (.aload_n 0, 1) := dk_42 (dk_at dksX2_lightOf_1 5 rfl rfl)
theorem dX2_lightOf_30 : decode cX2_lightOf 30 = .ok (.iload_n 3, 1) := dk_29 (dk_at dksX2_lightOf_1 6 rfl rfl)
theorem dX2_lightOf_31 : decode cX2_lightOf 31 = .ok (.invokevirtual 98, 3) := dk_182 0 98 (dk_at dksX2_lightOf_1 7 rfl rfl)
theorem dX2_lightOf_34 : decode cX2_lightOf 34 = .ok (.iconst 2, 1) := dk_5 (dk_at dksX2_lightOf_1 10 rfl rfl)
theorem dX2_lightOf_35 : decode cX2_lightOf 35 = .ok (.idiv, 1) := dk_108 (dk_at dksX2_lightOf_1 11 rfl rfl)
theorem dX2_lightOf_36 : decode cX2_lightOf 36 = .ok (.istore 4, 2) := dk_54 4 (dk_at dksX2_lightOf_1 12 rfl rfl)
theorem dX2_lightOf_38 : decode cX2_lightOf 38 = .ok (.iload 4, 2) := dk_21 4 (dk_at dksX2_lightOf_1 14 rfl rfl)
theorem dX2_lightOf_40 : decode cX2_lightOf 40 = .ok (.iload_n 2, 1) := dk_28 (dk_at dksX2_lightOf_1 16 rfl rfl)
theorem dX2_lightOf_41 : decode cX2_lightOf 41 = .ok (.if_icmp .le 8, 3) := dk_164 0 8 (dk_at dksX2_lightOf_1 17 rfl rfl)
theorem dX2_lightOf_44 : decode cX2_lightOf 44 = .ok (.iload 4, 2) := dk_21 4 (dk_at dksX2_lightOf_1 20 rfl rfl)
theorem dX2_lightOf_46 : decode cX2_lightOf 46 = .ok (.goto 4, 3) := dk_167 0 4 (dk_at dksX2_lightOf_2 0 rfl rfl)
theorem dX2_lightOf_49 : decode cX2_lightOf 49 = .ok (.iload_n 2, 1) := dk_28 (dk_at dksX2_lightOf_2 3 rfl rfl)
theorem dX2_lightOf_50 : decode cX2_lightOf 50 = .ok (.istore_n 2, 1) := dk_61 (dk_at dksX2_lightOf_2 4 rfl rfl)
theorem dX2_lightOf_51 : decode cX2_lightOf 51 = .ok (.iinc 3 1, 3) := dk_132 3 1 (dk_at dksX2_lightOf_2 5 rfl rfl)
theorem dX2_lightOf_54 : decode cX2_lightOf 54 = .ok (.goto (-46), 3) := dk_167 255 210 (dk_at dksX2_lightOf_2 8 rfl rfl)
theorem dX2_lightOf_57 : decode cX2_lightOf 57 = .ok (.iload_n 2, 1) := dk_28 (dk_at dksX2_lightOf_2 11 rfl rfl)
theorem dX2_lightOf_58 : decode cX2_lightOf 58 = .ok (.ireturn, 1) := dk_172 (dk_at dksX2_lightOf_2 12 rfl rfl)
abbrev cX2_ownLight : ByteArray := prog_4_method_18_code
def yX2_ownLight : MethodName := ⟨RX2, "ownLight", "(I)I"⟩
def dkwX2_ownLight_5 : List UInt8 := [28, 172]
abbrev dktX2_ownLight_5 : List UInt8 := dkwX2_ownLight_5 ++ []
def dkwX2_ownLight_4 : List UInt8 := [96, 28, 164, 0, 14, 42, 180, 0, 13, 29, 46, 4, 96, 167, 0, 4, 28, 61, 132, 3, 1, 167, 255, 144]
abbrev dktX2_ownLight_4 : List UInt8 := dkwX2_ownLight_4 ++ dktX2_ownLight_5
def dkwX2_ownLight_3 : List UInt8 := [167, 0, 4, 3, 54, 4, 132, 5, 1, 167, 255, 197, 21, 4, 153, 0, 26, 42, 180, 0, 13, 29, 46, 4]
abbrev dktX2_ownLight_3 : List UInt8 := dkwX2_ownLight_3 ++ dktX2_ownLight_4
def dkwX2_ownLight_2 : List UInt8 := [159, 0, 23, 42, 21, 5, 27, 182, 0, 92, 153, 0, 13, 42, 29, 21, 5, 182, 0, 95, 154, 0, 7, 4]
abbrev dktX2_ownLight_2 : List UInt8 := dkwX2_ownLight_2 ++ dktX2_ownLight_3
def dkwX2_ownLight_1 : List UInt8 := [16, 8, 162, 0, 58, 21, 4, 153, 0, 53, 42, 180, 0, 79, 27, 184, 0, 67, 153, 0, 29, 21, 5, 29]
abbrev dktX2_ownLight_1 : List UInt8 := dkwX2_ownLight_1 ++ dktX2_ownLight_2
def dkwX2_ownLight_0 : List UInt8 := [3, 61, 3, 62, 29, 16, 8, 162, 0, 112, 42, 29, 27, 182, 0, 92, 54, 4, 3, 54, 5, 21, 5]
abbrev dktX2_ownLight_0 : List UInt8 := dkwX2_ownLight_0 ++ dktX2_ownLight_1
theorem dksX2_ownLight_0 : cX2_ownLight.data.toList.drop 0 = dktX2_ownLight_0 := by decide +kernel
theorem dksX2_ownLight_1 : cX2_ownLight.data.toList.drop 23 = dktX2_ownLight_1 := dk_seg dksX2_ownLight_0 23 rfl rfl
theorem dksX2_ownLight_2 : cX2_ownLight.data.toList.drop 47 = dktX2_ownLight_2 := dk_seg dksX2_ownLight_1 24 rfl rfl
theorem dksX2_ownLight_3 : cX2_ownLight.data.toList.drop 71 = dktX2_ownLight_3 := dk_seg dksX2_ownLight_2 24 rfl rfl
theorem dksX2_ownLight_4 : cX2_ownLight.data.toList.drop 95 = dktX2_ownLight_4 := dk_seg dksX2_ownLight_3 24 rfl rfl
theorem dksX2_ownLight_5 : cX2_ownLight.data.toList.drop 119 = dktX2_ownLight_5 := dk_seg dksX2_ownLight_4 24 rfl rfl
theorem dX2_ownLight_0 : decode cX2_ownLight 0 = .ok (.iconst 0, 1) := dk_3 (dk_at dksX2_ownLight_0 0 rfl rfl)
theorem dX2_ownLight_1 : decode cX2_ownLight 1 = .ok (.istore_n 2, 1) := dk_61 (dk_at dksX2_ownLight_0 1 rfl rfl)
theorem dX2_ownLight_2 : decode cX2_ownLight 2 = .ok (.iconst 0, 1) := dk_3 (dk_at dksX2_ownLight_0 2 rfl rfl)
theorem dX2_ownLight_3 : decode cX2_ownLight 3 = .ok (.istore_n 3, 1) := dk_62 (dk_at dksX2_ownLight_0 3 rfl rfl)
theorem dX2_ownLight_4 : decode cX2_ownLight 4 = .ok (.iload_n 3, 1) := dk_29 (dk_at dksX2_ownLight_0 4 rfl rfl)
theorem dX2_ownLight_5 : decode cX2_ownLight 5 = .ok (.bipush 8, 2) := dk_16 8 (dk_at dksX2_ownLight_0 5 rfl rfl)
theorem dX2_ownLight_7 : decode cX2_ownLight 7 = .ok (.if_icmp .ge 112, 3) := dk_162 0 112 (dk_at dksX2_ownLight_0 7 rfl rfl)
theorem dX2_ownLight_10 : decode cX2_ownLight 10 = .ok (.aload_n 0, 1) := dk_42 (dk_at dksX2_ownLight_0 10 rfl rfl)
theorem dX2_ownLight_11 : decode cX2_ownLight 11 = .ok (.iload_n 3, 1) := dk_29 (dk_at dksX2_ownLight_0 11 rfl rfl)
theorem dX2_ownLight_12 : decode cX2_ownLight 12 = .ok (.iload_n 1, 1) := dk_27 (dk_at dksX2_ownLight_0 12 rfl rfl)
theorem dX2_ownLight_13 : decode cX2_ownLight 13 = .ok (.invokevirtual 92, 3) := dk_182 0 92 (dk_at dksX2_ownLight_0 13 rfl rfl)
theorem dX2_ownLight_16 : decode cX2_ownLight 16 = .ok (.istore 4, 2) := dk_54 4 (dk_at dksX2_ownLight_0 16 rfl rfl)
theorem dX2_ownLight_18 : decode cX2_ownLight 18 = .ok (.iconst 0, 1) := dk_3 (dk_at dksX2_ownLight_0 18 rfl rfl)
theorem dX2_ownLight_19 : decode cX2_ownLight 19 = .ok (.istore 5, 2) := dk_54 5 (dk_at dksX2_ownLight_0 19 rfl rfl)
theorem dX2_ownLight_21 : decode cX2_ownLight 21 = .ok (.iload 5, 2) := dk_21 5 (dk_at dksX2_ownLight_0 21 rfl rfl)
theorem dX2_ownLight_23 : decode cX2_ownLight 23 = .ok (.bipush 8, 2) := dk_16 8 (dk_at dksX2_ownLight_1 0 rfl rfl)
theorem dX2_ownLight_25 : decode cX2_ownLight 25 = .ok (.if_icmp .ge 58, 3) := dk_162 0 58 (dk_at dksX2_ownLight_1 2 rfl rfl)
theorem dX2_ownLight_28 : decode cX2_ownLight 28 = .ok (.iload 4, 2) := dk_21 4 (dk_at dksX2_ownLight_1 5 rfl rfl)
theorem dX2_ownLight_30 : decode cX2_ownLight 30 = .ok (.ifCond .eq 53, 3) := dk_153 0 53 (dk_at dksX2_ownLight_1 7 rfl rfl)
theorem dX2_ownLight_33 : decode cX2_ownLight 33 = .ok (.aload_n 0, 1) := dk_42 (dk_at dksX2_ownLight_1 10 rfl rfl)
theorem dX2_ownLight_34 : decode cX2_ownLight 34 = .ok (.getfield 79, 3) := dk_180 0 79 (dk_at dksX2_ownLight_1 11 rfl rfl)
theorem dX2_ownLight_37 : decode cX2_ownLight 37 = .ok (.iload_n 1, 1) := dk_27 (dk_at dksX2_ownLight_1 14 rfl rfl)
theorem dX2_ownLight_38 : decode cX2_ownLight 38 = .ok (.invokestatic 67, 3) := dk_184 0 67 (dk_at dksX2_ownLight_1 15 rfl rfl)
theorem dX2_ownLight_41 : decode cX2_ownLight 41 = .ok (.ifCond .eq 29, 3) := dk_153 0 29 (dk_at dksX2_ownLight_1 18 rfl rfl)
theorem dX2_ownLight_44 : decode cX2_ownLight 44 = .ok (.iload 5, 2) := dk_21 5 (dk_at dksX2_ownLight_1 21 rfl rfl)
theorem dX2_ownLight_46 : decode cX2_ownLight 46 = .ok (.iload_n 3, 1) := dk_29 (dk_at dksX2_ownLight_1 23 rfl rfl)
theorem dX2_ownLight_47 : decode cX2_ownLight 47 = .ok (.if_icmp .eq 23, 3) := dk_159 0 23 (dk_at dksX2_ownLight_2 0 rfl rfl)
theorem dX2_ownLight_50 : decode cX2_ownLight 50 = .ok (.aload_n 0, 1) := dk_42 (dk_at dksX2_ownLight_2 3 rfl rfl)
theorem dX2_ownLight_51 : decode cX2_ownLight 51 = .ok (.iload 5, 2) := dk_21 5 (dk_at dksX2_ownLight_2 4 rfl rfl)
theorem dX2_ownLight_53 : decode cX2_ownLight 53 = .ok (.iload_n 1, 1) := dk_27 (dk_at dksX2_ownLight_2 6 rfl rfl)
theorem dX2_ownLight_54 : decode cX2_ownLight 54 = .ok (.invokevirtual 92, 3) := dk_182 0 92 (dk_at dksX2_ownLight_2 7 rfl rfl)
theorem dX2_ownLight_57 : decode cX2_ownLight 57 = .ok (.ifCond .eq 13, 3) := dk_153 0 13 (dk_at dksX2_ownLight_2 10 rfl rfl)
theorem dX2_ownLight_60 : decode cX2_ownLight 60 = .ok (.aload_n 0, 1) := dk_42 (dk_at dksX2_ownLight_2 13 rfl rfl)
theorem dX2_ownLight_61 : decode cX2_ownLight 61 = .ok (.iload_n 3, 1) := dk_29 (dk_at dksX2_ownLight_2 14 rfl rfl)
theorem dX2_ownLight_62 : decode cX2_ownLight 62 = .ok (.iload 5, 2) := dk_21 5 (dk_at dksX2_ownLight_2 15 rfl rfl)
theorem dX2_ownLight_64 : decode cX2_ownLight 64 = .ok (.invokevirtual 95, 3) := dk_182 0 95 (dk_at dksX2_ownLight_2 17 rfl rfl)
theorem dX2_ownLight_67 : decode cX2_ownLight 67 = .ok (.ifCond .ne 7, 3) := dk_154 0 7 (dk_at dksX2_ownLight_2 20 rfl rfl)
theorem dX2_ownLight_70 : decode cX2_ownLight 70 = .ok (.iconst 1, 1) := dk_4 (dk_at dksX2_ownLight_2 23 rfl rfl)
theorem dX2_ownLight_71 : decode cX2_ownLight 71 = .ok (.goto 4, 3) := dk_167 0 4 (dk_at dksX2_ownLight_3 0 rfl rfl)
theorem dX2_ownLight_74 : decode cX2_ownLight 74 = .ok (.iconst 0, 1) := dk_3 (dk_at dksX2_ownLight_3 3 rfl rfl)
theorem dX2_ownLight_75 : decode cX2_ownLight 75 = .ok (.istore 4, 2) := dk_54 4 (dk_at dksX2_ownLight_3 4 rfl rfl)
theorem dX2_ownLight_77 : decode cX2_ownLight 77 = .ok (.iinc 5 1, 3) := dk_132 5 1 (dk_at dksX2_ownLight_3 6 rfl rfl)
theorem dX2_ownLight_80 : decode cX2_ownLight 80 = .ok (.goto (-59), 3) := dk_167 255 197 (dk_at dksX2_ownLight_3 9 rfl rfl)
theorem dX2_ownLight_83 : decode cX2_ownLight 83 = .ok (.iload 4, 2) := dk_21 4 (dk_at dksX2_ownLight_3 12 rfl rfl)
theorem dX2_ownLight_85 : decode cX2_ownLight 85 = .ok (.ifCond .eq 26, 3) := dk_153 0 26 (dk_at dksX2_ownLight_3 14 rfl rfl)
theorem dX2_ownLight_88 : decode cX2_ownLight 88 = .ok (.aload_n 0, 1) := dk_42 (dk_at dksX2_ownLight_3 17 rfl rfl)
theorem dX2_ownLight_89 : decode cX2_ownLight 89 = .ok (.getfield 13, 3) := dk_180 0 13 (dk_at dksX2_ownLight_3 18 rfl rfl)
theorem dX2_ownLight_92 : decode cX2_ownLight 92 = .ok (.iload_n 3, 1) := dk_29 (dk_at dksX2_ownLight_3 21 rfl rfl)
theorem dX2_ownLight_93 : decode cX2_ownLight 93 = .ok (.iaload, 1) := dk_46 (dk_at dksX2_ownLight_3 22 rfl rfl)
theorem dX2_ownLight_94 : decode cX2_ownLight 94 = .ok (.iconst 1, 1) := dk_4 (dk_at dksX2_ownLight_3 23 rfl rfl)
theorem dX2_ownLight_95 : decode cX2_ownLight 95 = .ok (.iadd, 1) := dk_96 (dk_at dksX2_ownLight_4 0 rfl rfl)
theorem dX2_ownLight_96 : decode cX2_ownLight 96 = .ok (.iload_n 2, 1) := dk_28 (dk_at dksX2_ownLight_4 1 rfl rfl)
theorem dX2_ownLight_97 : decode cX2_ownLight 97 = .ok (.if_icmp .le 14, 3) := dk_164 0 14 (dk_at dksX2_ownLight_4 2 rfl rfl)
theorem dX2_ownLight_100 : decode cX2_ownLight 100 = .ok (.aload_n 0, 1) := dk_42 (dk_at dksX2_ownLight_4 5 rfl rfl)
theorem dX2_ownLight_101 : decode cX2_ownLight 101 = .ok (.getfield 13, 3) := dk_180 0 13 (dk_at dksX2_ownLight_4 6 rfl rfl)
theorem dX2_ownLight_104 : decode cX2_ownLight 104 = .ok (.iload_n 3, 1) := dk_29 (dk_at dksX2_ownLight_4 9 rfl rfl)
theorem dX2_ownLight_105 : decode cX2_ownLight 105 = .ok (.iaload, 1) := dk_46 (dk_at dksX2_ownLight_4 10 rfl rfl)
theorem dX2_ownLight_106 : decode cX2_ownLight 106 = .ok (.iconst 1, 1) := dk_4 (dk_at dksX2_ownLight_4 11 rfl rfl)
theorem dX2_ownLight_107 : decode cX2_ownLight 107 = .ok (.iadd, 1) := dk_96 (dk_at dksX2_ownLight_4 12 rfl rfl)
theorem dX2_ownLight_108 : decode cX2_ownLight 108 = .ok (.goto 4, 3) := dk_167 0 4 (dk_at dksX2_ownLight_4 13 rfl rfl)
theorem dX2_ownLight_111 : decode cX2_ownLight 111 = .ok (.iload_n 2, 1) := dk_28 (dk_at dksX2_ownLight_4 16 rfl rfl)
theorem dX2_ownLight_112 : decode cX2_ownLight 112 = .ok (.istore_n 2, 1) := dk_61 (dk_at dksX2_ownLight_4 17 rfl rfl)
theorem dX2_ownLight_113 : decode cX2_ownLight 113 = .ok (.iinc 3 1, 3) := dk_132 3 1 (dk_at dksX2_ownLight_4 18 rfl rfl)
theorem dX2_ownLight_116 : decode cX2_ownLight 116 = .ok (.goto (-112), 3) := dk_167 255 144 (dk_at dksX2_ownLight_4 21 rfl rfl)
theorem dX2_ownLight_119 : decode cX2_ownLight 119 = .ok (.iload_n 2, 1) := dk_28 (dk_at dksX2_ownLight_5 0 rfl rfl)
theorem dX2_ownLight_120 : decode cX2_ownLight 120 = .ok (.ireturn, 1) := dk_172 (dk_at dksX2_ownLight_5 1 rfl rfl)
abbrev cX2_sings : ByteArray := prog_4_method_16_code
def yX2_sings : MethodName := ⟨RX2, "sings", "(II)Z"⟩
def dkwX2_sings_1 : List UInt8 := [180, 0, 13, 27, 46, 155, 0, 7, 4, 167, 0, 4, 3, 172]
abbrev dktX2_sings_1 : List UInt8 := dkwX2_sings_1 ++ []
def dkwX2_sings_0 : List UInt8 := [42, 27, 182, 0, 82, 153, 0, 29, 42, 180, 0, 13, 16, 16, 27, 96, 46, 28, 160, 0, 16, 42]
abbrev dktX2_sings_0 : List UInt8 := dkwX2_sings_0 ++ dktX2_sings_1
theorem dksX2_sings_0 : cX2_sings.data.toList.drop 0 = dktX2_sings_0 := by decide +kernel
theorem dksX2_sings_1 : cX2_sings.data.toList.drop 22 = dktX2_sings_1 := dk_seg dksX2_sings_0 22 rfl rfl
theorem dX2_sings_0 : decode cX2_sings 0 = .ok (.aload_n 0, 1) := dk_42 (dk_at dksX2_sings_0 0 rfl rfl)
theorem dX2_sings_1 : decode cX2_sings 1 = .ok (.iload_n 1, 1) := dk_27 (dk_at dksX2_sings_0 1 rfl rfl)
theorem dX2_sings_2 : decode cX2_sings 2 = .ok (.invokevirtual 82, 3) := dk_182 0 82 (dk_at dksX2_sings_0 2 rfl rfl)
theorem dX2_sings_5 : decode cX2_sings 5 = .ok (.ifCond .eq 29, 3) := dk_153 0 29 (dk_at dksX2_sings_0 5 rfl rfl)
theorem dX2_sings_8 : decode cX2_sings 8 = .ok (.aload_n 0, 1) := dk_42 (dk_at dksX2_sings_0 8 rfl rfl)
theorem dX2_sings_9 : decode cX2_sings 9 = .ok (.getfield 13, 3) := dk_180 0 13 (dk_at dksX2_sings_0 9 rfl rfl)
theorem dX2_sings_12 : decode cX2_sings 12 = .ok (.bipush 16, 2) := dk_16 16 (dk_at dksX2_sings_0 12 rfl rfl)
theorem dX2_sings_14 : decode cX2_sings 14 = .ok (.iload_n 1, 1) := dk_27 (dk_at dksX2_sings_0 14 rfl rfl)
theorem dX2_sings_15 : decode cX2_sings 15 = .ok (.iadd, 1) := dk_96 (dk_at dksX2_sings_0 15 rfl rfl)
theorem dX2_sings_16 : decode cX2_sings 16 = .ok (.iaload, 1) := dk_46 (dk_at dksX2_sings_0 16 rfl rfl)
theorem dX2_sings_17 : decode cX2_sings 17 = .ok (.iload_n 2, 1) := dk_28 (dk_at dksX2_sings_0 17 rfl rfl)
theorem dX2_sings_18 : decode cX2_sings 18 = .ok (.if_icmp .ne 16, 3) := dk_160 0 16 (dk_at dksX2_sings_0 18 rfl rfl)
theorem dX2_sings_21 : decode cX2_sings 21 = .ok (.aload_n 0, 1) := dk_42 (dk_at dksX2_sings_0 21 rfl rfl)
theorem dX2_sings_22 : decode cX2_sings 22 = .ok (.getfield 13, 3) := dk_180 0 13 (dk_at dksX2_sings_1 0 rfl rfl)
theorem dX2_sings_25 : decode cX2_sings 25 = .ok (.iload_n 1, 1) := dk_27 (dk_at dksX2_sings_1 3 rfl rfl)
theorem dX2_sings_26 : decode cX2_sings 26 = .ok (.iaload, 1) := dk_46 (dk_at dksX2_sings_1 4 rfl rfl)
theorem dX2_sings_27 : decode cX2_sings 27 = .ok (.ifCond .lt 7, 3) := dk_155 0 7 (dk_at dksX2_sings_1 5 rfl rfl)
theorem dX2_sings_30 : decode cX2_sings 30 = .ok (.iconst 1, 1) := dk_4 (dk_at dksX2_sings_1 8 rfl rfl)
theorem dX2_sings_31 : decode cX2_sings 31 = .ok (.goto 4, 3) := dk_167 0 4 (dk_at dksX2_sings_1 9 rfl rfl)
theorem dX2_sings_34 : decode cX2_sings 34 = .ok (.iconst 0, 1) := dk_3 (dk_at dksX2_sings_1 12 rfl rfl)
theorem dX2_sings_35 : decode cX2_sings 35 = .ok (.ireturn, 1) := dk_172 (dk_at dksX2_sings_1 13 rfl rfl)
abbrev cX2_areHushed : ByteArray := prog_4_method_17_code
def yX2_areHushed : MethodName := ⟨RX2, "areHushed", "(II)Z"⟩
def dkwX2_areHushed_1 : List UInt8 := [62, 29, 6, 159, 0, 8, 29, 7, 160, 0, 7, 4, 167, 0, 4, 3, 172]
abbrev dktX2_areHushed_1 : List UInt8 := dkwX2_areHushed_1 ++ []
def dkwX2_areHushed_0 : List UInt8 := [42, 180, 0, 13, 27, 46, 42, 180, 0, 13, 28, 46, 100, 62, 29, 156, 0, 8, 29, 116, 167, 0, 4, 29]
abbrev dktX2_areHushed_0 : List UInt8 := dkwX2_areHushed_0 ++ dktX2_areHushed_1
theorem dksX2_areHushed_0 : cX2_areHushed.data.toList.drop 0 = dktX2_areHushed_0 := by decide +kernel
theorem dksX2_areHushed_1 : cX2_areHushed.data.toList.drop 24 = dktX2_areHushed_1 := dk_seg dksX2_areHushed_0 24 rfl rfl
theorem dX2_areHushed_0 : decode cX2_areHushed 0 = .ok (.aload_n 0, 1) := dk_42 (dk_at dksX2_areHushed_0 0 rfl rfl)
theorem dX2_areHushed_1 : decode cX2_areHushed 1 = .ok (.getfield 13, 3) := dk_180 0 13 (dk_at dksX2_areHushed_0 1 rfl rfl)
theorem dX2_areHushed_4 : decode cX2_areHushed 4 = .ok (.iload_n 1, 1) := dk_27 (dk_at dksX2_areHushed_0 4 rfl rfl)
theorem dX2_areHushed_5 : decode cX2_areHushed 5 = .ok (.iaload, 1) := dk_46 (dk_at dksX2_areHushed_0 5 rfl rfl)
theorem dX2_areHushed_6 : decode cX2_areHushed 6 = .ok (.aload_n 0, 1) := dk_42 (dk_at dksX2_areHushed_0 6 rfl rfl)
theorem dX2_areHushed_7 : decode cX2_areHushed 7 = .ok (.getfield 13, 3) := dk_180 0 13 (dk_at dksX2_areHushed_0 7 rfl rfl)
theorem dX2_areHushed_10 : decode cX2_areHushed 10 = .ok (.iload_n 2, 1) := dk_28 (dk_at dksX2_areHushed_0 10 rfl rfl)
theorem dX2_areHushed_11 : decode cX2_areHushed 11 = .ok (.iaload, 1) := dk_46 (dk_at dksX2_areHushed_0 11 rfl rfl)
theorem dX2_areHushed_12 : decode cX2_areHushed 12 = .ok (.isub, 1) := dk_100 (dk_at dksX2_areHushed_0 12 rfl rfl)
theorem dX2_areHushed_13 : decode cX2_areHushed 13 = .ok (.istore_n 3, 1) := dk_62 (dk_at dksX2_areHushed_0 13 rfl rfl)
theorem dX2_areHushed_14 : decode cX2_areHushed 14 = .ok (.iload_n 3, 1) := dk_29 (dk_at dksX2_areHushed_0 14 rfl rfl)
theorem dX2_areHushed_15 : decode cX2_areHushed 15 = .ok (.ifCond .ge 8, 3) := dk_156 0 8 (dk_at dksX2_areHushed_0 15 rfl rfl)
theorem dX2_areHushed_18 : decode cX2_areHushed 18 = .ok (.iload_n 3, 1) := dk_29 (dk_at dksX2_areHushed_0 18 rfl rfl)
theorem dX2_areHushed_19 : decode cX2_areHushed 19 = .ok (.ineg, 1) := dk_116 (dk_at dksX2_areHushed_0 19 rfl rfl)
theorem dX2_areHushed_20 : decode cX2_areHushed 20 = .ok (.goto 4, 3) := dk_167 0 4 (dk_at dksX2_areHushed_0 20 rfl rfl)
theorem dX2_areHushed_23 : decode cX2_areHushed 23 = .ok (.iload_n 3, 1) := dk_29 (dk_at dksX2_areHushed_0 23 rfl rfl)
theorem dX2_areHushed_24 : decode cX2_areHushed 24 = .ok (.istore_n 3, 1) := dk_62 (dk_at dksX2_areHushed_1 0 rfl rfl)
theorem dX2_areHushed_25 : decode cX2_areHushed 25 = .ok (.iload_n 3, 1) := dk_29 (dk_at dksX2_areHushed_1 1 rfl rfl)
theorem dX2_areHushed_26 : decode cX2_areHushed 26 = .ok (.iconst 3, 1) := dk_6 (dk_at dksX2_areHushed_1 2 rfl rfl)
theorem dX2_areHushed_27 : decode cX2_areHushed 27 = .ok (.if_icmp .eq 8, 3) := dk_159 0 8 (dk_at dksX2_areHushed_1 3 rfl rfl)
theorem dX2_areHushed_30 : decode cX2_areHushed 30 = .ok (.iload_n 3, 1) := dk_29 (dk_at dksX2_areHushed_1 6 rfl rfl)
theorem dX2_areHushed_31 : decode cX2_areHushed 31 = .ok (.iconst 4, 1) := dk_7 (dk_at dksX2_areHushed_1 7 rfl rfl)
theorem dX2_areHushed_32 : decode cX2_areHushed 32 = .ok (.if_icmp .ne 7, 3) := dk_160 0 7 (dk_at dksX2_areHushed_1 8 rfl rfl)
theorem dX2_areHushed_35 : decode cX2_areHushed 35 = .ok (.iconst 1, 1) := dk_4 (dk_at dksX2_areHushed_1 11 rfl rfl)
theorem dX2_areHushed_36 : decode cX2_areHushed 36 = .ok (.goto 4, 3) := dk_167 0 4 (dk_at dksX2_areHushed_1 12 rfl rfl)
theorem dX2_areHushed_39 : decode cX2_areHushed 39 = .ok (.iconst 0, 1) := dk_3 (dk_at dksX2_areHushed_1 15 rfl rfl)
theorem dX2_areHushed_40 : decode cX2_areHushed 40 = .ok (.ireturn, 1) := dk_172 (dk_at dksX2_areHushed_1 16 rfl rfl)
abbrev cX2_beat : ByteArray := prog_4_method_25_code
def yX2_beat : MethodName := ⟨RX2, "beat", "()I"⟩
def dkwX2_beat_9 : List UInt8 := [180, 0, 13, 27, 46, 79, 132, 1, 1, 167, 255, 91, 3, 172]
abbrev dktX2_beat_9 : List UInt8 := dkwX2_beat_9 ++ []
def dkwX2_beat_8 : List UInt8 := [180, 0, 13, 27, 42, 180, 0, 13, 16, 8, 27, 96, 46, 154, 0, 8, 16, 250, 167, 0, 9, 42]
abbrev dktX2_beat_8 : List UInt8 := dkwX2_beat_8 ++ dktX2_beat_9
def dkwX2_beat_7 : List UInt8 := [42, 27, 182, 0, 82, 153, 0, 45, 42, 180, 0, 13, 16, 8, 27, 96, 92, 46, 4, 100, 79, 42]
abbrev dktX2_beat_7 : List UInt8 := dkwX2_beat_7 ++ dktX2_beat_8
def dkwX2_beat_6 : List UInt8 := [16, 8, 27, 96, 46, 42, 180, 0, 22, 27, 46, 162, 0, 7, 4, 167, 0, 4, 3, 96, 79, 167, 0, 53]
abbrev dktX2_beat_6 : List UInt8 := dkwX2_beat_6 ++ dktX2_beat_7
def dkwX2_beat_5 : List UInt8 := [158, 0, 7, 4, 167, 0, 4, 3, 96, 79, 42, 180, 0, 13, 16, 8, 27, 96, 92, 46, 42, 180, 0, 13]
abbrev dktX2_beat_5 : List UInt8 := dkwX2_beat_5 ++ dktX2_beat_6
def dkwX2_beat_4 : List UInt8 := [96, 92, 46, 42, 180, 0, 37, 28, 46, 16, 8, 164, 0, 7, 5, 167, 0, 17, 42, 180, 0, 37, 28, 46]
abbrev dktX2_beat_4 : List UInt8 := dkwX2_beat_4 ++ dktX2_beat_5
def dkwX2_beat_3 : List UInt8 := [42, 27, 182, 0, 82, 153, 0, 91, 42, 180, 0, 13, 27, 46, 156, 0, 82, 42, 180, 0, 13, 16, 24, 28]
abbrev dktX2_beat_3 : List UInt8 := dkwX2_beat_3 ++ dktX2_beat_4
def dkwX2_beat_2 : List UInt8 := [132, 1, 1, 167, 255, 236, 3, 60, 27, 16, 8, 162, 0, 165, 42, 180, 0, 13, 16, 16, 27, 96, 46, 61]
abbrev dktX2_beat_2 : List UInt8 := dkwX2_beat_2 ++ dktX2_beat_3
def dkwX2_beat_1 : List UInt8 := [4, 96, 79, 3, 60, 27, 16, 10, 162, 0, 20, 42, 180, 0, 37, 27, 42, 27, 182, 0, 101, 79]
abbrev dktX2_beat_1 : List UInt8 := dkwX2_beat_1 ++ dktX2_beat_2
def dkwX2_beat_0 : List UInt8 := [42, 180, 0, 13, 16, 35, 46, 17, 3, 231, 160, 0, 6, 16, 7, 172, 42, 180, 0, 13, 16, 35, 92, 46]
abbrev dktX2_beat_0 : List UInt8 := dkwX2_beat_0 ++ dktX2_beat_1
theorem dksX2_beat_0 : cX2_beat.data.toList.drop 0 = dktX2_beat_0 := by decide +kernel
theorem dksX2_beat_1 : cX2_beat.data.toList.drop 24 = dktX2_beat_1 := dk_seg dksX2_beat_0 24 rfl rfl
theorem dksX2_beat_2 : cX2_beat.data.toList.drop 46 = dktX2_beat_2 := dk_seg dksX2_beat_1 22 rfl rfl
theorem dksX2_beat_3 : cX2_beat.data.toList.drop 70 = dktX2_beat_3 := dk_seg dksX2_beat_2 24 rfl rfl
theorem dksX2_beat_4 : cX2_beat.data.toList.drop 94 = dktX2_beat_4 := dk_seg dksX2_beat_3 24 rfl rfl
theorem dksX2_beat_5 : cX2_beat.data.toList.drop 118 = dktX2_beat_5 := dk_seg dksX2_beat_4 24 rfl rfl
theorem dksX2_beat_6 : cX2_beat.data.toList.drop 142 = dktX2_beat_6 := dk_seg dksX2_beat_5 24 rfl rfl
theorem dksX2_beat_7 : cX2_beat.data.toList.drop 166 = dktX2_beat_7 := dk_seg dksX2_beat_6 24 rfl rfl
theorem dksX2_beat_8 : cX2_beat.data.toList.drop 188 = dktX2_beat_8 := dk_seg dksX2_beat_7 22 rfl rfl
theorem dksX2_beat_9 : cX2_beat.data.toList.drop 210 = dktX2_beat_9 := dk_seg dksX2_beat_8 22 rfl rfl
theorem dX2_beat_0 : decode cX2_beat 0 = .ok (.aload_n 0, 1) := dk_42 (dk_at dksX2_beat_0 0 rfl rfl)
theorem dX2_beat_1 : decode cX2_beat 1 = .ok (.getfield 13, 3) := dk_180 0 13 (dk_at dksX2_beat_0 1 rfl rfl)
theorem dX2_beat_4 : decode cX2_beat 4 = .ok (.bipush 35, 2) := dk_16 35 (dk_at dksX2_beat_0 4 rfl rfl)
theorem dX2_beat_6 : decode cX2_beat 6 = .ok (.iaload, 1) := dk_46 (dk_at dksX2_beat_0 6 rfl rfl)
theorem dX2_beat_7 : decode cX2_beat 7 = .ok (.sipush 999, 3) := dk_17 3 231 (dk_at dksX2_beat_0 7 rfl rfl)
theorem dX2_beat_10 : decode cX2_beat 10 = .ok (.if_icmp .ne 6, 3) := dk_160 0 6 (dk_at dksX2_beat_0 10 rfl rfl)
theorem dX2_beat_13 : decode cX2_beat 13 = .ok (.bipush 7, 2) := dk_16 7 (dk_at dksX2_beat_0 13 rfl rfl)
theorem dX2_beat_15 : decode cX2_beat 15 = .ok (.ireturn, 1) := dk_172 (dk_at dksX2_beat_0 15 rfl rfl)
theorem dX2_beat_16 : decode cX2_beat 16 = .ok (.aload_n 0, 1) := dk_42 (dk_at dksX2_beat_0 16 rfl rfl)
theorem dX2_beat_17 : decode cX2_beat 17 = .ok (.getfield 13, 3) := dk_180 0 13 (dk_at dksX2_beat_0 17 rfl rfl)
theorem dX2_beat_20 : decode cX2_beat 20 = .ok (.bipush 35, 2) := dk_16 35 (dk_at dksX2_beat_0 20 rfl rfl)
theorem dX2_beat_22 : decode cX2_beat 22 = .ok (.dup2, 1) := dk_92 (dk_at dksX2_beat_0 22 rfl rfl)
theorem dX2_beat_23 : decode cX2_beat 23 = .ok (.iaload, 1) := dk_46 (dk_at dksX2_beat_0 23 rfl rfl)
theorem dX2_beat_24 : decode cX2_beat 24 = .ok (.iconst 1, 1) := dk_4 (dk_at dksX2_beat_1 0 rfl rfl)
theorem dX2_beat_25 : decode cX2_beat 25 = .ok (.iadd, 1) := dk_96 (dk_at dksX2_beat_1 1 rfl rfl)
theorem dX2_beat_26 : decode cX2_beat 26 = .ok (.iastore, 1) := dk_79 (dk_at dksX2_beat_1 2 rfl rfl)
theorem dX2_beat_27 : decode cX2_beat 27 = .ok (.iconst 0, 1) := dk_3 (dk_at dksX2_beat_1 3 rfl rfl)
theorem dX2_beat_28 : decode cX2_beat 28 = .ok (.istore_n 1, 1) := dk_60 (dk_at dksX2_beat_1 4 rfl rfl)
theorem dX2_beat_29 : decode cX2_beat 29 = .ok (.iload_n 1, 1) := dk_27 (dk_at dksX2_beat_1 5 rfl rfl)
theorem dX2_beat_30 : decode cX2_beat 30 = .ok (.bipush 10, 2) := dk_16 10 (dk_at dksX2_beat_1 6 rfl rfl)
theorem dX2_beat_32 : decode cX2_beat 32 = .ok (.if_icmp .ge 20, 3) := dk_162 0 20 (dk_at dksX2_beat_1 8 rfl rfl)
theorem dX2_beat_35 : decode cX2_beat 35 = .ok (.aload_n 0, 1) := dk_42 (dk_at dksX2_beat_1 11 rfl rfl)
theorem dX2_beat_36 : decode cX2_beat 36 = .ok (.getfield 37, 3) := dk_180 0 37 (dk_at dksX2_beat_1 12 rfl rfl)
theorem dX2_beat_39 : decode cX2_beat 39 = .ok (.iload_n 1, 1) := dk_27 (dk_at dksX2_beat_1 15 rfl rfl)
theorem dX2_beat_40 : decode cX2_beat 40 = .ok (.aload_n 0, 1) := dk_42 (dk_at dksX2_beat_1 16 rfl rfl)
theorem dX2_beat_41 : decode cX2_beat 41 = .ok (.iload_n 1, 1) := dk_27 (dk_at dksX2_beat_1 17 rfl rfl)
theorem dX2_beat_42 : decode cX2_beat 42 = .ok (.invokevirtual 101, 3) := dk_182 0 101 (dk_at dksX2_beat_1 18 rfl rfl)
theorem dX2_beat_45 : decode cX2_beat 45 = .ok (.iastore, 1) := dk_79 (dk_at dksX2_beat_1 21 rfl rfl)
theorem dX2_beat_46 : decode cX2_beat 46 = .ok (.iinc 1 1, 3) := dk_132 1 1 (dk_at dksX2_beat_2 0 rfl rfl)
theorem dX2_beat_49 : decode cX2_beat 49 = .ok (.goto (-20), 3) := dk_167 255 236 (dk_at dksX2_beat_2 3 rfl rfl)
theorem dX2_beat_52 : decode cX2_beat 52 = .ok (.iconst 0, 1) := dk_3 (dk_at dksX2_beat_2 6 rfl rfl)
theorem dX2_beat_53 : decode cX2_beat 53 = .ok (.istore_n 1, 1) := dk_60 (dk_at dksX2_beat_2 7 rfl rfl)
theorem dX2_beat_54 : decode cX2_beat 54 = .ok (.iload_n 1, 1) := dk_27 (dk_at dksX2_beat_2 8 rfl rfl)
theorem dX2_beat_55 : decode cX2_beat 55 = .ok (.bipush 8, 2) := dk_16 8 (dk_at dksX2_beat_2 9 rfl rfl)
theorem dX2_beat_57 : decode cX2_beat 57 = .ok (.if_icmp .ge 165, 3) := dk_162 0 165 (dk_at dksX2_beat_2 11 rfl rfl)
theorem dX2_beat_60 : decode cX2_beat 60 = .ok (.aload_n 0, 1) := dk_42 (dk_at dksX2_beat_2 14 rfl rfl)
theorem dX2_beat_61 : decode cX2_beat 61 = .ok (.getfield 13, 3) := dk_180 0 13 (dk_at dksX2_beat_2 15 rfl rfl)
theorem dX2_beat_64 : decode cX2_beat 64 = .ok (.bipush 16, 2) := dk_16 16 (dk_at dksX2_beat_2 18 rfl rfl)
theorem dX2_beat_66 : decode cX2_beat 66 = .ok (.iload_n 1, 1) := dk_27 (dk_at dksX2_beat_2 20 rfl rfl)
theorem dX2_beat_67 : decode cX2_beat 67 = .ok (.iadd, 1) := dk_96 (dk_at dksX2_beat_2 21 rfl rfl)
theorem dX2_beat_68 : decode cX2_beat 68 = .ok (.iaload, 1) := dk_46 (dk_at dksX2_beat_2 22 rfl rfl)
theorem dX2_beat_69 : decode cX2_beat 69 = .ok (.istore_n 2, 1) := dk_61 (dk_at dksX2_beat_2 23 rfl rfl)
theorem dX2_beat_70 : decode cX2_beat 70 = .ok (.aload_n 0, 1) := dk_42 (dk_at dksX2_beat_3 0 rfl rfl)
theorem dX2_beat_71 : decode cX2_beat 71 = .ok (.iload_n 1, 1) := dk_27 (dk_at dksX2_beat_3 1 rfl rfl)
theorem dX2_beat_72 : decode cX2_beat 72 = .ok (.invokevirtual 82, 3) := dk_182 0 82 (dk_at dksX2_beat_3 2 rfl rfl)
theorem dX2_beat_75 : decode cX2_beat 75 = .ok (.ifCond .eq 91, 3) := dk_153 0 91 (dk_at dksX2_beat_3 5 rfl rfl)
theorem dX2_beat_78 : decode cX2_beat 78 = .ok (.aload_n 0, 1) := dk_42 (dk_at dksX2_beat_3 8 rfl rfl)
theorem dX2_beat_79 : decode cX2_beat 79 = .ok (.getfield 13, 3) := dk_180 0 13 (dk_at dksX2_beat_3 9 rfl rfl)
theorem dX2_beat_82 : decode cX2_beat 82 = .ok (.iload_n 1, 1) := dk_27 (dk_at dksX2_beat_3 12 rfl rfl)
theorem dX2_beat_83 : decode cX2_beat 83 = .ok (.iaload, 1) := dk_46 (dk_at dksX2_beat_3 13 rfl rfl)
theorem dX2_beat_84 : decode cX2_beat 84 = .ok (.ifCond .ge 82, 3) := dk_156 0 82 (dk_at dksX2_beat_3 14 rfl rfl)
theorem dX2_beat_87 : decode cX2_beat 87 = .ok (.aload_n 0, 1) := dk_42 (dk_at dksX2_beat_3 17 rfl rfl)
theorem dX2_beat_88 : decode cX2_beat 88 = .ok (.getfield 13, 3) := dk_180 0 13 (dk_at dksX2_beat_3 18 rfl rfl)
theorem dX2_beat_91 : decode cX2_beat 91 = .ok (.bipush 24, 2) := dk_16 24 (dk_at dksX2_beat_3 21 rfl rfl)
theorem dX2_beat_93 : decode cX2_beat 93 = .ok (.iload_n 2, 1) := dk_28 (dk_at dksX2_beat_3 23 rfl rfl)
theorem dX2_beat_94 : decode cX2_beat 94 = .ok (.iadd, 1) := dk_96 (dk_at dksX2_beat_4 0 rfl rfl)
theorem dX2_beat_95 : decode cX2_beat 95 = .ok (.dup2, 1) := dk_92 (dk_at dksX2_beat_4 1 rfl rfl)
theorem dX2_beat_96 : decode cX2_beat 96 = .ok (.iaload, 1) := dk_46 (dk_at dksX2_beat_4 2 rfl rfl)
theorem dX2_beat_97 : decode cX2_beat 97 = .ok (.aload_n 0, 1) := dk_42 (dk_at dksX2_beat_4 3 rfl rfl)
theorem dX2_beat_98 : decode cX2_beat 98 = .ok (.getfield 37, 3) := dk_180 0 37 (dk_at dksX2_beat_4 4 rfl rfl)
theorem dX2_beat_101 : decode cX2_beat 101 = .ok (.iload_n 2, 1) := dk_28 (dk_at dksX2_beat_4 7 rfl rfl)
theorem dX2_beat_102 : decode cX2_beat 102 = .ok (.iaload, 1) := dk_46 (dk_at dksX2_beat_4 8 rfl rfl)
theorem dX2_beat_103 : decode cX2_beat 103 = .ok (.bipush 8, 2) := dk_16 8 (dk_at dksX2_beat_4 9 rfl rfl)
theorem dX2_beat_105 : decode cX2_beat 105 = .ok (.if_icmp .le 7, 3) := dk_164 0 7 (dk_at dksX2_beat_4 11 rfl rfl)
theorem dX2_beat_108 : decode cX2_beat 108 = .ok (.iconst 2, 1) := dk_5 (dk_at dksX2_beat_4 14 rfl rfl)
theorem dX2_beat_109 : decode cX2_beat 109 = .ok (.goto 17, 3) := dk_167 0 17 (dk_at dksX2_beat_4 15 rfl rfl)
theorem dX2_beat_112 : decode cX2_beat 112 = .ok (.aload_n 0, 1) := dk_42 (dk_at dksX2_beat_4 18 rfl rfl)
theorem dX2_beat_113 : decode cX2_beat 113 = .ok (.getfield 37, 3) := dk_180 0 37 (dk_at dksX2_beat_4 19 rfl rfl)
theorem dX2_beat_116 : decode cX2_beat 116 = .ok (.iload_n 2, 1) := dk_28 (dk_at dksX2_beat_4 22 rfl rfl)
theorem dX2_beat_117 : decode cX2_beat 117 = .ok (.iaload, 1) := dk_46 (dk_at dksX2_beat_4 23 rfl rfl)
theorem dX2_beat_118 : decode cX2_beat 118 = .ok (.ifCond .le 7, 3) := dk_158 0 7 (dk_at dksX2_beat_5 0 rfl rfl)
theorem dX2_beat_121 : decode cX2_beat 121 = .ok (.iconst 1, 1) := dk_4 (dk_at dksX2_beat_5 3 rfl rfl)
theorem dX2_beat_122 : decode cX2_beat 122 = .ok (.goto 4, 3) := dk_167 0 4 (dk_at dksX2_beat_5 4 rfl rfl)
theorem dX2_beat_125 : decode cX2_beat 125 = .ok (.iconst 0, 1) := dk_3 (dk_at dksX2_beat_5 7 rfl rfl)
theorem dX2_beat_126 : decode cX2_beat 126 = .ok (.iadd, 1) := dk_96 (dk_at dksX2_beat_5 8 rfl rfl)
theorem dX2_beat_127 : decode cX2_beat 127 = .ok (.iastore, 1) := dk_79 (dk_at dksX2_beat_5 9 rfl rfl)
theorem dX2_beat_128 : decode cX2_beat 128 = .ok (.aload_n 0, 1) := dk_42 (dk_at dksX2_beat_5 10 rfl rfl)
theorem dX2_beat_129 : decode cX2_beat 129 = .ok (.getfield 13, 3) := dk_180 0 13 (dk_at dksX2_beat_5 11 rfl rfl)
theorem dX2_beat_132 : decode cX2_beat 132 = .ok (.bipush 8, 2) := dk_16 8 (dk_at dksX2_beat_5 14 rfl rfl)
theorem dX2_beat_134 : decode cX2_beat 134 = .ok (.iload_n 1, 1) := dk_27 (dk_at dksX2_beat_5 16 rfl rfl)
theorem dX2_beat_135 : decode cX2_beat 135 = .ok (.iadd, 1) := dk_96 (dk_at dksX2_beat_5 17 rfl rfl)
theorem dX2_beat_136 : decode cX2_beat 136 = .ok (.dup2, 1) := dk_92 (dk_at dksX2_beat_5 18 rfl rfl)
theorem dX2_beat_137 : decode cX2_beat 137 = .ok (.iaload, 1) := dk_46 (dk_at dksX2_beat_5 19 rfl rfl)
theorem dX2_beat_138 : decode cX2_beat 138 = .ok (.aload_n 0, 1) := dk_42 (dk_at dksX2_beat_5 20 rfl rfl)
theorem dX2_beat_139 : decode cX2_beat 139 = .ok (.getfield 13, 3) := dk_180 0 13 (dk_at dksX2_beat_5 21 rfl rfl)
theorem dX2_beat_142 : decode cX2_beat 142 = .ok (.bipush 8, 2) := dk_16 8 (dk_at dksX2_beat_6 0 rfl rfl)
theorem dX2_beat_144 : decode cX2_beat 144 = .ok (.iload_n 1, 1) := dk_27 (dk_at dksX2_beat_6 2 rfl rfl)
theorem dX2_beat_145 : decode cX2_beat 145 = .ok (.iadd, 1) := dk_96 (dk_at dksX2_beat_6 3 rfl rfl)
theorem dX2_beat_146 : decode cX2_beat 146 = .ok (.iaload, 1) := dk_46 (dk_at dksX2_beat_6 4 rfl rfl)
theorem dX2_beat_147 : decode cX2_beat 147 = .ok (.aload_n 0, 1) := dk_42 (dk_at dksX2_beat_6 5 rfl rfl)
theorem dX2_beat_148 : decode cX2_beat 148 = .ok (.getfield 22, 3) := dk_180 0 22 (dk_at dksX2_beat_6 6 rfl rfl)
theorem dX2_beat_151 : decode cX2_beat 151 = .ok (.iload_n 1, 1) := dk_27 (dk_at dksX2_beat_6 9 rfl rfl)
theorem dX2_beat_152 : decode cX2_beat 152 = .ok (.iaload, 1) := dk_46 (dk_at dksX2_beat_6 10 rfl rfl)
theorem dX2_beat_153 : decode cX2_beat 153 = .ok (.if_icmp .ge 7, 3) := dk_162 0 7 (dk_at dksX2_beat_6 11 rfl rfl)
theorem dX2_beat_156 : decode cX2_beat 156 = .ok (.iconst 1, 1) := dk_4 (dk_at dksX2_beat_6 14 rfl rfl)
theorem dX2_beat_157 : decode cX2_beat 157 = .ok (.goto 4, 3) := dk_167 0 4 (dk_at dksX2_beat_6 15 rfl rfl)
theorem dX2_beat_160 : decode cX2_beat 160 = .ok (.iconst 0, 1) := dk_3 (dk_at dksX2_beat_6 18 rfl rfl)
theorem dX2_beat_161 : decode cX2_beat 161 = .ok (.iadd, 1) := dk_96 (dk_at dksX2_beat_6 19 rfl rfl)
theorem dX2_beat_162 : decode cX2_beat 162 = .ok (.iastore, 1) := dk_79 (dk_at dksX2_beat_6 20 rfl rfl)
theorem dX2_beat_163 : decode cX2_beat 163 = .ok (.goto 53, 3) := dk_167 0 53 (dk_at dksX2_beat_6 21 rfl rfl)
theorem dX2_beat_166 : decode cX2_beat 166 = .ok (.aload_n 0, 1) := dk_42 (dk_at dksX2_beat_7 0 rfl rfl)
theorem dX2_beat_167 : decode cX2_beat 167 = .ok (.iload_n 1, 1) := dk_27 (dk_at dksX2_beat_7 1 rfl rfl)
theorem dX2_beat_168 : decode cX2_beat 168 = .ok (.invokevirtual 82, 3) := dk_182 0 82 (dk_at dksX2_beat_7 2 rfl rfl)
theorem dX2_beat_171 : decode cX2_beat 171 = .ok (.ifCond .eq 45, 3) := dk_153 0 45 (dk_at dksX2_beat_7 5 rfl rfl)
theorem dX2_beat_174 : decode cX2_beat 174 = .ok (.aload_n 0, 1) := dk_42 (dk_at dksX2_beat_7 8 rfl rfl)
theorem dX2_beat_175 : decode cX2_beat 175 = .ok (.getfield 13, 3) := dk_180 0 13 (dk_at dksX2_beat_7 9 rfl rfl)
theorem dX2_beat_178 : decode cX2_beat 178 = .ok (.bipush 8, 2) := dk_16 8 (dk_at dksX2_beat_7 12 rfl rfl)
theorem dX2_beat_180 : decode cX2_beat 180 = .ok (.iload_n 1, 1) := dk_27 (dk_at dksX2_beat_7 14 rfl rfl)
theorem dX2_beat_181 : decode cX2_beat 181 = .ok (.iadd, 1) := dk_96 (dk_at dksX2_beat_7 15 rfl rfl)
theorem dX2_beat_182 : decode cX2_beat 182 = .ok (.dup2, 1) := dk_92 (dk_at dksX2_beat_7 16 rfl rfl)
theorem dX2_beat_183 : decode cX2_beat 183 = .ok (.iaload, 1) := dk_46 (dk_at dksX2_beat_7 17 rfl rfl)
theorem dX2_beat_184 : decode cX2_beat 184 = .ok (.iconst 1, 1) := dk_4 (dk_at dksX2_beat_7 18 rfl rfl)
theorem dX2_beat_185 : decode cX2_beat 185 = .ok (.isub, 1) := dk_100 (dk_at dksX2_beat_7 19 rfl rfl)
theorem dX2_beat_186 : decode cX2_beat 186 = .ok (.iastore, 1) := dk_79 (dk_at dksX2_beat_7 20 rfl rfl)
theorem dX2_beat_187 : decode cX2_beat 187 = .ok (.aload_n 0, 1) := dk_42 (dk_at dksX2_beat_7 21 rfl rfl)
theorem dX2_beat_188 : decode cX2_beat 188 = .ok (.getfield 13, 3) := dk_180 0 13 (dk_at dksX2_beat_8 0 rfl rfl)
theorem dX2_beat_191 : decode cX2_beat 191 = .ok (.iload_n 1, 1) := dk_27 (dk_at dksX2_beat_8 3 rfl rfl)
theorem dX2_beat_192 : decode cX2_beat 192 = .ok (.aload_n 0, 1) := dk_42 (dk_at dksX2_beat_8 4 rfl rfl)
theorem dX2_beat_193 : decode cX2_beat 193 = .ok (.getfield 13, 3) := dk_180 0 13 (dk_at dksX2_beat_8 5 rfl rfl)
theorem dX2_beat_196 : decode cX2_beat 196 = .ok (.bipush 8, 2) := dk_16 8 (dk_at dksX2_beat_8 8 rfl rfl)
theorem dX2_beat_198 : decode cX2_beat 198 = .ok (.iload_n 1, 1) := dk_27 (dk_at dksX2_beat_8 10 rfl rfl)
theorem dX2_beat_199 : decode cX2_beat 199 = .ok (.iadd, 1) := dk_96 (dk_at dksX2_beat_8 11 rfl rfl)
theorem dX2_beat_200 : decode cX2_beat 200 = .ok (.iaload, 1) := dk_46 (dk_at dksX2_beat_8 12 rfl rfl)
theorem dX2_beat_201 : decode cX2_beat 201 = .ok (.ifCond .ne 8, 3) := dk_154 0 8 (dk_at dksX2_beat_8 13 rfl rfl)
theorem dX2_beat_204 : decode cX2_beat 204 = .ok (.bipush (-6), 2) := dk_16 250 (dk_at dksX2_beat_8 16 rfl rfl)
theorem dX2_beat_206 : decode cX2_beat 206 = .ok (.goto 9, 3) := dk_167 0 9 (dk_at dksX2_beat_8 18 rfl rfl)
theorem dX2_beat_209 : decode cX2_beat 209 = .ok (.aload_n 0, 1) := dk_42 (dk_at dksX2_beat_8 21 rfl rfl)
theorem dX2_beat_210 : decode cX2_beat 210 = .ok (.getfield 13, 3) := dk_180 0 13 (dk_at dksX2_beat_9 0 rfl rfl)
theorem dX2_beat_213 : decode cX2_beat 213 = .ok (.iload_n 1, 1) := dk_27 (dk_at dksX2_beat_9 3 rfl rfl)
theorem dX2_beat_214 : decode cX2_beat 214 = .ok (.iaload, 1) := dk_46 (dk_at dksX2_beat_9 4 rfl rfl)
theorem dX2_beat_215 : decode cX2_beat 215 = .ok (.iastore, 1) := dk_79 (dk_at dksX2_beat_9 5 rfl rfl)
theorem dX2_beat_216 : decode cX2_beat 216 = .ok (.iinc 1 1, 3) := dk_132 1 1 (dk_at dksX2_beat_9 6 rfl rfl)
theorem dX2_beat_219 : decode cX2_beat 219 = .ok (.goto (-165), 3) := dk_167 255 91 (dk_at dksX2_beat_9 9 rfl rfl)
theorem dX2_beat_222 : decode cX2_beat 222 = .ok (.iconst 0, 1) := dk_3 (dk_at dksX2_beat_9 12 rfl rfl)
theorem dX2_beat_223 : decode cX2_beat 223 = .ok (.ireturn, 1) := dk_172 (dk_at dksX2_beat_9 13 rfl rfl)
abbrev cX2_hush : ByteArray := prog_4_method_23_code
def yX2_hush : MethodName := ⟨RX2, "hush", "(I)I"⟩
def dkwX2_hush_1 : List UInt8 := [180, 0, 13, 27, 16, 250, 79, 3, 172]
abbrev dktX2_hush_1 : List UInt8 := dkwX2_hush_1 ++ []
def dkwX2_hush_0 : List UInt8 := [42, 27, 182, 0, 82, 154, 0, 5, 4, 172, 42, 180, 0, 13, 27, 46, 156, 0, 5, 6, 172, 42]
abbrev dktX2_hush_0 : List UInt8 := dkwX2_hush_0 ++ dktX2_hush_1
theorem dksX2_hush_0 : cX2_hush.data.toList.drop 0 = dktX2_hush_0 := by decide +kernel
theorem dksX2_hush_1 : cX2_hush.data.toList.drop 22 = dktX2_hush_1 := dk_seg dksX2_hush_0 22 rfl rfl
theorem dX2_hush_0 : decode cX2_hush 0 = .ok (.aload_n 0, 1) := dk_42 (dk_at dksX2_hush_0 0 rfl rfl)
theorem dX2_hush_1 : decode cX2_hush 1 = .ok (.iload_n 1, 1) := dk_27 (dk_at dksX2_hush_0 1 rfl rfl)
theorem dX2_hush_2 : decode cX2_hush 2 = .ok (.invokevirtual 82, 3) := dk_182 0 82 (dk_at dksX2_hush_0 2 rfl rfl)
theorem dX2_hush_5 : decode cX2_hush 5 = .ok (.ifCond .ne 5, 3) := dk_154 0 5 (dk_at dksX2_hush_0 5 rfl rfl)
theorem dX2_hush_8 : decode cX2_hush 8 = .ok (.iconst 1, 1) := dk_4 (dk_at dksX2_hush_0 8 rfl rfl)
theorem dX2_hush_9 : decode cX2_hush 9 = .ok (.ireturn, 1) := dk_172 (dk_at dksX2_hush_0 9 rfl rfl)
theorem dX2_hush_10 : decode cX2_hush 10 = .ok (.aload_n 0, 1) := dk_42 (dk_at dksX2_hush_0 10 rfl rfl)
theorem dX2_hush_11 : decode cX2_hush 11 = .ok (.getfield 13, 3) := dk_180 0 13 (dk_at dksX2_hush_0 11 rfl rfl)
theorem dX2_hush_14 : decode cX2_hush 14 = .ok (.iload_n 1, 1) := dk_27 (dk_at dksX2_hush_0 14 rfl rfl)
theorem dX2_hush_15 : decode cX2_hush 15 = .ok (.iaload, 1) := dk_46 (dk_at dksX2_hush_0 15 rfl rfl)
theorem dX2_hush_16 : decode cX2_hush 16 = .ok (.ifCond .ge 5, 3) := dk_156 0 5 (dk_at dksX2_hush_0 16 rfl rfl)
theorem dX2_hush_19 : decode cX2_hush 19 = .ok (.iconst 3, 1) := dk_6 (dk_at dksX2_hush_0 19 rfl rfl)
theorem dX2_hush_20 : decode cX2_hush 20 = .ok (.ireturn, 1) := dk_172 (dk_at dksX2_hush_0 20 rfl rfl)
theorem dX2_hush_21 : decode cX2_hush 21 = .ok (.aload_n 0, 1) := dk_42 (dk_at dksX2_hush_0 21 rfl rfl)
theorem dX2_hush_22 : decode cX2_hush 22 = .ok (.getfield 13, 3) := dk_180 0 13 (dk_at dksX2_hush_1 0 rfl rfl)
theorem dX2_hush_25 : decode cX2_hush 25 = .ok (.iload_n 1, 1) := dk_27 (dk_at dksX2_hush_1 3 rfl rfl)
theorem dX2_hush_26 : decode cX2_hush 26 = .ok (.bipush (-6), 2) := dk_16 250 (dk_at dksX2_hush_1 4 rfl rfl)
theorem dX2_hush_28 : decode cX2_hush 28 = .ok (.iastore, 1) := dk_79 (dk_at dksX2_hush_1 6 rfl rfl)
theorem dX2_hush_29 : decode cX2_hush 29 = .ok (.iconst 0, 1) := dk_3 (dk_at dksX2_hush_1 7 rfl rfl)
theorem dX2_hush_30 : decode cX2_hush 30 = .ok (.ireturn, 1) := dk_172 (dk_at dksX2_hush_1 8 rfl rfl)
abbrev cX2_go : ByteArray := prog_4_method_24_code
def yX2_go : MethodName := ⟨RX2, "go", "(II)I"⟩
def dkwX2_go_3 : List UInt8 := [16, 16, 27, 96, 28, 79, 3, 172]
abbrev dktX2_go_3 : List UInt8 := dkwX2_go_3 ++ []
def dkwX2_go_2 : List UInt8 := [154, 0, 17, 42, 180, 0, 13, 16, 34, 46, 28, 184, 0, 67, 153, 0, 6, 16, 6, 172, 42, 180, 0, 13]
abbrev dktX2_go_2 : List UInt8 := dkwX2_go_2 ++ dktX2_go_3
def dkwX2_go_1 : List UInt8 := [29, 46, 28, 184, 0, 67, 154, 0, 5, 8, 172, 42, 180, 0, 13, 16, 34, 46, 29, 184, 0, 67]
abbrev dktX2_go_1 : List UInt8 := dkwX2_go_1 ++ dktX2_go_2
def dkwX2_go_0 : List UInt8 := [42, 27, 182, 0, 82, 154, 0, 5, 4, 172, 42, 180, 0, 13, 16, 16, 27, 96, 46, 62, 42, 180, 0, 25]
abbrev dktX2_go_0 : List UInt8 := dkwX2_go_0 ++ dktX2_go_1
theorem dksX2_go_0 : cX2_go.data.toList.drop 0 = dktX2_go_0 := by decide +kernel
theorem dksX2_go_1 : cX2_go.data.toList.drop 24 = dktX2_go_1 := dk_seg dksX2_go_0 24 rfl rfl
theorem dksX2_go_2 : cX2_go.data.toList.drop 46 = dktX2_go_2 := dk_seg dksX2_go_1 22 rfl rfl
theorem dksX2_go_3 : cX2_go.data.toList.drop 70 = dktX2_go_3 := dk_seg dksX2_go_2 24 rfl rfl
theorem dX2_go_0 : decode cX2_go 0 = .ok (.aload_n 0, 1) := dk_42 (dk_at dksX2_go_0 0 rfl rfl)
theorem dX2_go_1 : decode cX2_go 1 = .ok (.iload_n 1, 1) := dk_27 (dk_at dksX2_go_0 1 rfl rfl)
theorem dX2_go_2 : decode cX2_go 2 = .ok (.invokevirtual 82, 3) := dk_182 0 82 (dk_at dksX2_go_0 2 rfl rfl)
theorem dX2_go_5 : decode cX2_go 5 = .ok (.ifCond .ne 5, 3) := dk_154 0 5 (dk_at dksX2_go_0 5 rfl rfl)
theorem dX2_go_8 : decode cX2_go 8 = .ok (.iconst 1, 1) := dk_4 (dk_at dksX2_go_0 8 rfl rfl)
theorem dX2_go_9 : decode cX2_go 9 = .ok (.ireturn, 1) := dk_172 (dk_at dksX2_go_0 9 rfl rfl)
theorem dX2_go_10 : decode cX2_go 10 = .ok (.aload_n 0, 1) := dk_42 (dk_at dksX2_go_0 10 rfl rfl)
theorem dX2_go_11 : decode cX2_go 11 = .ok (.getfield 13, 3) := dk_180 0 13 (dk_at dksX2_go_0 11 rfl rfl)
theorem dX2_go_14 : decode cX2_go 14 = .ok (.bipush 16, 2) := dk_16 16 (dk_at dksX2_go_0 14 rfl rfl)
theorem dX2_go_16 : decode cX2_go 16 = .ok (.iload_n 1, 1) := dk_27 (dk_at dksX2_go_0 16 rfl rfl)
theorem dX2_go_17 : decode cX2_go 17 = .ok (.iadd, 1) := dk_96 (dk_at dksX2_go_0 17 rfl rfl)
theorem dX2_go_18 : decode cX2_go 18 = .ok (.iaload, 1) := dk_46 (dk_at dksX2_go_0 18 rfl rfl)
theorem dX2_go_19 : decode cX2_go 19 = .ok (.istore_n 3, 1) := dk_62 (dk_at dksX2_go_0 19 rfl rfl)
theorem dX2_go_20 : decode cX2_go 20 = .ok (.aload_n 0, 1) := dk_42 (dk_at dksX2_go_0 20 rfl rfl)
theorem dX2_go_21 : decode cX2_go 21 = .ok (.getfield 25, 3) := dk_180 0 25 (dk_at dksX2_go_0 21 rfl rfl)
theorem dX2_go_24 : decode cX2_go 24 = .ok (.iload_n 3, 1) := dk_29 (dk_at dksX2_go_1 0 rfl rfl)
theorem dX2_go_25 : decode cX2_go 25 = .ok (.iaload, 1) := dk_46 (dk_at dksX2_go_1 1 rfl rfl)
theorem dX2_go_26 : decode cX2_go 26 = .ok (.iload_n 2, 1) := dk_28 (dk_at dksX2_go_1 2 rfl rfl)
theorem dX2_go_27 : decode cX2_go 27 = .ok (.invokestatic 67, 3) := dk_184 0 67 (dk_at dksX2_go_1 3 rfl rfl)
theorem dX2_go_30 : decode cX2_go 30 = .ok (.ifCond .ne 5, 3) := dk_154 0 5 (dk_at dksX2_go_1 6 rfl rfl)
theorem dX2_go_33 : decode cX2_go 33 = .ok (.iconst 5, 1) := dk_8 (dk_at dksX2_go_1 9 rfl rfl)
theorem dX2_go_34 : decode cX2_go 34 = .ok (.ireturn, 1) := dk_172 (dk_at dksX2_go_1 10 rfl rfl)
theorem dX2_go_35 : decode cX2_go 35 = .ok (.aload_n 0, 1) := dk_42 (dk_at dksX2_go_1 11 rfl rfl)
theorem dX2_go_36 : decode cX2_go 36 = .ok (.getfield 13, 3) := dk_180 0 13 (dk_at dksX2_go_1 12 rfl rfl)
theorem dX2_go_39 : decode cX2_go 39 = .ok (.bipush 34, 2) := dk_16 34 (dk_at dksX2_go_1 15 rfl rfl)
theorem dX2_go_41 : decode cX2_go 41 = .ok (.iaload, 1) := dk_46 (dk_at dksX2_go_1 17 rfl rfl)
theorem dX2_go_42 : decode cX2_go 42 = .ok (.iload_n 3, 1) := dk_29 (dk_at dksX2_go_1 18 rfl rfl)
theorem dX2_go_43 : decode cX2_go 43 = .ok (.invokestatic 67, 3) := dk_184 0 67 (dk_at dksX2_go_1 19 rfl rfl)
theorem dX2_go_46 : decode cX2_go 46 = .ok (.ifCond .ne 17, 3) := dk_154 0 17 (dk_at dksX2_go_2 0 rfl rfl)
theorem dX2_go_49 : decode cX2_go 49 = .ok (.aload_n 0, 1) := dk_42 (dk_at dksX2_go_2 3 rfl rfl)
theorem dX2_go_50 : decode cX2_go 50 = .ok (.getfield 13, 3) := dk_180 0 13 (dk_at dksX2_go_2 4 rfl rfl)
theorem dX2_go_53 : decode cX2_go 53 = .ok (.bipush 34, 2) := dk_16 34 (dk_at dksX2_go_2 7 rfl rfl)
theorem dX2_go_55 : decode cX2_go 55 = .ok (.iaload, 1) := dk_46 (dk_at dksX2_go_2 9 rfl rfl)
theorem dX2_go_56 : decode cX2_go 56 = .ok (.iload_n 2, 1) := dk_28 (dk_at dksX2_go_2 10 rfl rfl)
theorem dX2_go_57 : decode cX2_go 57 = .ok (.invokestatic 67, 3) := dk_184 0 67 (dk_at dksX2_go_2 11 rfl rfl)
theorem dX2_go_60 : decode cX2_go 60 = .ok (.ifCond .eq 6, 3) := dk_153 0 6 (dk_at dksX2_go_2 14 rfl rfl)
theorem dX2_go_63 : decode cX2_go 63 = .ok (.bipush 6, 2) := dk_16 6 (dk_at dksX2_go_2 17 rfl rfl)
theorem dX2_go_65 : decode cX2_go 65 = .ok (.ireturn, 1) := dk_172 (dk_at dksX2_go_2 19 rfl rfl)
theorem dX2_go_66 : decode cX2_go 66 = .ok (.aload_n 0, 1) := dk_42 (dk_at dksX2_go_2 20 rfl rfl)
theorem dX2_go_67 : decode cX2_go 67 = .ok (.getfield 13, 3) := dk_180 0 13 (dk_at dksX2_go_2 21 rfl rfl)
theorem dX2_go_70 : decode cX2_go 70 = .ok (.bipush 16, 2) := dk_16 16 (dk_at dksX2_go_3 0 rfl rfl)
theorem dX2_go_72 : decode cX2_go 72 = .ok (.iload_n 1, 1) := dk_27 (dk_at dksX2_go_3 2 rfl rfl)
theorem dX2_go_73 : decode cX2_go 73 = .ok (.iadd, 1) := dk_96 (dk_at dksX2_go_3 3 rfl rfl)
theorem dX2_go_74 : decode cX2_go 74 = .ok (.iload_n 2, 1) := dk_28 (dk_at dksX2_go_3 4 rfl rfl)
theorem dX2_go_75 : decode cX2_go 75 = .ok (.iastore, 1) := dk_79 (dk_at dksX2_go_3 5 rfl rfl)
theorem dX2_go_76 : decode cX2_go 76 = .ok (.iconst 0, 1) := dk_3 (dk_at dksX2_go_3 6 rfl rfl)
theorem dX2_go_77 : decode cX2_go 77 = .ok (.ireturn, 1) := dk_172 (dk_at dksX2_go_3 7 rfl rfl)
abbrev cX2_sing : ByteArray := prog_4_method_22_code
def yX2_sing : MethodName := ⟨RX2, "sing", "(II)I"⟩
def dkwX2_sing_2 : List UInt8 := [16, 8, 27, 96, 46, 154, 0, 5, 7, 172, 42, 180, 0, 13, 27, 28, 79, 3, 172]
abbrev dktX2_sing_2 : List UInt8 := dkwX2_sing_2 ++ []
def dkwX2_sing_1 : List UInt8 := [184, 0, 59, 154, 0, 5, 5, 172, 42, 180, 0, 13, 27, 46, 28, 160, 0, 5, 6, 172, 42, 180, 0, 13]
abbrev dktX2_sing_1 : List UInt8 := dkwX2_sing_1 ++ dktX2_sing_2
def dkwX2_sing_0 : List UInt8 := [42, 27, 182, 0, 82, 154, 0, 5, 4, 172, 28, 42, 180, 0, 16, 27, 46, 42, 180, 0, 19, 27, 46]
abbrev dktX2_sing_0 : List UInt8 := dkwX2_sing_0 ++ dktX2_sing_1
theorem dksX2_sing_0 : cX2_sing.data.toList.drop 0 = dktX2_sing_0 := by decide +kernel
theorem dksX2_sing_1 : cX2_sing.data.toList.drop 23 = dktX2_sing_1 := dk_seg dksX2_sing_0 23 rfl rfl
theorem dksX2_sing_2 : cX2_sing.data.toList.drop 47 = dktX2_sing_2 := dk_seg dksX2_sing_1 24 rfl rfl
theorem dX2_sing_0 : decode cX2_sing 0 = .ok (.aload_n 0, 1) := dk_42 (dk_at dksX2_sing_0 0 rfl rfl)
theorem dX2_sing_1 : decode cX2_sing 1 = .ok (.iload_n 1, 1) := dk_27 (dk_at dksX2_sing_0 1 rfl rfl)
theorem dX2_sing_2 : decode cX2_sing 2 = .ok (.invokevirtual 82, 3) := dk_182 0 82 (dk_at dksX2_sing_0 2 rfl rfl)
theorem dX2_sing_5 : decode cX2_sing 5 = .ok (.ifCond .ne 5, 3) := dk_154 0 5 (dk_at dksX2_sing_0 5 rfl rfl)
theorem dX2_sing_8 : decode cX2_sing 8 = .ok (.iconst 1, 1) := dk_4 (dk_at dksX2_sing_0 8 rfl rfl)
theorem dX2_sing_9 : decode cX2_sing 9 = .ok (.ireturn, 1) := dk_172 (dk_at dksX2_sing_0 9 rfl rfl)
theorem dX2_sing_10 : decode cX2_sing 10 = .ok (.iload_n 2, 1) := dk_28 (dk_at dksX2_sing_0 10 rfl rfl)
theorem dX2_sing_11 : decode cX2_sing 11 = .ok (.aload_n 0, 1) := dk_42 (dk_at dksX2_sing_0 11 rfl rfl)
theorem dX2_sing_12 : decode cX2_sing 12 = .ok (.getfield 16, 3) := dk_180 0 16 (dk_at dksX2_sing_0 12 rfl rfl)
theorem dX2_sing_15 : decode cX2_sing 15 = .ok (.iload_n 1, 1) := dk_27 (dk_at dksX2_sing_0 15 rfl rfl)
theorem dX2_sing_16 : decode cX2_sing 16 = .ok (.iaload, 1) := dk_46 (dk_at dksX2_sing_0 16 rfl rfl)
theorem dX2_sing_17 : decode cX2_sing 17 = .ok (.aload_n 0, 1) := dk_42 (dk_at dksX2_sing_0 17 rfl rfl)
theorem dX2_sing_18 : decode cX2_sing 18 = .ok (.getfield 19, 3) := dk_180 0 19 (dk_at dksX2_sing_0 18 rfl rfl)
theorem dX2_sing_21 : decode cX2_sing 21 = .ok (.iload_n 1, 1) := dk_27 (dk_at dksX2_sing_0 21 rfl rfl)
theorem dX2_sing_22 : decode cX2_sing 22 = .ok (.iaload, 1) := dk_46 (dk_at dksX2_sing_0 22 rfl rfl)
theorem dX2_sing_23 : decode cX2_sing 23 = .ok (.invokestatic 59, 3) := dk_184 0 59 (dk_at dksX2_sing_1 0 rfl rfl)
theorem dX2_sing_26 : decode cX2_sing 26 = .ok (.ifCond .ne 5, 3) := dk_154 0 5 (dk_at dksX2_sing_1 3 rfl rfl)
theorem dX2_sing_29 : decode cX2_sing 29 = .ok (.iconst 2, 1) := dk_5 (dk_at dksX2_sing_1 6 rfl rfl)
theorem dX2_sing_30 : decode cX2_sing 30 = .ok (.ireturn, 1) := dk_172 (dk_at dksX2_sing_1 7 rfl rfl)
theorem dX2_sing_31 : decode cX2_sing 31 = .ok (.aload_n 0, 1) := dk_42 (dk_at dksX2_sing_1 8 rfl rfl)
theorem dX2_sing_32 : decode cX2_sing 32 = .ok (.getfield 13, 3) := dk_180 0 13 (dk_at dksX2_sing_1 9 rfl rfl)
theorem dX2_sing_35 : decode cX2_sing 35 = .ok (.iload_n 1, 1) := dk_27 (dk_at dksX2_sing_1 12 rfl rfl)
theorem dX2_sing_36 : decode cX2_sing 36 = .ok (.iaload, 1) := dk_46 (dk_at dksX2_sing_1 13 rfl rfl)
theorem dX2_sing_37 : decode cX2_sing 37 = .ok (.iload_n 2, 1) := dk_28 (dk_at dksX2_sing_1 14 rfl rfl)
theorem dX2_sing_38 : decode cX2_sing 38 = .ok (.if_icmp .ne 5, 3) := dk_160 0 5 (dk_at dksX2_sing_1 15 rfl rfl)
theorem dX2_sing_41 : decode cX2_sing 41 = .ok (.iconst 3, 1) := dk_6 (dk_at dksX2_sing_1 18 rfl rfl)
theorem dX2_sing_42 : decode cX2_sing 42 = .ok (.ireturn, 1) := dk_172 (dk_at dksX2_sing_1 19 rfl rfl)
theorem dX2_sing_43 : decode cX2_sing 43 = .ok (.aload_n 0, 1) := dk_42 (dk_at dksX2_sing_1 20 rfl rfl)
theorem dX2_sing_44 : decode cX2_sing 44 = .ok (.getfield 13, 3) := dk_180 0 13 (dk_at dksX2_sing_1 21 rfl rfl)
theorem dX2_sing_47 : decode cX2_sing 47 = .ok (.bipush 8, 2) := dk_16 8 (dk_at dksX2_sing_2 0 rfl rfl)
theorem dX2_sing_49 : decode cX2_sing 49 = .ok (.iload_n 1, 1) := dk_27 (dk_at dksX2_sing_2 2 rfl rfl)
theorem dX2_sing_50 : decode cX2_sing 50 = .ok (.iadd, 1) := dk_96 (dk_at dksX2_sing_2 3 rfl rfl)
theorem dX2_sing_51 : decode cX2_sing 51 = .ok (.iaload, 1) := dk_46 (dk_at dksX2_sing_2 4 rfl rfl)
theorem dX2_sing_52 : decode cX2_sing 52 = .ok (.ifCond .ne 5, 3) := dk_154 0 5 (dk_at dksX2_sing_2 5 rfl rfl)
theorem dX2_sing_55 : decode cX2_sing 55 = .ok (.iconst 4, 1) := dk_7 (dk_at dksX2_sing_2 8 rfl rfl)
theorem dX2_sing_56 : decode cX2_sing 56 = .ok (.ireturn, 1) := dk_172 (dk_at dksX2_sing_2 9 rfl rfl)
theorem dX2_sing_57 : decode cX2_sing 57 = .ok (.aload_n 0, 1) := dk_42 (dk_at dksX2_sing_2 10 rfl rfl)
theorem dX2_sing_58 : decode cX2_sing 58 = .ok (.getfield 13, 3) := dk_180 0 13 (dk_at dksX2_sing_2 11 rfl rfl)
theorem dX2_sing_61 : decode cX2_sing 61 = .ok (.iload_n 1, 1) := dk_27 (dk_at dksX2_sing_2 14 rfl rfl)
theorem dX2_sing_62 : decode cX2_sing 62 = .ok (.iload_n 2, 1) := dk_28 (dk_at dksX2_sing_2 15 rfl rfl)
theorem dX2_sing_63 : decode cX2_sing 63 = .ok (.iastore, 1) := dk_79 (dk_at dksX2_sing_2 16 rfl rfl)
theorem dX2_sing_64 : decode cX2_sing 64 = .ok (.iconst 0, 1) := dk_3 (dk_at dksX2_sing_2 17 rfl rfl)
theorem dX2_sing_65 : decode cX2_sing 65 = .ok (.ireturn, 1) := dk_172 (dk_at dksX2_sing_2 18 rfl rfl)
abbrev cX2_done : ByteArray := prog_4_method_29_code
def yX2_done : MethodName := ⟨RX2, "done", "()I"⟩
def dkwX2_done_1 : List UInt8 := [180, 0, 13, 27, 46, 79, 132, 1, 1, 167, 255, 235, 42, 3, 181, 0, 85, 42, 180, 0, 113, 172]
abbrev dktX2_done_1 : List UInt8 := dkwX2_done_1 ++ []
def dkwX2_done_0 : List UInt8 := [42, 182, 0, 138, 156, 0, 6, 16, 251, 172, 3, 60, 27, 16, 36, 162, 0, 21, 42, 180, 0, 7, 27, 42]
abbrev dktX2_done_0 : List UInt8 := dkwX2_done_0 ++ dktX2_done_1
theorem dksX2_done_0 : cX2_done.data.toList.drop 0 = dktX2_done_0 := by decide +kernel
theorem dksX2_done_1 : cX2_done.data.toList.drop 24 = dktX2_done_1 := dk_seg dksX2_done_0 24 rfl rfl
theorem dX2_done_0 : decode cX2_done 0 = .ok (.aload_n 0, 1) := dk_42 (dk_at dksX2_done_0 0 rfl rfl)
theorem dX2_done_1 : decode cX2_done 1 = .ok (.invokevirtual 138, 3) := dk_182 0 138 (dk_at dksX2_done_0 1 rfl rfl)
theorem dX2_done_4 : decode cX2_done 4 = .ok (.ifCond .ge 6, 3) := dk_156 0 6 (dk_at dksX2_done_0 4 rfl rfl)
theorem dX2_done_7 : decode cX2_done 7 = .ok (.bipush (-5), 2) := dk_16 251 (dk_at dksX2_done_0 7 rfl rfl)
theorem dX2_done_9 : decode cX2_done 9 = .ok (.ireturn, 1) := dk_172 (dk_at dksX2_done_0 9 rfl rfl)
theorem dX2_done_10 : decode cX2_done 10 = .ok (.iconst 0, 1) := dk_3 (dk_at dksX2_done_0 10 rfl rfl)
theorem dX2_done_11 : decode cX2_done 11 = .ok (.istore_n 1, 1) := dk_60 (dk_at dksX2_done_0 11 rfl rfl)
theorem dX2_done_12 : decode cX2_done 12 = .ok (.iload_n 1, 1) := dk_27 (dk_at dksX2_done_0 12 rfl rfl)
theorem dX2_done_13 : decode cX2_done 13 = .ok (.bipush 36, 2) := dk_16 36 (dk_at dksX2_done_0 13 rfl rfl)
theorem dX2_done_15 : decode cX2_done 15 = .ok (.if_icmp .ge 21, 3) := dk_162 0 21 (dk_at dksX2_done_0 15 rfl rfl)
theorem dX2_done_18 : decode cX2_done 18 = .ok (.aload_n 0, 1) := dk_42 (dk_at dksX2_done_0 18 rfl rfl)
theorem dX2_done_19 : decode cX2_done 19 = .ok (.getfield 7, 3) := dk_180 0 7 (dk_at dksX2_done_0 19 rfl rfl)
theorem dX2_done_22 : decode cX2_done 22 = .ok (.iload_n 1, 1) := dk_27 (dk_at dksX2_done_0 22 rfl rfl)
theorem dX2_done_23 : decode cX2_done 23 = .ok (.aload_n 0, 1) := dk_42 (dk_at dksX2_done_0 23 rfl rfl)
theorem dX2_done_24 : decode cX2_done 24 = .ok (.getfield 13, 3) := dk_180 0 13 (dk_at dksX2_done_1 0 rfl rfl)
theorem dX2_done_27 : decode cX2_done 27 = .ok (.iload_n 1, 1) := dk_27 (dk_at dksX2_done_1 3 rfl rfl)
theorem dX2_done_28 : decode cX2_done 28 = .ok (.iaload, 1) := dk_46 (dk_at dksX2_done_1 4 rfl rfl)
theorem dX2_done_29 : decode cX2_done 29 = .ok (.iastore, 1) := dk_79 (dk_at dksX2_done_1 5 rfl rfl)
theorem dX2_done_30 : decode cX2_done 30 = .ok (.iinc 1 1, 3) := dk_132 1 1 (dk_at dksX2_done_1 6 rfl rfl)
theorem dX2_done_33 : decode cX2_done 33 = .ok (.goto (-21), 3) := dk_167 255 235 (dk_at dksX2_done_1 9 rfl rfl)
theorem dX2_done_36 : decode cX2_done 36 = .ok (.aload_n 0, 1) := dk_42 (dk_at dksX2_done_1 12 rfl rfl)
theorem dX2_done_37 : decode cX2_done 37 = .ok (.iconst 0, 1) := dk_3 (dk_at dksX2_done_1 13 rfl rfl)
theorem dX2_done_38 : decode cX2_done 38 = .ok (.putfield 85, 3) := dk_181 0 85 (dk_at dksX2_done_1 14 rfl rfl)
theorem dX2_done_41 : decode cX2_done 41 = .ok (.aload_n 0, 1) := dk_42 (dk_at dksX2_done_1 17 rfl rfl)
theorem dX2_done_42 : decode cX2_done 42 = .ok (.getfield 113, 3) := dk_180 0 113 (dk_at dksX2_done_1 18 rfl rfl)
theorem dX2_done_45 : decode cX2_done 45 = .ok (.ireturn, 1) := dk_172 (dk_at dksX2_done_1 21 rfl rfl)
abbrev cX2_barOfShifts : ByteArray := prog_4_method_28_code
def yX2_barOfShifts : MethodName := ⟨RX2, "barOfShifts", "()I"⟩
def dkwX2_barOfShifts_0 : List UInt8 := [42, 182, 0, 88, 156, 0, 10, 42, 182, 0, 135, 155, 0, 8, 16, 251, 167, 0, 4, 3, 172]
abbrev dktX2_barOfShifts_0 : List UInt8 := dkwX2_barOfShifts_0 ++ []
theorem dksX2_barOfShifts_0 : cX2_barOfShifts.data.toList.drop 0 = dktX2_barOfShifts_0 := by decide +kernel
theorem dX2_barOfShifts_0 : decode cX2_barOfShifts 0 = .ok (.aload_n 0, 1) := dk_42 (dk_at dksX2_barOfShifts_0 0 rfl rfl)
theorem dX2_barOfShifts_1 : decode cX2_barOfShifts 1 = .ok (.invokevirtual 88, 3) := dk_182 0 88 (dk_at dksX2_barOfShifts_0 1 rfl rfl)
theorem dX2_barOfShifts_4 : decode cX2_barOfShifts 4 = .ok (.ifCond .ge 10, 3) := dk_156 0 10 (dk_at dksX2_barOfShifts_0 4 rfl rfl)
theorem dX2_barOfShifts_7 : decode cX2_barOfShifts 7 = .ok (.aload_n 0, 1) := dk_42 (dk_at dksX2_barOfShifts_0 7 rfl rfl)
theorem dX2_barOfShifts_8 : decode cX2_barOfShifts 8 = .ok (.invokevirtual 135, 3) := dk_182 0 135 (dk_at dksX2_barOfShifts_0 8 rfl rfl)
theorem dX2_barOfShifts_11 : decode cX2_barOfShifts 11 = .ok (.ifCond .lt 8, 3) := dk_155 0 8 (dk_at dksX2_barOfShifts_0 11 rfl rfl)
theorem dX2_barOfShifts_14 : decode cX2_barOfShifts 14 = .ok (.bipush (-5), 2) := dk_16 251 (dk_at dksX2_barOfShifts_0 14 rfl rfl)
theorem dX2_barOfShifts_16 : decode cX2_barOfShifts 16 = .ok (.goto 4, 3) := dk_167 0 4 (dk_at dksX2_barOfShifts_0 16 rfl rfl)
theorem dX2_barOfShifts_19 : decode cX2_barOfShifts 19 = .ok (.iconst 0, 1) := dk_3 (dk_at dksX2_barOfShifts_0 19 rfl rfl)
theorem dX2_barOfShifts_20 : decode cX2_barOfShifts 20 = .ok (.ireturn, 1) := dk_172 (dk_at dksX2_barOfShifts_0 20 rfl rfl)
abbrev cX2_behind : ByteArray := prog_4_method_30_code
def yX2_behind : MethodName := ⟨RX2, "behind", "(II)I"⟩
def dkwX2_behind_1 : List UInt8 := [182, 0, 138, 156, 0, 8, 16, 251, 167, 0, 14, 42, 180, 0, 13, 16, 8, 28, 104, 27, 96, 46, 172]
abbrev dktX2_behind_1 : List UInt8 := dkwX2_behind_1 ++ []
def dkwX2_behind_0 : List UInt8 := [42, 27, 182, 0, 82, 154, 0, 5, 2, 172, 28, 3, 5, 184, 0, 59, 154, 0, 6, 16, 254, 172, 42]
abbrev dktX2_behind_0 : List UInt8 := dkwX2_behind_0 ++ dktX2_behind_1
theorem dksX2_behind_0 : cX2_behind.data.toList.drop 0 = dktX2_behind_0 := by decide +kernel
theorem dksX2_behind_1 : cX2_behind.data.toList.drop 23 = dktX2_behind_1 := dk_seg dksX2_behind_0 23 rfl rfl
theorem dX2_behind_0 : decode cX2_behind 0 = .ok (.aload_n 0, 1) := dk_42 (dk_at dksX2_behind_0 0 rfl rfl)
theorem dX2_behind_1 : decode cX2_behind 1 = .ok (.iload_n 1, 1) := dk_27 (dk_at dksX2_behind_0 1 rfl rfl)
theorem dX2_behind_2 : decode cX2_behind 2 = .ok (.invokevirtual 82, 3) := dk_182 0 82 (dk_at dksX2_behind_0 2 rfl rfl)
theorem dX2_behind_5 : decode cX2_behind 5 = .ok (.ifCond .ne 5, 3) := dk_154 0 5 (dk_at dksX2_behind_0 5 rfl rfl)
theorem dX2_behind_8 : decode cX2_behind 8 = .ok (.iconst (-1), 1) := dk_2 (dk_at dksX2_behind_0 8 rfl rfl)
theorem dX2_behind_9 : decode cX2_behind 9 = .ok (.ireturn, 1) := dk_172 (dk_at dksX2_behind_0 9 rfl rfl)
theorem dX2_behind_10 : decode cX2_behind 10 = .ok (.iload_n 2, 1) := dk_28 (dk_at dksX2_behind_0 10 rfl rfl)
theorem dX2_behind_11 : decode cX2_behind 11 = .ok (.iconst 0, 1) := dk_3 (dk_at dksX2_behind_0 11 rfl rfl)
theorem dX2_behind_12 : decode cX2_behind 12 = .ok (.iconst 2, 1) := dk_5 (dk_at dksX2_behind_0 12 rfl rfl)
theorem dX2_behind_13 : decode cX2_behind 13 = .ok (.invokestatic 59, 3) := dk_184 0 59 (dk_at dksX2_behind_0 13 rfl rfl)
theorem dX2_behind_16 : decode cX2_behind 16 = .ok (.ifCond .ne 6, 3) := dk_154 0 6 (dk_at dksX2_behind_0 16 rfl rfl)
theorem dX2_behind_19 : decode cX2_behind 19 = .ok (.bipush (-2), 2) := dk_16 254 (dk_at dksX2_behind_0 19 rfl rfl)
theorem dX2_behind_21 : decode cX2_behind 21 = .ok (.ireturn, 1) := dk_172 (dk_at dksX2_behind_0 21 rfl rfl)
theorem dX2_behind_22 : decode cX2_behind 22 = .ok (.aload_n 0, 1) := dk_42 (dk_at dksX2_behind_0 22 rfl rfl)
theorem dX2_behind_23 : decode cX2_behind 23 = .ok (.invokevirtual 138, 3) := dk_182 0 138 (dk_at dksX2_behind_1 0 rfl rfl)
theorem dX2_behind_26 : decode cX2_behind 26 = .ok (.ifCond .ge 8, 3) := dk_156 0 8 (dk_at dksX2_behind_1 3 rfl rfl)
theorem dX2_behind_29 : decode cX2_behind 29 = .ok (.bipush (-5), 2) := dk_16 251 (dk_at dksX2_behind_1 6 rfl rfl)
theorem dX2_behind_31 : decode cX2_behind 31 = .ok (.goto 14, 3) := dk_167 0 14 (dk_at dksX2_behind_1 8 rfl rfl)
theorem dX2_behind_34 : decode cX2_behind 34 = .ok (.aload_n 0, 1) := dk_42 (dk_at dksX2_behind_1 11 rfl rfl)
theorem dX2_behind_35 : decode cX2_behind 35 = .ok (.getfield 13, 3) := dk_180 0 13 (dk_at dksX2_behind_1 12 rfl rfl)
theorem dX2_behind_38 : decode cX2_behind 38 = .ok (.bipush 8, 2) := dk_16 8 (dk_at dksX2_behind_1 15 rfl rfl)
theorem dX2_behind_40 : decode cX2_behind 40 = .ok (.iload_n 2, 1) := dk_28 (dk_at dksX2_behind_1 17 rfl rfl)
theorem dX2_behind_41 : decode cX2_behind 41 = .ok (.imul, 1) := dk_104 (dk_at dksX2_behind_1 18 rfl rfl)
theorem dX2_behind_42 : decode cX2_behind 42 = .ok (.iload_n 1, 1) := dk_27 (dk_at dksX2_behind_1 19 rfl rfl)
theorem dX2_behind_43 : decode cX2_behind 43 = .ok (.iadd, 1) := dk_96 (dk_at dksX2_behind_1 20 rfl rfl)
theorem dX2_behind_44 : decode cX2_behind 44 = .ok (.iaload, 1) := dk_46 (dk_at dksX2_behind_1 21 rfl rfl)
theorem dX2_behind_45 : decode cX2_behind 45 = .ok (.ireturn, 1) := dk_172 (dk_at dksX2_behind_1 22 rfl rfl)
abbrev cX2_seam : ByteArray := prog_4_method_31_code
def yX2_seam : MethodName := ⟨RX2, "seam", "(II)I"⟩
def dkwX2_seam_2 : List UInt8 := [180, 0, 13, 16, 24, 27, 96, 46, 172]
abbrev dktX2_seam_2 : List UInt8 := dkwX2_seam_2 ++ []
def dkwX2_seam_1 : List UInt8 := [182, 0, 138, 156, 0, 6, 16, 251, 172, 28, 154, 0, 11, 42, 27, 182, 0, 101, 167, 0, 12, 42]
abbrev dktX2_seam_1 : List UInt8 := dkwX2_seam_1 ++ dktX2_seam_2
def dkwX2_seam_0 : List UInt8 := [27, 184, 0, 71, 154, 0, 5, 2, 172, 28, 3, 4, 184, 0, 59, 154, 0, 6, 16, 254, 172, 42]
abbrev dktX2_seam_0 : List UInt8 := dkwX2_seam_0 ++ dktX2_seam_1
theorem dksX2_seam_0 : cX2_seam.data.toList.drop 0 = dktX2_seam_0 := by decide +kernel
theorem dksX2_seam_1 : cX2_seam.data.toList.drop 22 = dktX2_seam_1 := dk_seg dksX2_seam_0 22 rfl rfl
theorem dksX2_seam_2 : cX2_seam.data.toList.drop 44 = dktX2_seam_2 := dk_seg dksX2_seam_1 22 rfl rfl
theorem dX2_seam_0 : decode cX2_seam 0 = .ok (.iload_n 1, 1) := dk_27 (dk_at dksX2_seam_0 0 rfl rfl)
theorem dX2_seam_1 : decode cX2_seam 1 = .ok (.invokestatic 71, 3) := dk_184 0 71 (dk_at dksX2_seam_0 1 rfl rfl)
theorem dX2_seam_4 : decode cX2_seam 4 = .ok (.ifCond .ne 5, 3) := dk_154 0 5 (dk_at dksX2_seam_0 4 rfl rfl)
theorem dX2_seam_7 : decode cX2_seam 7 = .ok (.iconst (-1), 1) := dk_2 (dk_at dksX2_seam_0 7 rfl rfl)
theorem dX2_seam_8 : decode cX2_seam 8 = .ok (.ireturn, 1) := dk_172 (dk_at dksX2_seam_0 8 rfl rfl)
theorem dX2_seam_9 : decode cX2_seam 9 = .ok (.iload_n 2, 1) := dk_28 (dk_at dksX2_seam_0 9 rfl rfl)
theorem dX2_seam_10 : decode cX2_seam 10 = .ok (.iconst 0, 1) := dk_3 (dk_at dksX2_seam_0 10 rfl rfl)
theorem dX2_seam_11 : decode cX2_seam 11 = .ok (.iconst 1, 1) := dk_4 (dk_at dksX2_seam_0 11 rfl rfl)
theorem dX2_seam_12 : decode cX2_seam 12 = .ok (.invokestatic 59, 3) := dk_184 0 59 (dk_at dksX2_seam_0 12 rfl rfl)
theorem dX2_seam_15 : decode cX2_seam 15 = .ok (.ifCond .ne 6, 3) := dk_154 0 6 (dk_at dksX2_seam_0 15 rfl rfl)
theorem dX2_seam_18 : decode cX2_seam 18 = .ok (.bipush (-2), 2) := dk_16 254 (dk_at dksX2_seam_0 18 rfl rfl)
theorem dX2_seam_20 : decode cX2_seam 20 = .ok (.ireturn, 1) := dk_172 (dk_at dksX2_seam_0 20 rfl rfl)
theorem dX2_seam_21 : decode cX2_seam 21 = .ok (.aload_n 0, 1) := dk_42 (dk_at dksX2_seam_0 21 rfl rfl)
theorem dX2_seam_22 : decode cX2_seam 22 = .ok (.invokevirtual 138, 3) := dk_182 0 138 (dk_at dksX2_seam_1 0 rfl rfl)
theorem dX2_seam_25 : decode cX2_seam 25 = .ok (.ifCond .ge 6, 3) := dk_156 0 6 (dk_at dksX2_seam_1 3 rfl rfl)
theorem dX2_seam_28 : decode cX2_seam 28 = .ok (.bipush (-5), 2) := dk_16 251 (dk_at dksX2_seam_1 6 rfl rfl)
theorem dX2_seam_30 : decode cX2_seam 30 = .ok (.ireturn, 1) := dk_172 (dk_at dksX2_seam_1 8 rfl rfl)
theorem dX2_seam_31 : decode cX2_seam 31 = .ok (.iload_n 2, 1) := dk_28 (dk_at dksX2_seam_1 9 rfl rfl)
theorem dX2_seam_32 : decode cX2_seam 32 = .ok (.ifCond .ne 11, 3) := dk_154 0 11 (dk_at dksX2_seam_1 10 rfl rfl)
theorem dX2_seam_35 : decode cX2_seam 35 = .ok (.aload_n 0, 1) := dk_42 (dk_at dksX2_seam_1 13 rfl rfl)
theorem dX2_seam_36 : decode cX2_seam 36 = .ok (.iload_n 1, 1) := dk_27 (dk_at dksX2_seam_1 14 rfl rfl)
theorem dX2_seam_37 : decode cX2_seam 37 = .ok (.invokevirtual 101, 3) := dk_182 0 101 (dk_at dksX2_seam_1 15 rfl rfl)
theorem dX2_seam_40 : decode cX2_seam 40 = .ok (.goto 12, 3) := dk_167 0 12 (dk_at dksX2_seam_1 18 rfl rfl)
theorem dX2_seam_43 : decode cX2_seam 43 = .ok (.aload_n 0, 1) := dk_42 (dk_at dksX2_seam_1 21 rfl rfl)
theorem dX2_seam_44 : decode cX2_seam 44 = .ok (.getfield 13, 3) := dk_180 0 13 (dk_at dksX2_seam_2 0 rfl rfl)
theorem dX2_seam_47 : decode cX2_seam 47 = .ok (.bipush 24, 2) := dk_16 24 (dk_at dksX2_seam_2 3 rfl rfl)
theorem dX2_seam_49 : decode cX2_seam 49 = .ok (.iload_n 1, 1) := dk_27 (dk_at dksX2_seam_2 5 rfl rfl)
theorem dX2_seam_50 : decode cX2_seam 50 = .ok (.iadd, 1) := dk_96 (dk_at dksX2_seam_2 6 rfl rfl)
theorem dX2_seam_51 : decode cX2_seam 51 = .ok (.iaload, 1) := dk_46 (dk_at dksX2_seam_2 7 rfl rfl)
theorem dX2_seam_52 : decode cX2_seam 52 = .ok (.ireturn, 1) := dk_172 (dk_at dksX2_seam_2 8 rfl rfl)
abbrev cX2_then : ByteArray := prog_4_method_33_code
def yX2_then : MethodName := ⟨RX2, "then", "(I)I"⟩
def dkwX2_then_3 : List UInt8 := [180, 0, 104, 167, 0, 7, 42, 180, 0, 107, 172]
abbrev dktX2_then_3 : List UInt8 := dkwX2_then_3 ++ []
def dkwX2_then_2 : List UInt8 := [42, 182, 0, 116, 172, 42, 180, 0, 13, 16, 35, 46, 172, 42, 182, 0, 141, 172, 27, 6, 160, 0, 10, 42]
abbrev dktX2_then_2 : List UInt8 := dkwX2_then_2 ++ dktX2_then_3
def dkwX2_then_1 : List UInt8 := [170, 0, 0, 0, 43, 0, 0, 0, 0, 0, 0, 0, 2, 0, 0, 0, 25, 0, 0, 0, 30, 0, 0, 0, 38]
abbrev dktX2_then_1 : List UInt8 := dkwX2_then_1 ++ dktX2_then_2
def dkwX2_then_0 : List UInt8 := [27, 3, 7, 184, 0, 59, 154, 0, 6, 16, 254, 172, 42, 182, 0, 138, 156, 0, 6, 16, 251, 172, 27]
abbrev dktX2_then_0 : List UInt8 := dkwX2_then_0 ++ dktX2_then_1
theorem dksX2_then_0 : cX2_then.data.toList.drop 0 = dktX2_then_0 := by decide +kernel
theorem dksX2_then_1 : cX2_then.data.toList.drop 23 = dktX2_then_1 := dk_seg dksX2_then_0 23 rfl rfl
theorem dksX2_then_2 : cX2_then.data.toList.drop 48 = dktX2_then_2 := dk_seg dksX2_then_1 25 rfl rfl
theorem dksX2_then_3 : cX2_then.data.toList.drop 72 = dktX2_then_3 := dk_seg dksX2_then_2 24 rfl rfl
theorem dX2_then_0 : decode cX2_then 0 = .ok (.iload_n 1, 1) := dk_27 (dk_at dksX2_then_0 0 rfl rfl)
theorem dX2_then_1 : decode cX2_then 1 = .ok (.iconst 0, 1) := dk_3 (dk_at dksX2_then_0 1 rfl rfl)
theorem dX2_then_2 : decode cX2_then 2 = .ok (.iconst 4, 1) := dk_7 (dk_at dksX2_then_0 2 rfl rfl)
theorem dX2_then_3 : decode cX2_then 3 = .ok (.invokestatic 59, 3) := dk_184 0 59 (dk_at dksX2_then_0 3 rfl rfl)
theorem dX2_then_6 : decode cX2_then 6 = .ok (.ifCond .ne 6, 3) := dk_154 0 6 (dk_at dksX2_then_0 6 rfl rfl)
theorem dX2_then_9 : decode cX2_then 9 = .ok (.bipush (-2), 2) := dk_16 254 (dk_at dksX2_then_0 9 rfl rfl)
theorem dX2_then_11 : decode cX2_then 11 = .ok (.ireturn, 1) := dk_172 (dk_at dksX2_then_0 11 rfl rfl)
theorem dX2_then_12 : decode cX2_then 12 = .ok (.aload_n 0, 1) := dk_42 (dk_at dksX2_then_0 12 rfl rfl)
theorem dX2_then_13 : decode cX2_then 13 = .ok (.invokevirtual 138, 3) := dk_182 0 138 (dk_at dksX2_then_0 13 rfl rfl)
theorem dX2_then_16 : decode cX2_then 16 = .ok (.ifCond .ge 6, 3) := dk_156 0 6 (dk_at dksX2_then_0 16 rfl rfl)
theorem dX2_then_19 : decode cX2_then 19 = .ok (.bipush (-5), 2) := dk_16 251 (dk_at dksX2_then_0 19 rfl rfl)
theorem dX2_then_21 : decode cX2_then 21 = .ok (.ireturn, 1) := dk_172 (dk_at dksX2_then_0 21 rfl rfl)
theorem dX2_then_22 : decode cX2_then 22 = .ok (.iload_n 1, 1) := dk_27 (dk_at dksX2_then_0 22 rfl rfl)
theorem dX2_then_23 : decode cX2_then 23 = .ok (.tableswitch 43 0 2 #[25, 30, 38], 25) := by decide +kernel
theorem dX2_then_48 : decode cX2_then 48 = .ok (.aload_n 0, 1) := dk_42 (dk_at dksX2_then_2 0 rfl rfl)
theorem dX2_then_49 : decode cX2_then 49 = .ok (.invokevirtual 116, 3) := dk_182 0 116 (dk_at dksX2_then_2 1 rfl rfl)
theorem dX2_then_52 : decode cX2_then 52 = .ok (.ireturn, 1) := dk_172 (dk_at dksX2_then_2 4 rfl rfl)
theorem dX2_then_53 : decode cX2_then 53 = .ok (.aload_n 0, 1) := dk_42 (dk_at dksX2_then_2 5 rfl rfl)
theorem dX2_then_54 : decode cX2_then 54 = .ok (.getfield 13, 3) := dk_180 0 13 (dk_at dksX2_then_2 6 rfl rfl)
theorem dX2_then_57 : decode cX2_then 57 = .ok (.bipush 35, 2) := dk_16 35 (dk_at dksX2_then_2 9 rfl rfl)
theorem dX2_then_59 : decode cX2_then 59 = .ok (.iaload, 1) := dk_46 (dk_at dksX2_then_2 11 rfl rfl)
theorem dX2_then_60 : decode cX2_then 60 = .ok (.ireturn, 1) := dk_172 (dk_at dksX2_then_2 12 rfl rfl)
theorem dX2_then_61 : decode cX2_then 61 = .ok (.aload_n 0, 1) := dk_42 (dk_at dksX2_then_2 13 rfl rfl)
theorem dX2_then_62 : decode cX2_then 62 = .ok (.invokevirtual 141, 3) := dk_182 0 141 (dk_at dksX2_then_2 14 rfl rfl)
theorem dX2_then_65 : decode cX2_then 65 = .ok (.ireturn, 1) := dk_172 (dk_at dksX2_then_2 17 rfl rfl)
theorem dX2_then_66 : decode cX2_then 66 = .ok (.iload_n 1, 1) := dk_27 (dk_at dksX2_then_2 18 rfl rfl)
theorem dX2_then_67 : decode cX2_then 67 = .ok (.iconst 3, 1) := dk_6 (dk_at dksX2_then_2 19 rfl rfl)
theorem dX2_then_68 : decode cX2_then 68 = .ok (.if_icmp .ne 10, 3) := dk_160 0 10 (dk_at dksX2_then_2 20 rfl rfl)
theorem dX2_then_71 : decode cX2_then 71 = .ok (.aload_n 0, 1) := dk_42 (dk_at dksX2_then_2 23 rfl rfl)
theorem dX2_then_72 : decode cX2_then 72 = .ok (.getfield 104, 3) := dk_180 0 104 (dk_at dksX2_then_3 0 rfl rfl)
theorem dX2_then_75 : decode cX2_then 75 = .ok (.goto 7, 3) := dk_167 0 7 (dk_at dksX2_then_3 3 rfl rfl)
theorem dX2_then_78 : decode cX2_then 78 = .ok (.aload_n 0, 1) := dk_42 (dk_at dksX2_then_3 6 rfl rfl)
theorem dX2_then_79 : decode cX2_then 79 = .ok (.getfield 107, 3) := dk_180 0 107 (dk_at dksX2_then_3 7 rfl rfl)
theorem dX2_then_82 : decode cX2_then 82 = .ok (.ireturn, 1) := dk_172 (dk_at dksX2_then_3 10 rfl rfl)
abbrev cX2_coal : ByteArray := prog_4_method_32_code
def yX2_coal : MethodName := ⟨RX2, "coal", "()I"⟩
def dkwX2_coal_1 : List UInt8 := [132, 2, 1, 167, 255, 235, 27, 172]
abbrev dktX2_coal_1 : List UInt8 := dkwX2_coal_1 ++ []
def dkwX2_coal_0 : List UInt8 := [3, 60, 3, 61, 28, 16, 10, 162, 0, 21, 27, 42, 180, 0, 13, 16, 24, 28, 96, 46, 96, 60]
abbrev dktX2_coal_0 : List UInt8 := dkwX2_coal_0 ++ dktX2_coal_1
theorem dksX2_coal_0 : cX2_coal.data.toList.drop 0 = dktX2_coal_0 := by decide +kernel
theorem dksX2_coal_1 : cX2_coal.data.toList.drop 22 = dktX2_coal_1 := dk_seg dksX2_coal_0 22 rfl rfl
theorem dX2_coal_0 : decode cX2_coal 0 = .ok (.iconst 0, 1) := dk_3 (dk_at dksX2_coal_0 0 rfl rfl)
theorem dX2_coal_1 : decode cX2_coal 1 = .ok (.istore_n 1, 1) := dk_60 (dk_at dksX2_coal_0 1 rfl rfl)
theorem dX2_coal_2 : decode cX2_coal 2 = .ok (.iconst 0, 1) := dk_3 (dk_at dksX2_coal_0 2 rfl rfl)
theorem dX2_coal_3 : decode cX2_coal 3 = .ok (.istore_n 2, 1) := dk_61 (dk_at dksX2_coal_0 3 rfl rfl)
theorem dX2_coal_4 : decode cX2_coal 4 = .ok (.iload_n 2, 1) := dk_28 (dk_at dksX2_coal_0 4 rfl rfl)
theorem dX2_coal_5 : decode cX2_coal 5 = .ok (.bipush 10, 2) := dk_16 10 (dk_at dksX2_coal_0 5 rfl rfl)
theorem dX2_coal_7 : decode cX2_coal 7 = .ok (.if_icmp .ge 21, 3) := dk_162 0 21 (dk_at dksX2_coal_0 7 rfl rfl)
theorem dX2_coal_10 : decode cX2_coal 10 = .ok (.iload_n 1, 1) := dk_27 (dk_at dksX2_coal_0 10 rfl rfl)
theorem dX2_coal_11 : decode cX2_coal 11 = .ok (.aload_n 0, 1) := dk_42 (dk_at dksX2_coal_0 11 rfl rfl)
theorem dX2_coal_12 : decode cX2_coal 12 = .ok (.getfield 13, 3) := dk_180 0 13 (dk_at dksX2_coal_0 12 rfl rfl)
theorem dX2_coal_15 : decode cX2_coal 15 = .ok (.bipush 24, 2) := dk_16 24 (dk_at dksX2_coal_0 15 rfl rfl)
theorem dX2_coal_17 : decode cX2_coal 17 = .ok (.iload_n 2, 1) := dk_28 (dk_at dksX2_coal_0 17 rfl rfl)
theorem dX2_coal_18 : decode cX2_coal 18 = .ok (.iadd, 1) := dk_96 (dk_at dksX2_coal_0 18 rfl rfl)
theorem dX2_coal_19 : decode cX2_coal 19 = .ok (.iaload, 1) := dk_46 (dk_at dksX2_coal_0 19 rfl rfl)
theorem dX2_coal_20 : decode cX2_coal 20 = .ok (.iadd, 1) := dk_96 (dk_at dksX2_coal_0 20 rfl rfl)
theorem dX2_coal_21 : decode cX2_coal 21 = .ok (.istore_n 1, 1) := dk_60 (dk_at dksX2_coal_0 21 rfl rfl)
theorem dX2_coal_22 : decode cX2_coal 22 = .ok (.iinc 2 1, 3) := dk_132 2 1 (dk_at dksX2_coal_1 0 rfl rfl)
theorem dX2_coal_25 : decode cX2_coal 25 = .ok (.goto (-21), 3) := dk_167 255 235 (dk_at dksX2_coal_1 3 rfl rfl)
theorem dX2_coal_28 : decode cX2_coal 28 = .ok (.iload_n 1, 1) := dk_27 (dk_at dksX2_coal_1 6 rfl rfl)
theorem dX2_coal_29 : decode cX2_coal 29 = .ok (.ireturn, 1) := dk_172 (dk_at dksX2_coal_1 7 rfl rfl)
abbrev cX2_light : ByteArray := prog_4_method_34_code
def yX2_light : MethodName := ⟨RX2, "light", "(I)I"⟩
def dkwX2_light_0 : List UInt8 := [27, 184, 0, 71, 154, 0, 5, 2, 172, 42, 182, 0, 110, 42, 27, 182, 0, 101, 172]
abbrev dktX2_light_0 : List UInt8 := dkwX2_light_0 ++ []
theorem dksX2_light_0 : cX2_light.data.toList.drop 0 = dktX2_light_0 := by decide +kernel
theorem dX2_light_0 : decode cX2_light 0 = .ok (.iload_n 1, 1) := dk_27 (dk_at dksX2_light_0 0 rfl rfl)
theorem dX2_light_1 : decode cX2_light 1 = .ok (.invokestatic 71, 3) := dk_184 0 71 (dk_at dksX2_light_0 1 rfl rfl)
theorem dX2_light_4 : decode cX2_light 4 = .ok (.ifCond .ne 5, 3) := dk_154 0 5 (dk_at dksX2_light_0 4 rfl rfl)
theorem dX2_light_7 : decode cX2_light 7 = .ok (.iconst (-1), 1) := dk_2 (dk_at dksX2_light_0 7 rfl rfl)
theorem dX2_light_8 : decode cX2_light 8 = .ok (.ireturn, 1) := dk_172 (dk_at dksX2_light_0 8 rfl rfl)
theorem dX2_light_9 : decode cX2_light 9 = .ok (.aload_n 0, 1) := dk_42 (dk_at dksX2_light_0 9 rfl rfl)
theorem dX2_light_10 : decode cX2_light 10 = .ok (.invokevirtual 110, 3) := dk_182 0 110 (dk_at dksX2_light_0 10 rfl rfl)
theorem dX2_light_13 : decode cX2_light 13 = .ok (.aload_n 0, 1) := dk_42 (dk_at dksX2_light_0 13 rfl rfl)
theorem dX2_light_14 : decode cX2_light 14 = .ok (.iload_n 1, 1) := dk_27 (dk_at dksX2_light_0 14 rfl rfl)
theorem dX2_light_15 : decode cX2_light 15 = .ok (.invokevirtual 101, 3) := dk_182 0 101 (dk_at dksX2_light_0 15 rfl rfl)
theorem dX2_light_18 : decode cX2_light 18 = .ok (.ireturn, 1) := dk_172 (dk_at dksX2_light_0 18 rfl rfl)
abbrev cX2_shakes : ByteArray := prog_4_method_35_code
def yX2_shakes : MethodName := ⟨RX2, "shakes", "()I"⟩
def dkwX2_shakes_4 : List UInt8 := [167, 255, 174, 27, 172]
abbrev dktX2_shakes_4 : List UInt8 := dkwX2_shakes_4 ++ []
def dkwX2_shakes_3 : List UInt8 := [160, 0, 10, 4, 21, 4, 120, 167, 0, 4, 3, 128, 60, 132, 3, 1, 167, 255, 188, 132, 2, 1]
abbrev dktX2_shakes_3 : List UInt8 := dkwX2_shakes_3 ++ dktX2_shakes_4
def dkwX2_shakes_2 : List UInt8 := [21, 4, 182, 0, 92, 153, 0, 27, 42, 180, 0, 13, 28, 46, 42, 180, 0, 13, 29, 46, 4, 96]
abbrev dktX2_shakes_2 : List UInt8 := dkwX2_shakes_2 ++ dktX2_shakes_3
def dkwX2_shakes_1 : List UInt8 := [180, 0, 13, 16, 16, 28, 96, 46, 54, 4, 27, 42, 28, 21, 4, 182, 0, 92, 153, 0, 37, 42, 29]
abbrev dktX2_shakes_1 : List UInt8 := dkwX2_shakes_1 ++ dktX2_shakes_2
def dkwX2_shakes_0 : List UInt8 := [42, 182, 0, 110, 3, 60, 3, 61, 28, 16, 8, 162, 0, 82, 3, 62, 29, 16, 8, 162, 0, 68, 42]
abbrev dktX2_shakes_0 : List UInt8 := dkwX2_shakes_0 ++ dktX2_shakes_1
theorem dksX2_shakes_0 : cX2_shakes.data.toList.drop 0 = dktX2_shakes_0 := by decide +kernel
theorem dksX2_shakes_1 : cX2_shakes.data.toList.drop 23 = dktX2_shakes_1 := dk_seg dksX2_shakes_0 23 rfl rfl
theorem dksX2_shakes_2 : cX2_shakes.data.toList.drop 46 = dktX2_shakes_2 := dk_seg dksX2_shakes_1 23 rfl rfl
theorem dksX2_shakes_3 : cX2_shakes.data.toList.drop 68 = dktX2_shakes_3 := dk_seg dksX2_shakes_2 22 rfl rfl
theorem dksX2_shakes_4 : cX2_shakes.data.toList.drop 90 = dktX2_shakes_4 := dk_seg dksX2_shakes_3 22 rfl rfl
theorem dX2_shakes_0 : decode cX2_shakes 0 = .ok (.aload_n 0, 1) := dk_42 (dk_at dksX2_shakes_0 0 rfl rfl)
theorem dX2_shakes_1 : decode cX2_shakes 1 = .ok (.invokevirtual 110, 3) := dk_182 0 110 (dk_at dksX2_shakes_0 1 rfl rfl)
theorem dX2_shakes_4 : decode cX2_shakes 4 = .ok (.iconst 0, 1) := dk_3 (dk_at dksX2_shakes_0 4 rfl rfl)
theorem dX2_shakes_5 : decode cX2_shakes 5 = .ok (.istore_n 1, 1) := dk_60 (dk_at dksX2_shakes_0 5 rfl rfl)
theorem dX2_shakes_6 : decode cX2_shakes 6 = .ok (.iconst 0, 1) := dk_3 (dk_at dksX2_shakes_0 6 rfl rfl)
theorem dX2_shakes_7 : decode cX2_shakes 7 = .ok (.istore_n 2, 1) := dk_61 (dk_at dksX2_shakes_0 7 rfl rfl)
theorem dX2_shakes_8 : decode cX2_shakes 8 = .ok (.iload_n 2, 1) := dk_28 (dk_at dksX2_shakes_0 8 rfl rfl)
theorem dX2_shakes_9 : decode cX2_shakes 9 = .ok (.bipush 8, 2) := dk_16 8 (dk_at dksX2_shakes_0 9 rfl rfl)
theorem dX2_shakes_11 : decode cX2_shakes 11 = .ok (.if_icmp .ge 82, 3) := dk_162 0 82 (dk_at dksX2_shakes_0 11 rfl rfl)
theorem dX2_shakes_14 : decode cX2_shakes 14 = .ok (.iconst 0, 1) := dk_3 (dk_at dksX2_shakes_0 14 rfl rfl)
theorem dX2_shakes_15 : decode cX2_shakes 15 = .ok (.istore_n 3, 1) := dk_62 (dk_at dksX2_shakes_0 15 rfl rfl)
theorem dX2_shakes_16 : decode cX2_shakes 16 = .ok (.iload_n 3, 1) := dk_29 (dk_at dksX2_shakes_0 16 rfl rfl)
theorem dX2_shakes_17 : decode cX2_shakes 17 = .ok (.bipush 8, 2) := dk_16 8 (dk_at dksX2_shakes_0 17 rfl rfl)
theorem dX2_shakes_19 : decode cX2_shakes 19 = .ok (.if_icmp .ge 68, 3) := dk_162 0 68 (dk_at dksX2_shakes_0 19 rfl rfl)
theorem dX2_shakes_22 : decode cX2_shakes 22 = .ok (.aload_n 0, 1) := dk_42 (dk_at dksX2_shakes_0 22 rfl rfl)
theorem dX2_shakes_23 : decode cX2_shakes 23 = .ok (.getfield 13, 3) := dk_180 0 13 (dk_at dksX2_shakes_1 0 rfl rfl)
theorem dX2_shakes_26 : decode cX2_shakes 26 = .ok (.bipush 16, 2) := dk_16 16 (dk_at dksX2_shakes_1 3 rfl rfl)
theorem dX2_shakes_28 : decode cX2_shakes 28 = .ok (.iload_n 2, 1) := dk_28 (dk_at dksX2_shakes_1 5 rfl rfl)
theorem dX2_shakes_29 : decode cX2_shakes 29 = .ok (.iadd, 1) := dk_96 (dk_at dksX2_shakes_1 6 rfl rfl)
theorem dX2_shakes_30 : decode cX2_shakes 30 = .ok (.iaload, 1) := dk_46 (dk_at dksX2_shakes_1 7 rfl rfl)
theorem dX2_shakes_31 : decode cX2_shakes 31 = .ok (.istore 4, 2) := dk_54 4 (dk_at dksX2_shakes_1 8 rfl rfl)
theorem dX2_shakes_33 : decode cX2_shakes 33 = .ok (.iload_n 1, 1) := dk_27 (dk_at dksX2_shakes_1 10 rfl rfl)
theorem dX2_shakes_34 : decode cX2_shakes 34 = .ok (.aload_n 0, 1) := dk_42 (dk_at dksX2_shakes_1 11 rfl rfl)
theorem dX2_shakes_35 : decode cX2_shakes 35 = .ok (.iload_n 2, 1) := dk_28 (dk_at dksX2_shakes_1 12 rfl rfl)
theorem dX2_shakes_36 : decode cX2_shakes 36 = .ok (.iload 4, 2) := dk_21 4 (dk_at dksX2_shakes_1 13 rfl rfl)
theorem dX2_shakes_38 : decode cX2_shakes 38 = .ok (.invokevirtual 92, 3) := dk_182 0 92 (dk_at dksX2_shakes_1 15 rfl rfl)
theorem dX2_shakes_41 : decode cX2_shakes 41 = .ok (.ifCond .eq 37, 3) := dk_153 0 37 (dk_at dksX2_shakes_1 18 rfl rfl)
theorem dX2_shakes_44 : decode cX2_shakes 44 = .ok (.aload_n 0, 1) := dk_42 (dk_at dksX2_shakes_1 21 rfl rfl)
theorem dX2_shakes_45 : decode cX2_shakes 45 = .ok (.iload_n 3, 1) := dk_29 (dk_at dksX2_shakes_1 22 rfl rfl)
theorem dX2_shakes_46 : decode cX2_shakes 46 = .ok (.iload 4, 2) := dk_21 4 (dk_at dksX2_shakes_2 0 rfl rfl)
theorem dX2_shakes_48 : decode cX2_shakes 48 = .ok (.invokevirtual 92, 3) := dk_182 0 92 (dk_at dksX2_shakes_2 2 rfl rfl)
theorem dX2_shakes_51 : decode cX2_shakes 51 = .ok (.ifCond .eq 27, 3) := dk_153 0 27 (dk_at dksX2_shakes_2 5 rfl rfl)
theorem dX2_shakes_54 : decode cX2_shakes 54 = .ok (.aload_n 0, 1) := dk_42 (dk_at dksX2_shakes_2 8 rfl rfl)
theorem dX2_shakes_55 : decode cX2_shakes 55 = .ok (.getfield 13, 3) := dk_180 0 13 (dk_at dksX2_shakes_2 9 rfl rfl)
theorem dX2_shakes_58 : decode cX2_shakes 58 = .ok (.iload_n 2, 1) := dk_28 (dk_at dksX2_shakes_2 12 rfl rfl)
theorem dX2_shakes_59 : decode cX2_shakes 59 = .ok (.iaload, 1) := dk_46 (dk_at dksX2_shakes_2 13 rfl rfl)
theorem dX2_shakes_60 : decode cX2_shakes 60 = .ok (.aload_n 0, 1) := dk_42 (dk_at dksX2_shakes_2 14 rfl rfl)
theorem dX2_shakes_61 : decode cX2_shakes 61 = .ok (.getfield 13, 3) := dk_180 0 13 (dk_at dksX2_shakes_2 15 rfl rfl)
theorem dX2_shakes_64 : decode cX2_shakes 64 = .ok (.iload_n 3, 1) := dk_29 (dk_at dksX2_shakes_2 18 rfl rfl)
theorem dX2_shakes_65 : decode cX2_shakes 65 = .ok (.iaload, 1) := dk_46 (dk_at dksX2_shakes_2 19 rfl rfl)
theorem dX2_shakes_66 : decode cX2_shakes 66 = .ok (.iconst 1, 1) := dk_4 (dk_at dksX2_shakes_2 20 rfl rfl)
theorem dX2_shakes_67 : decode cX2_shakes 67 = .ok (.iadd, 1) := dk_96 (dk_at dksX2_shakes_2 21 rfl rfl)
theorem dX2_shakes_68 : decode cX2_shakes 68 = .ok (.if_icmp .ne 10, 3) := dk_160 0 10 (dk_at dksX2_shakes_3 0 rfl rfl)
theorem dX2_shakes_71 : decode cX2_shakes 71 = .ok (.iconst 1, 1) := dk_4 (dk_at dksX2_shakes_3 3 rfl rfl)
theorem dX2_shakes_72 : decode cX2_shakes 72 = .ok (.iload 4, 2) := dk_21 4 (dk_at dksX2_shakes_3 4 rfl rfl)
theorem dX2_shakes_74 : decode cX2_shakes 74 = .ok (.ishl, 1) := dk_120 (dk_at dksX2_shakes_3 6 rfl rfl)
theorem dX2_shakes_75 : decode cX2_shakes 75 = .ok (.goto 4, 3) := dk_167 0 4 (dk_at dksX2_shakes_3 7 rfl rfl)
theorem dX2_shakes_78 : decode cX2_shakes 78 = .ok (.iconst 0, 1) := dk_3 (dk_at dksX2_shakes_3 10 rfl rfl)
theorem dX2_shakes_79 : decode cX2_shakes 79 = .ok (.ior, 1) := dk_128 (dk_at dksX2_shakes_3 11 rfl rfl)
theorem dX2_shakes_80 : decode cX2_shakes 80 = .ok (.istore_n 1, 1) := dk_60 (dk_at dksX2_shakes_3 12 rfl rfl)
theorem dX2_shakes_81 : decode cX2_shakes 81 = .ok (.iinc 3 1, 3) := dk_132 3 1 (dk_at dksX2_shakes_3 13 rfl rfl)
theorem dX2_shakes_84 : decode cX2_shakes 84 = .ok (.goto (-68), 3) := dk_167 255 188 (dk_at dksX2_shakes_3 16 rfl rfl)
theorem dX2_shakes_87 : decode cX2_shakes 87 = .ok (.iinc 2 1, 3) := dk_132 2 1 (dk_at dksX2_shakes_3 19 rfl rfl)
theorem dX2_shakes_90 : decode cX2_shakes 90 = .ok (.goto (-82), 3) := dk_167 255 174 (dk_at dksX2_shakes_4 0 rfl rfl)
theorem dX2_shakes_93 : decode cX2_shakes 93 = .ok (.iload_n 1, 1) := dk_27 (dk_at dksX2_shakes_4 3 rfl rfl)
theorem dX2_shakes_94 : decode cX2_shakes 94 = .ok (.ireturn, 1) := dk_172 (dk_at dksX2_shakes_4 4 rfl rfl)
abbrev cX2_way : ByteArray := prog_4_method_37_code
def yX2_way : MethodName := ⟨RX2, "way", "(III)I"⟩
def dkwX2_way_6 : List UInt8 := [21, 4, 172]
abbrev dktX2_way_6 : List UInt8 := dkwX2_way_6 ++ []
def dkwX2_way_5 : List UInt8 := [180, 0, 40, 27, 46, 160, 0, 8, 21, 5, 167, 0, 5, 21, 4, 54, 4, 132, 5, 255, 167, 255, 202]
abbrev dktX2_way_5 : List UInt8 := dkwX2_way_5 ++ dktX2_way_6
def dkwX2_way_4 : List UInt8 := [42, 180, 0, 25, 27, 46, 21, 5, 184, 0, 67, 153, 0, 26, 42, 180, 0, 40, 21, 5, 46, 4, 96, 42]
abbrev dktX2_way_4 : List UInt8 := dkwX2_way_4 ++ dktX2_way_5
def dkwX2_way_3 : List UInt8 := [180, 0, 40, 27, 46, 172, 16, 250, 54, 4, 16, 9, 54, 5, 21, 5, 155, 0, 55, 27, 28, 159, 0, 50]
abbrev dktX2_way_3 : List UInt8 := dkwX2_way_3 ++ dktX2_way_4
def dkwX2_way_2 : List UInt8 := [130, 126, 182, 0, 145, 42, 180, 0, 40, 27, 46, 18, 144, 161, 0, 6, 16, 250, 172, 29, 154, 0, 10, 42]
abbrev dktX2_way_2 : List UInt8 := dkwX2_way_2 ++ dktX2_way_3
def dkwX2_way_1 : List UInt8 := [154, 0, 6, 16, 254, 172, 42, 182, 0, 110, 42, 28, 42, 182, 0, 116, 42, 180, 0, 7, 16, 34, 46, 2]
abbrev dktX2_way_1 : List UInt8 := dkwX2_way_1 ++ dktX2_way_2
def dkwX2_way_0 : List UInt8 := [27, 184, 0, 71, 153, 0, 10, 28, 184, 0, 71, 154, 0, 5, 2, 172, 29, 3, 4, 184, 0, 59]
abbrev dktX2_way_0 : List UInt8 := dkwX2_way_0 ++ dktX2_way_1
theorem dksX2_way_0 : cX2_way.data.toList.drop 0 = dktX2_way_0 := by decide +kernel
theorem dksX2_way_1 : cX2_way.data.toList.drop 22 = dktX2_way_1 := dk_seg dksX2_way_0 22 rfl rfl
theorem dksX2_way_2 : cX2_way.data.toList.drop 46 = dktX2_way_2 := dk_seg dksX2_way_1 24 rfl rfl
theorem dksX2_way_3 : cX2_way.data.toList.drop 70 = dktX2_way_3 := dk_seg dksX2_way_2 24 rfl rfl
theorem dksX2_way_4 : cX2_way.data.toList.drop 94 = dktX2_way_4 := dk_seg dksX2_way_3 24 rfl rfl
theorem dksX2_way_5 : cX2_way.data.toList.drop 118 = dktX2_way_5 := dk_seg dksX2_way_4 24 rfl rfl
theorem dksX2_way_6 : cX2_way.data.toList.drop 141 = dktX2_way_6 := dk_seg dksX2_way_5 23 rfl rfl
theorem dX2_way_0 : decode cX2_way 0 = .ok (.iload_n 1, 1) := dk_27 (dk_at dksX2_way_0 0 rfl rfl)
theorem dX2_way_1 : decode cX2_way 1 = .ok (.invokestatic 71, 3) := dk_184 0 71 (dk_at dksX2_way_0 1 rfl rfl)
theorem dX2_way_4 : decode cX2_way 4 = .ok (.ifCond .eq 10, 3) := dk_153 0 10 (dk_at dksX2_way_0 4 rfl rfl)
theorem dX2_way_7 : decode cX2_way 7 = .ok (.iload_n 2, 1) := dk_28 (dk_at dksX2_way_0 7 rfl rfl)
theorem dX2_way_8 : decode cX2_way 8 = .ok (.invokestatic 71, 3) := dk_184 0 71 (dk_at dksX2_way_0 8 rfl rfl)
theorem dX2_way_11 : decode cX2_way 11 = .ok (.ifCond .ne 5, 3) := dk_154 0 5 (dk_at dksX2_way_0 11 rfl rfl)
theorem dX2_way_14 : decode cX2_way 14 = .ok (.iconst (-1), 1) := dk_2 (dk_at dksX2_way_0 14 rfl rfl)
theorem dX2_way_15 : decode cX2_way 15 = .ok (.ireturn, 1) := dk_172 (dk_at dksX2_way_0 15 rfl rfl)
theorem dX2_way_16 : decode cX2_way 16 = .ok (.iload_n 3, 1) := dk_29 (dk_at dksX2_way_0 16 rfl rfl)
theorem dX2_way_17 : decode cX2_way 17 = .ok (.iconst 0, 1) := dk_3 (dk_at dksX2_way_0 17 rfl rfl)
theorem dX2_way_18 : decode cX2_way 18 = .ok (.iconst 1, 1) := dk_4 (dk_at dksX2_way_0 18 rfl rfl)
theorem dX2_way_19 : decode cX2_way 19 = .ok (.invokestatic 59, 3) := dk_184 0 59 (dk_at dksX2_way_0 19 rfl rfl)
theorem dX2_way_22 : decode cX2_way 22 = .ok (.ifCond .ne 6, 3) := dk_154 0 6 (dk_at dksX2_way_1 0 rfl rfl)
theorem dX2_way_25 : decode cX2_way 25 = .ok (.bipush (-2), 2) := dk_16 254 (dk_at dksX2_way_1 3 rfl rfl)
theorem dX2_way_27 : decode cX2_way 27 = .ok (.ireturn, 1) := dk_172 (dk_at dksX2_way_1 5 rfl rfl)
theorem dX2_way_28 : decode cX2_way 28 = .ok (.aload_n 0, 1) := dk_42 (dk_at dksX2_way_1 6 rfl rfl)
theorem dX2_way_29 : decode cX2_way 29 = .ok (.invokevirtual 110, 3) := dk_182 0 110 (dk_at dksX2_way_1 7 rfl rfl)
theorem dX2_way_32 : decode cX2_way 32 = .ok (.aload_n 0, 1) := dk_42 (dk_at dksX2_way_1 10 rfl rfl)
theorem dX2_way_33 : decode cX2_way 33 = .ok (.iload_n 2, 1) := dk_28 (dk_at dksX2_way_1 11 rfl rfl)
theorem dX2_way_34 : decode cX2_way 34 = .ok (.aload_n 0, 1) := dk_42 (dk_at dksX2_way_1 12 rfl rfl)
theorem dX2_way_35 : decode cX2_way 35 = .ok (.invokevirtual 116, 3) := dk_182 0 116 (dk_at dksX2_way_1 13 rfl rfl)
theorem dX2_way_38 : decode cX2_way 38 = .ok (.aload_n 0, 1) := dk_42 (dk_at dksX2_way_1 16 rfl rfl)
theorem dX2_way_39 : decode cX2_way 39 = .ok (.getfield 7, 3) := dk_180 0 7 (dk_at dksX2_way_1 17 rfl rfl)
theorem dX2_way_42 : decode cX2_way 42 = .ok (.bipush 34, 2) := dk_16 34 (dk_at dksX2_way_1 20 rfl rfl)
theorem dX2_way_44 : decode cX2_way 44 = .ok (.iaload, 1) := dk_46 (dk_at dksX2_way_1 22 rfl rfl)
theorem dX2_way_45 : decode cX2_way 45 = .ok (.iconst (-1), 1) := dk_2 (dk_at dksX2_way_1 23 rfl rfl)
theorem dX2_way_46 : decode cX2_way 46 = .ok (.ixor, 1) := dk_130 (dk_at dksX2_way_2 0 rfl rfl)
theorem dX2_way_47 : decode cX2_way 47 = .ok (.iand, 1) := dk_126 (dk_at dksX2_way_2 1 rfl rfl)
theorem dX2_way_48 : decode cX2_way 48 = .ok (.invokevirtual 145, 3) := dk_182 0 145 (dk_at dksX2_way_2 2 rfl rfl)
theorem dX2_way_51 : decode cX2_way 51 = .ok (.aload_n 0, 1) := dk_42 (dk_at dksX2_way_2 5 rfl rfl)
theorem dX2_way_52 : decode cX2_way 52 = .ok (.getfield 40, 3) := dk_180 0 40 (dk_at dksX2_way_2 6 rfl rfl)
theorem dX2_way_55 : decode cX2_way 55 = .ok (.iload_n 1, 1) := dk_27 (dk_at dksX2_way_2 9 rfl rfl)
theorem dX2_way_56 : decode cX2_way 56 = .ok (.iaload, 1) := dk_46 (dk_at dksX2_way_2 10 rfl rfl)
theorem dX2_way_57 : decode cX2_way 57 = .ok (.ldc 144, 2) := dk_18 144 (dk_at dksX2_way_2 11 rfl rfl)
theorem dX2_way_59 : decode cX2_way 59 = .ok (.if_icmp .lt 6, 3) := dk_161 0 6 (dk_at dksX2_way_2 13 rfl rfl)
theorem dX2_way_62 : decode cX2_way 62 = .ok (.bipush (-6), 2) := dk_16 250 (dk_at dksX2_way_2 16 rfl rfl)
theorem dX2_way_64 : decode cX2_way 64 = .ok (.ireturn, 1) := dk_172 (dk_at dksX2_way_2 18 rfl rfl)
theorem dX2_way_65 : decode cX2_way 65 = .ok (.iload_n 3, 1) := dk_29 (dk_at dksX2_way_2 19 rfl rfl)
theorem dX2_way_66 : decode cX2_way 66 = .ok (.ifCond .ne 10, 3) := dk_154 0 10 (dk_at dksX2_way_2 20 rfl rfl)
theorem dX2_way_69 : decode cX2_way 69 = .ok (.aload_n 0, 1) := dk_42 (dk_at dksX2_way_2 23 rfl rfl)
theorem dX2_way_70 : decode cX2_way 70 = .ok (.getfield 40, 3) := dk_180 0 40 (dk_at dksX2_way_3 0 rfl rfl)
theorem dX2_way_73 : decode cX2_way 73 = .ok (.iload_n 1, 1) := dk_27 (dk_at dksX2_way_3 3 rfl rfl)
theorem dX2_way_74 : decode cX2_way 74 = .ok (.iaload, 1) := dk_46 (dk_at dksX2_way_3 4 rfl rfl)
theorem dX2_way_75 : decode cX2_way 75 = .ok (.ireturn, 1) := dk_172 (dk_at dksX2_way_3 5 rfl rfl)
theorem dX2_way_76 : decode cX2_way 76 = .ok (.bipush (-6), 2) := dk_16 250 (dk_at dksX2_way_3 6 rfl rfl)
theorem dX2_way_78 : decode cX2_way 78 = .ok (.istore 4, 2) := dk_54 4 (dk_at dksX2_way_3 8 rfl rfl)
theorem dX2_way_80 : decode cX2_way 80 = .ok (.bipush 9, 2) := dk_16 9 (dk_at dksX2_way_3 10 rfl rfl)
theorem dX2_way_82 : decode cX2_way 82 = .ok (.istore 5, 2) := dk_54 5 (dk_at dksX2_way_3 12 rfl rfl)
theorem dX2_way_84 : decode cX2_way 84 = .ok (.iload 5, 2) := dk_21 5 (dk_at dksX2_way_3 14 rfl rfl)
theorem dX2_way_86 : decode cX2_way 86 = .ok (.ifCond .lt 55, 3) := dk_155 0 55 (dk_at dksX2_way_3 16 rfl rfl)
theorem dX2_way_89 : decode cX2_way 89 = .ok (.iload_n 1, 1) := dk_27 (dk_at dksX2_way_3 19 rfl rfl)
theorem dX2_way_90 : decode cX2_way 90 = .ok (.iload_n 2, 1) := dk_28 (dk_at dksX2_way_3 20 rfl rfl)
theorem dX2_way_91 : decode cX2_way 91 = .ok (.if_icmp .eq 50, 3) := dk_159 0 50 (dk_at dksX2_way_3 21 rfl rfl)
theorem dX2_way_94 : decode cX2_way 94 = .ok (.aload_n 0, 1) := dk_42 (dk_at dksX2_way_4 0 rfl rfl)
theorem dX2_way_95 : decode cX2_way 95 = .ok (.getfield 25, 3) := dk_180 0 25 (dk_at dksX2_way_4 1 rfl rfl)
theorem dX2_way_98 : decode cX2_way 98 = .ok (.iload_n 1, 1) := dk_27 (dk_at dksX2_way_4 4 rfl rfl)
theorem dX2_way_99 : decode cX2_way 99 = .ok (.iaload, 1) := dk_46 (dk_at dksX2_way_4 5 rfl rfl)
theorem dX2_way_100 : decode cX2_way 100 = .ok (.iload 5, 2) := dk_21 5 (dk_at dksX2_way_4 6 rfl rfl)
theorem dX2_way_102 : decode cX2_way 102 = .ok (.invokestatic 67, 3) := dk_184 0 67 (dk_at dksX2_way_4 8 rfl rfl)
theorem dX2_way_105 : decode cX2_way 105 = .ok (.ifCond .eq 26, 3) := dk_153 0 26 (dk_at dksX2_way_4 11 rfl rfl)
theorem dX2_way_108 : decode cX2_way 108 = .ok (.aload_n 0, 1) := dk_42 (dk_at dksX2_way_4 14 rfl rfl)
theorem dX2_way_109 : decode cX2_way 109 = .ok (.getfield 40, 3) := dk_180 0 40 (dk_at dksX2_way_4 15 rfl rfl)
theorem dX2_way_112 : decode cX2_way 112 = .ok (.iload 5, 2) := dk_21 5 (dk_at dksX2_way_4 18 rfl rfl)
theorem dX2_way_114 : decode cX2_way 114 = .ok (.iaload, 1) := dk_46 (dk_at dksX2_way_4 20 rfl rfl)
theorem dX2_way_115 : decode cX2_way 115 = .ok (.iconst 1, 1) := dk_4 (dk_at dksX2_way_4 21 rfl rfl)
theorem dX2_way_116 : decode cX2_way 116 = .ok (.iadd, 1) := dk_96 (dk_at dksX2_way_4 22 rfl rfl)
theorem dX2_way_117 : decode cX2_way 117 = .ok (.aload_n 0, 1) := dk_42 (dk_at dksX2_way_4 23 rfl rfl)
theorem dX2_way_118 : decode cX2_way 118 = .ok (.getfield 40, 3) := dk_180 0 40 (dk_at dksX2_way_5 0 rfl rfl)
theorem dX2_way_121 : decode cX2_way 121 = .ok (.iload_n 1, 1) := dk_27 (dk_at dksX2_way_5 3 rfl rfl)
theorem dX2_way_122 : decode cX2_way 122 = .ok (.iaload, 1) := dk_46 (dk_at dksX2_way_5 4 rfl rfl)
theorem dX2_way_123 : decode cX2_way 123 = .ok (.if_icmp .ne 8, 3) := dk_160 0 8 (dk_at dksX2_way_5 5 rfl rfl)
theorem dX2_way_126 : decode cX2_way 126 = .ok (.iload 5, 2) := dk_21 5 (dk_at dksX2_way_5 8 rfl rfl)
theorem dX2_way_128 : decode cX2_way 128 = .ok (.goto 5, 3) := dk_167 0 5 (dk_at dksX2_way_5 10 rfl rfl)
theorem dX2_way_131 : decode cX2_way 131 = .ok (.iload 4, 2) := dk_21 4 (dk_at dksX2_way_5 13 rfl rfl)
theorem dX2_way_133 : decode cX2_way 133 = .ok (.istore 4, 2) := dk_54 4 (dk_at dksX2_way_5 15 rfl rfl)
theorem dX2_way_135 : decode cX2_way 135 = .ok (.iinc 5 (-1), 3) := dk_132 5 255 (dk_at dksX2_way_5 17 rfl rfl)
theorem dX2_way_138 : decode cX2_way 138 = .ok (.goto (-54), 3) := dk_167 255 202 (dk_at dksX2_way_5 20 rfl rfl)
theorem dX2_way_141 : decode cX2_way 141 = .ok (.iload 4, 2) := dk_21 4 (dk_at dksX2_way_6 0 rfl rfl)
theorem dX2_way_143 : decode cX2_way 143 = .ok (.ireturn, 1) := dk_172 (dk_at dksX2_way_6 2 rfl rfl)
abbrev cX2_layFar : ByteArray := prog_4_method_36_code
def yX2_layFar : MethodName := ⟨RX2, "layFar", "(II)V"⟩
def dkwX2_layFar_6 : List UInt8 := [167, 255, 177, 132, 4, 1, 167, 255, 161, 132, 3, 1, 167, 255, 146, 177]
abbrev dktX2_layFar_6 : List UInt8 := dkwX2_layFar_6 ++ []
def dkwX2_layFar_5 : List UInt8 := [180, 0, 40, 21, 4, 46, 4, 96, 167, 0, 10, 42, 180, 0, 40, 21, 5, 46, 79, 132, 5, 1]
abbrev dktX2_layFar_5 : List UInt8 := dkwX2_layFar_5 ++ dktX2_layFar_6
def dkwX2_layFar_4 : List UInt8 := [153, 0, 34, 42, 180, 0, 40, 21, 4, 46, 4, 96, 42, 180, 0, 40, 21, 5, 46, 162, 0, 15, 42]
abbrev dktX2_layFar_4 : List UInt8 := dkwX2_layFar_4 ++ dktX2_layFar_5
def dkwX2_layFar_3 : List UInt8 := [21, 5, 42, 180, 0, 25, 21, 4, 46, 21, 5, 184, 0, 67, 153, 0, 43, 28, 21, 5, 184, 0, 67]
abbrev dktX2_layFar_3 : List UInt8 := dkwX2_layFar_3 ++ dktX2_layFar_4
def dkwX2_layFar_2 : List UInt8 := [3, 54, 4, 21, 4, 16, 10, 162, 0, 94, 3, 54, 5, 21, 5, 16, 10, 162, 0, 78, 42, 180, 0, 40]
abbrev dktX2_layFar_2 : List UInt8 := dkwX2_layFar_2 ++ dktX2_layFar_3
def dkwX2_layFar_1 : List UInt8 := [153, 0, 7, 3, 167, 0, 5, 18, 144, 79, 132, 3, 1, 167, 255, 222, 3, 62, 29, 16, 10, 162, 0, 110]
abbrev dktX2_layFar_1 : List UInt8 := dkwX2_layFar_1 ++ dktX2_layFar_2
def dkwX2_layFar_0 : List UInt8 := [3, 62, 29, 16, 10, 162, 0, 34, 42, 180, 0, 40, 29, 29, 27, 160, 0, 15, 28, 29, 184, 0, 67]
abbrev dktX2_layFar_0 : List UInt8 := dkwX2_layFar_0 ++ dktX2_layFar_1
theorem dksX2_layFar_0 : cX2_layFar.data.toList.drop 0 = dktX2_layFar_0 := by decide +kernel
theorem dksX2_layFar_1 : cX2_layFar.data.toList.drop 23 = dktX2_layFar_1 := dk_seg dksX2_layFar_0 23 rfl rfl
theorem dksX2_layFar_2 : cX2_layFar.data.toList.drop 47 = dktX2_layFar_2 := dk_seg dksX2_layFar_1 24 rfl rfl
theorem dksX2_layFar_3 : cX2_layFar.data.toList.drop 71 = dktX2_layFar_3 := dk_seg dksX2_layFar_2 24 rfl rfl
theorem dksX2_layFar_4 : cX2_layFar.data.toList.drop 94 = dktX2_layFar_4 := dk_seg dksX2_layFar_3 23 rfl rfl
theorem dksX2_layFar_5 : cX2_layFar.data.toList.drop 117 = dktX2_layFar_5 := dk_seg dksX2_layFar_4 23 rfl rfl
theorem dksX2_layFar_6 : cX2_layFar.data.toList.drop 139 = dktX2_layFar_6 := dk_seg dksX2_layFar_5 22 rfl rfl
theorem dX2_layFar_0 : decode cX2_layFar 0 = .ok (.iconst 0, 1) := dk_3 (dk_at dksX2_layFar_0 0 rfl rfl)
theorem dX2_layFar_1 : decode cX2_layFar 1 = .ok (.istore_n 3, 1) := dk_62 (dk_at dksX2_layFar_0 1 rfl rfl)
theorem dX2_layFar_2 : decode cX2_layFar 2 = .ok (.iload_n 3, 1) := dk_29 (dk_at dksX2_layFar_0 2 rfl rfl)
theorem dX2_layFar_3 : decode cX2_layFar 3 = .ok (.bipush 10, 2) := dk_16 10 (dk_at dksX2_layFar_0 3 rfl rfl)
theorem dX2_layFar_5 : decode cX2_layFar 5 = .ok (.if_icmp .ge 34, 3) := dk_162 0 34 (dk_at dksX2_layFar_0 5 rfl rfl)
theorem dX2_layFar_8 : decode cX2_layFar 8 = .ok (.aload_n 0, 1) := dk_42 (dk_at dksX2_layFar_0 8 rfl rfl)
theorem dX2_layFar_9 : decode cX2_layFar 9 = .ok (.getfield 40, 3) := dk_180 0 40 (dk_at dksX2_layFar_0 9 rfl rfl)
theorem dX2_layFar_12 : decode cX2_layFar 12 = .ok (.iload_n 3, 1) := dk_29 (dk_at dksX2_layFar_0 12 rfl rfl)
theorem dX2_layFar_13 : decode cX2_layFar 13 = .ok (.iload_n 3, 1) := dk_29 (dk_at dksX2_layFar_0 13 rfl rfl)
theorem dX2_layFar_14 : decode cX2_layFar 14 = .ok (.iload_n 1, 1) := dk_27 (dk_at dksX2_layFar_0 14 rfl rfl)
theorem dX2_layFar_15 : decode cX2_layFar 15 = .ok (.if_icmp .ne 15, 3) := dk_160 0 15 (dk_at dksX2_layFar_0 15 rfl rfl)
theorem dX2_layFar_18 : decode cX2_layFar 18 = .ok (.iload_n 2, 1) := dk_28 (dk_at dksX2_layFar_0 18 rfl rfl)
theorem dX2_layFar_19 : decode cX2_layFar 19 = .ok (.iload_n 3, 1) := dk_29 (dk_at dksX2_layFar_0 19 rfl rfl)
theorem dX2_layFar_20 : decode cX2_layFar 20 = .ok (.invokestatic 67, 3) := dk_184 0 67 (dk_at dksX2_layFar_0 20 rfl rfl)
theorem dX2_layFar_23 : decode cX2_layFar 23 = .ok (.ifCond .eq 7, 3) := dk_153 0 7 (dk_at dksX2_layFar_1 0 rfl rfl)
theorem dX2_layFar_26 : decode cX2_layFar 26 = .ok (.iconst 0, 1) := dk_3 (dk_at dksX2_layFar_1 3 rfl rfl)
theorem dX2_layFar_27 : decode cX2_layFar 27 = .ok (.goto 5, 3) := dk_167 0 5 (dk_at dksX2_layFar_1 4 rfl rfl)
theorem dX2_layFar_30 : decode cX2_layFar 30 = .ok (.ldc 144, 2) := dk_18 144 (dk_at dksX2_layFar_1 7 rfl rfl)
theorem dX2_layFar_32 : decode cX2_layFar 32 = .ok (.iastore, 1) := dk_79 (dk_at dksX2_layFar_1 9 rfl rfl)
theorem dX2_layFar_33 : decode cX2_layFar 33 = .ok (.iinc 3 1, 3) := dk_132 3 1 (dk_at dksX2_layFar_1 10 rfl rfl)
theorem dX2_layFar_36 : decode cX2_layFar 36 = .ok (.goto (-34), 3) := dk_167 255 222 (dk_at dksX2_layFar_1 13 rfl rfl)
theorem dX2_layFar_39 : decode cX2_layFar 39 = .ok (.iconst 0, 1) := dk_3 (dk_at dksX2_layFar_1 16 rfl rfl)
theorem dX2_layFar_40 : decode cX2_layFar 40 = .ok (.istore_n 3, 1) := dk_62 (dk_at dksX2_layFar_1 17 rfl rfl)
theorem dX2_layFar_41 : decode cX2_layFar 41 = .ok (.iload_n 3, 1) := dk_29 (dk_at dksX2_layFar_1 18 rfl rfl)
theorem dX2_layFar_42 : decode cX2_layFar 42 = .ok (.bipush 10, 2) := dk_16 10 (dk_at dksX2_layFar_1 19 rfl rfl)
theorem dX2_layFar_44 : decode cX2_layFar 44 = .ok (.if_icmp .ge 110, 3) := dk_162 0 110 (dk_at dksX2_layFar_1 21 rfl rfl)
theorem dX2_layFar_47 : decode cX2_layFar 47 = .ok (.iconst 0, 1) := dk_3 (dk_at dksX2_layFar_2 0 rfl rfl)
theorem dX2_layFar_48 : decode cX2_layFar 48 = .ok (.istore 4, 2) := dk_54 4 (dk_at dksX2_layFar_2 1 rfl rfl)
theorem dX2_layFar_50 : decode cX2_layFar 50 = .ok (.iload 4, 2) := dk_21 4 (dk_at dksX2_layFar_2 3 rfl rfl)
theorem dX2_layFar_52 : decode cX2_layFar 52 = .ok (.bipush 10, 2) := dk_16 10 (dk_at dksX2_layFar_2 5 rfl rfl)
theorem dX2_layFar_54 : decode cX2_layFar 54 = .ok (.if_icmp .ge 94, 3) := dk_162 0 94 (dk_at dksX2_layFar_2 7 rfl rfl)
theorem dX2_layFar_57 : decode cX2_layFar 57 = .ok (.iconst 0, 1) := dk_3 (dk_at dksX2_layFar_2 10 rfl rfl)
theorem dX2_layFar_58 : decode cX2_layFar 58 = .ok (.istore 5, 2) := dk_54 5 (dk_at dksX2_layFar_2 11 rfl rfl)
theorem dX2_layFar_60 : decode cX2_layFar 60 = .ok (.iload 5, 2) := dk_21 5 (dk_at dksX2_layFar_2 13 rfl rfl)
theorem dX2_layFar_62 : decode cX2_layFar 62 = .ok (.bipush 10, 2) := dk_16 10 (dk_at dksX2_layFar_2 15 rfl rfl)
theorem dX2_layFar_64 : decode cX2_layFar 64 = .ok (.if_icmp .ge 78, 3) := dk_162 0 78 (dk_at dksX2_layFar_2 17 rfl rfl)
theorem dX2_layFar_67 : decode cX2_layFar 67 = .ok (.aload_n 0, 1) := dk_42 (dk_at dksX2_layFar_2 20 rfl rfl)
theorem dX2_layFar_68 : decode cX2_layFar 68 = .ok (.getfield 40, 3) := dk_180 0 40 (dk_at dksX2_layFar_2 21 rfl rfl)
theorem dX2_layFar_71 : decode cX2_layFar 71 = .ok (.iload 5, 2) := dk_21 5 (dk_at dksX2_layFar_3 0 rfl rfl)
theorem dX2_layFar_73 : decode cX2_layFar 73 = .ok (.aload_n 0, 1) := dk_42 (dk_at dksX2_layFar_3 2 rfl rfl)
theorem dX2_layFar_74 : decode cX2_layFar 74 = .ok (.getfield 25, 3) := dk_180 0 25 (dk_at dksX2_layFar_3 3 rfl rfl)
theorem dX2_layFar_77 : decode cX2_layFar 77 = .ok (.iload 4, 2) := dk_21 4 (dk_at dksX2_layFar_3 6 rfl rfl)
theorem dX2_layFar_79 : decode cX2_layFar 79 = .ok (.iaload, 1) := dk_46 (dk_at dksX2_layFar_3 8 rfl rfl)
theorem dX2_layFar_80 : decode cX2_layFar 80 = .ok (.iload 5, 2) := dk_21 5 (dk_at dksX2_layFar_3 9 rfl rfl)
theorem dX2_layFar_82 : decode cX2_layFar 82 = .ok (.invokestatic 67, 3) := dk_184 0 67 (dk_at dksX2_layFar_3 11 rfl rfl)
theorem dX2_layFar_85 : decode cX2_layFar 85 = .ok (.ifCond .eq 43, 3) := dk_153 0 43 (dk_at dksX2_layFar_3 14 rfl rfl)
theorem dX2_layFar_88 : decode cX2_layFar 88 = .ok (.iload_n 2, 1) := dk_28 (dk_at dksX2_layFar_3 17 rfl rfl)
theorem dX2_layFar_89 : decode cX2_layFar 89 = .ok (.iload 5, 2) := dk_21 5 (dk_at dksX2_layFar_3 18 rfl rfl)
theorem dX2_layFar_91 : decode cX2_layFar 91 = .ok (.invokestatic 67, 3) := dk_184 0 67 (dk_at dksX2_layFar_3 20 rfl rfl)
theorem dX2_layFar_94 : decode cX2_layFar 94 = .ok (.ifCond .eq 34, 3) := dk_153 0 34 (dk_at dksX2_layFar_4 0 rfl rfl)
theorem dX2_layFar_97 : decode cX2_layFar 97 = .ok (.aload_n 0, 1) := dk_42 (dk_at dksX2_layFar_4 3 rfl rfl)
theorem dX2_layFar_98 : decode cX2_layFar 98 = .ok (.getfield 40, 3) := dk_180 0 40 (dk_at dksX2_layFar_4 4 rfl rfl)
theorem dX2_layFar_101 : decode cX2_layFar 101 = .ok (.iload 4, 2) := dk_21 4 (dk_at dksX2_layFar_4 7 rfl rfl)
theorem dX2_layFar_103 : decode cX2_layFar 103 = .ok (.iaload, 1) := dk_46 (dk_at dksX2_layFar_4 9 rfl rfl)
theorem dX2_layFar_104 : decode cX2_layFar 104 = .ok (.iconst 1, 1) := dk_4 (dk_at dksX2_layFar_4 10 rfl rfl)
theorem dX2_layFar_105 : decode cX2_layFar 105 = .ok (.iadd, 1) := dk_96 (dk_at dksX2_layFar_4 11 rfl rfl)
theorem dX2_layFar_106 : decode cX2_layFar 106 = .ok (.aload_n 0, 1) := dk_42 (dk_at dksX2_layFar_4 12 rfl rfl)
theorem dX2_layFar_107 : decode cX2_layFar 107 = .ok (.getfield 40, 3) := dk_180 0 40 (dk_at dksX2_layFar_4 13 rfl rfl)
theorem dX2_layFar_110 : decode cX2_layFar 110 = .ok (.iload 5, 2) := dk_21 5 (dk_at dksX2_layFar_4 16 rfl rfl)
theorem dX2_layFar_112 : decode cX2_layFar 112 = .ok (.iaload, 1) := dk_46 (dk_at dksX2_layFar_4 18 rfl rfl)
theorem dX2_layFar_113 : decode cX2_layFar 113 = .ok (.if_icmp .ge 15, 3) := dk_162 0 15 (dk_at dksX2_layFar_4 19 rfl rfl)
theorem dX2_layFar_116 : decode cX2_layFar 116 = .ok (.aload_n 0, 1) := dk_42 (dk_at dksX2_layFar_4 22 rfl rfl)
theorem dX2_layFar_117 : decode cX2_layFar 117 = .ok (.getfield 40, 3) := dk_180 0 40 (dk_at dksX2_layFar_5 0 rfl rfl)
theorem dX2_layFar_120 : decode cX2_layFar 120 = .ok (.iload 4, 2) := dk_21 4 (dk_at dksX2_layFar_5 3 rfl rfl)
theorem dX2_layFar_122 : decode cX2_layFar 122 = .ok (.iaload, 1) := dk_46 (dk_at dksX2_layFar_5 5 rfl rfl)
theorem dX2_layFar_123 : decode cX2_layFar 123 = .ok (.iconst 1, 1) := dk_4 (dk_at dksX2_layFar_5 6 rfl rfl)
theorem dX2_layFar_124 : decode cX2_layFar 124 = .ok (.iadd, 1) := dk_96 (dk_at dksX2_layFar_5 7 rfl rfl)
theorem dX2_layFar_125 : decode cX2_layFar 125 = .ok (.goto 10, 3) := dk_167 0 10 (dk_at dksX2_layFar_5 8 rfl rfl)
theorem dX2_layFar_128 : decode cX2_layFar 128 = .ok (.aload_n 0, 1) := dk_42 (dk_at dksX2_layFar_5 11 rfl rfl)
theorem dX2_layFar_129 : decode cX2_layFar 129 = .ok (.getfield 40, 3) := dk_180 0 40 (dk_at dksX2_layFar_5 12 rfl rfl)
theorem dX2_layFar_132 : decode cX2_layFar 132 = .ok (.iload 5, 2) := dk_21 5 (dk_at dksX2_layFar_5 15 rfl rfl)
theorem dX2_layFar_134 : decode cX2_layFar 134 = .ok (.iaload, 1) := dk_46 (dk_at dksX2_layFar_5 17 rfl rfl)
theorem dX2_layFar_135 : decode cX2_layFar 135 = .ok (.iastore, 1) := dk_79 (dk_at dksX2_layFar_5 18 rfl rfl)
theorem dX2_layFar_136 : decode cX2_layFar 136 = .ok (.iinc 5 1, 3) := dk_132 5 1 (dk_at dksX2_layFar_5 19 rfl rfl)
theorem dX2_layFar_139 : decode cX2_layFar 139 = .ok (.goto (-79), 3) := dk_167 255 177 (dk_at dksX2_layFar_6 0 rfl rfl)
theorem dX2_layFar_142 : decode cX2_layFar 142 = .ok (.iinc 4 1, 3) := dk_132 4 1 (dk_at dksX2_layFar_6 3 rfl rfl)
theorem dX2_layFar_145 : decode cX2_layFar 145 = .ok (.goto (-95), 3) := dk_167 255 161 (dk_at dksX2_layFar_6 6 rfl rfl)
theorem dX2_layFar_148 : decode cX2_layFar 148 = .ok (.iinc 3 1, 3) := dk_132 3 1 (dk_at dksX2_layFar_6 9 rfl rfl)
theorem dX2_layFar_151 : decode cX2_layFar 151 = .ok (.goto (-110), 3) := dk_167 255 146 (dk_at dksX2_layFar_6 12 rfl rfl)
theorem dX2_layFar_154 : decode cX2_layFar 154 = .ok (.return_, 1) := dk_177 (dk_at dksX2_layFar_6 15 rfl rfl)
abbrev cX2_fewest : ByteArray := prog_4_method_38_code
def yX2_fewest : MethodName := ⟨RX2, "fewest", "(II)I"⟩
def dkwX2_fewest_5 : List UInt8 := [167, 255, 169, 28, 4, 160, 0, 7, 29, 167, 0, 7, 29, 184, 0, 75, 172]
abbrev dktX2_fewest_5 : List UInt8 := dkwX2_fewest_5 ++ []
def dkwX2_fewest_4 : List UInt8 := [21, 4, 184, 0, 75, 29, 184, 0, 75, 162, 0, 8, 21, 4, 167, 0, 4, 29, 62, 132, 4, 1]
abbrev dktX2_fewest_4 : List UInt8 := dkwX2_fewest_4 ++ dktX2_fewest_5
def dkwX2_fewest_3 : List UInt8 := [46, 120, 167, 0, 4, 3, 128, 54, 5, 132, 6, 1, 167, 255, 218, 27, 21, 5, 2, 130, 126, 154, 0, 20]
abbrev dktX2_fewest_3 : List UInt8 := dkwX2_fewest_3 ++ dktX2_fewest_4
def dkwX2_fewest_2 : List UInt8 := [16, 10, 162, 0, 37, 21, 5, 21, 4, 21, 6, 184, 0, 67, 153, 0, 15, 4, 42, 180, 0, 28, 21, 6]
abbrev dktX2_fewest_2 : List UInt8 := dkwX2_fewest_2 ++ dktX2_fewest_3
def dkwX2_fewest_1 : List UInt8 := [17, 3, 255, 62, 3, 54, 4, 21, 4, 17, 4, 0, 162, 0, 85, 21, 4, 54, 5, 3, 54, 6, 21, 6]
abbrev dktX2_fewest_1 : List UInt8 := dkwX2_fewest_1 ++ dktX2_fewest_2
def dkwX2_fewest_0 : List UInt8 := [27, 3, 17, 3, 255, 184, 0, 59, 153, 0, 12, 28, 3, 4, 184, 0, 59, 154, 0, 6, 16, 254, 172]
abbrev dktX2_fewest_0 : List UInt8 := dkwX2_fewest_0 ++ dktX2_fewest_1
theorem dksX2_fewest_0 : cX2_fewest.data.toList.drop 0 = dktX2_fewest_0 := by decide +kernel
theorem dksX2_fewest_1 : cX2_fewest.data.toList.drop 23 = dktX2_fewest_1 := dk_seg dksX2_fewest_0 23 rfl rfl
theorem dksX2_fewest_2 : cX2_fewest.data.toList.drop 47 = dktX2_fewest_2 := dk_seg dksX2_fewest_1 24 rfl rfl
theorem dksX2_fewest_3 : cX2_fewest.data.toList.drop 71 = dktX2_fewest_3 := dk_seg dksX2_fewest_2 24 rfl rfl
theorem dksX2_fewest_4 : cX2_fewest.data.toList.drop 95 = dktX2_fewest_4 := dk_seg dksX2_fewest_3 24 rfl rfl
theorem dksX2_fewest_5 : cX2_fewest.data.toList.drop 117 = dktX2_fewest_5 := dk_seg dksX2_fewest_4 22 rfl rfl
theorem dX2_fewest_0 : decode cX2_fewest 0 = .ok (.iload_n 1, 1) := dk_27 (dk_at dksX2_fewest_0 0 rfl rfl)
theorem dX2_fewest_1 : decode cX2_fewest 1 = .ok (.iconst 0, 1) := dk_3 (dk_at dksX2_fewest_0 1 rfl rfl)
theorem dX2_fewest_2 : decode cX2_fewest 2 = .ok (.sipush 1023, 3) := dk_17 3 255 (dk_at dksX2_fewest_0 2 rfl rfl)
theorem dX2_fewest_5 : decode cX2_fewest 5 = .ok (.invokestatic 59, 3) := dk_184 0 59 (dk_at dksX2_fewest_0 5 rfl rfl)
theorem dX2_fewest_8 : decode cX2_fewest 8 = .ok (.ifCond .eq 12, 3) := dk_153 0 12 (dk_at dksX2_fewest_0 8 rfl rfl)
theorem dX2_fewest_11 : decode cX2_fewest 11 = .ok (.iload_n 2, 1) := dk_28 (dk_at dksX2_fewest_0 11 rfl rfl)
theorem dX2_fewest_12 : decode cX2_fewest 12 = .ok (.iconst 0, 1) := dk_3 (dk_at dksX2_fewest_0 12 rfl rfl)
theorem dX2_fewest_13 : decode cX2_fewest 13 = .ok (.iconst 1, 1) := dk_4 (dk_at dksX2_fewest_0 13 rfl rfl)
theorem dX2_fewest_14 : decode cX2_fewest 14 = .ok (.invokestatic 59, 3) := dk_184 0 59 (dk_at dksX2_fewest_0 14 rfl rfl)
theorem dX2_fewest_17 : decode cX2_fewest 17 = .ok (.ifCond .ne 6, 3) := dk_154 0 6 (dk_at dksX2_fewest_0 17 rfl rfl)
theorem dX2_fewest_20 : decode cX2_fewest 20 = .ok (.bipush (-2), 2) := dk_16 254 (dk_at dksX2_fewest_0 20 rfl rfl)
theorem dX2_fewest_22 : decode cX2_fewest 22 = .ok (.ireturn, 1) := dk_172 (dk_at dksX2_fewest_0 22 rfl rfl)
theorem dX2_fewest_23 : decode cX2_fewest 23 = .ok (.sipush 1023, 3) := dk_17 3 255 (dk_at dksX2_fewest_1 0 rfl rfl)
theorem dX2_fewest_26 : decode cX2_fewest 26 = .ok (.istore_n 3, 1) := dk_62 (dk_at dksX2_fewest_1 3 rfl rfl)
theorem dX2_fewest_27 : decode cX2_fewest 27 = .ok (.iconst 0, 1) := dk_3 (dk_at dksX2_fewest_1 4 rfl rfl)
theorem dX2_fewest_28 : decode cX2_fewest 28 = .ok (.istore 4, 2) := dk_54 4 (dk_at dksX2_fewest_1 5 rfl rfl)
theorem dX2_fewest_30 : decode cX2_fewest 30 = .ok (.iload 4, 2) := dk_21 4 (dk_at dksX2_fewest_1 7 rfl rfl)
theorem dX2_fewest_32 : decode cX2_fewest 32 = .ok (.sipush 1024, 3) := dk_17 4 0 (dk_at dksX2_fewest_1 9 rfl rfl)
theorem dX2_fewest_35 : decode cX2_fewest 35 = .ok (.if_icmp .ge 85, 3) := dk_162 0 85 (dk_at dksX2_fewest_1 12 rfl rfl)
theorem dX2_fewest_38 : decode cX2_fewest 38 = .ok (.iload 4, 2) := dk_21 4 (dk_at dksX2_fewest_1 15 rfl rfl)
theorem dX2_fewest_40 : decode cX2_fewest 40 = .ok (.istore 5, 2) := dk_54 5 (dk_at dksX2_fewest_1 17 rfl rfl)
theorem dX2_fewest_42 : decode cX2_fewest 42 = .ok (.iconst 0, 1) := dk_3 (dk_at dksX2_fewest_1 19 rfl rfl)
theorem dX2_fewest_43 : decode cX2_fewest 43 = .ok (.istore 6, 2) := dk_54 6 (dk_at dksX2_fewest_1 20 rfl rfl)
theorem dX2_fewest_45 : decode cX2_fewest 45 = .ok (.iload 6, 2) := dk_21 6 (dk_at dksX2_fewest_1 22 rfl rfl)
theorem dX2_fewest_47 : decode cX2_fewest 47 = .ok (.bipush 10, 2) := dk_16 10 (dk_at dksX2_fewest_2 0 rfl rfl)
theorem dX2_fewest_49 : decode cX2_fewest 49 = .ok (.if_icmp .ge 37, 3) := dk_162 0 37 (dk_at dksX2_fewest_2 2 rfl rfl)
theorem dX2_fewest_52 : decode cX2_fewest 52 = .ok (.iload 5, 2) := dk_21 5 (dk_at dksX2_fewest_2 5 rfl rfl)
theorem dX2_fewest_54 : decode cX2_fewest 54 = .ok (.iload 4, 2) := dk_21 4 (dk_at dksX2_fewest_2 7 rfl rfl)
theorem dX2_fewest_56 : decode cX2_fewest 56 = .ok (.iload 6, 2) := dk_21 6 (dk_at dksX2_fewest_2 9 rfl rfl)
theorem dX2_fewest_58 : decode cX2_fewest 58 = .ok (.invokestatic 67, 3) := dk_184 0 67 (dk_at dksX2_fewest_2 11 rfl rfl)
theorem dX2_fewest_61 : decode cX2_fewest 61 = .ok (.ifCond .eq 15, 3) := dk_153 0 15 (dk_at dksX2_fewest_2 14 rfl rfl)
theorem dX2_fewest_64 : decode cX2_fewest 64 = .ok (.iconst 1, 1) := dk_4 (dk_at dksX2_fewest_2 17 rfl rfl)
theorem dX2_fewest_65 : decode cX2_fewest 65 = .ok (.aload_n 0, 1) := dk_42 (dk_at dksX2_fewest_2 18 rfl rfl)
theorem dX2_fewest_66 : decode cX2_fewest 66 = .ok (.getfield 28, 3) := dk_180 0 28 (dk_at dksX2_fewest_2 19 rfl rfl)
theorem dX2_fewest_69 : decode cX2_fewest 69 = .ok (.iload 6, 2) := dk_21 6 (dk_at dksX2_fewest_2 22 rfl rfl)
theorem dX2_fewest_71 : decode cX2_fewest 71 = .ok (.iaload, 1) := dk_46 (dk_at dksX2_fewest_3 0 rfl rfl)
theorem dX2_fewest_72 : decode cX2_fewest 72 = .ok (.ishl, 1) := dk_120 (dk_at dksX2_fewest_3 1 rfl rfl)
theorem dX2_fewest_73 : decode cX2_fewest 73 = .ok (.goto 4, 3) := dk_167 0 4 (dk_at dksX2_fewest_3 2 rfl rfl)
theorem dX2_fewest_76 : decode cX2_fewest 76 = .ok (.iconst 0, 1) := dk_3 (dk_at dksX2_fewest_3 5 rfl rfl)
theorem dX2_fewest_77 : decode cX2_fewest 77 = .ok (.ior, 1) := dk_128 (dk_at dksX2_fewest_3 6 rfl rfl)
theorem dX2_fewest_78 : decode cX2_fewest 78 = .ok (.istore 5, 2) := dk_54 5 (dk_at dksX2_fewest_3 7 rfl rfl)
theorem dX2_fewest_80 : decode cX2_fewest 80 = .ok (.iinc 6 1, 3) := dk_132 6 1 (dk_at dksX2_fewest_3 9 rfl rfl)
theorem dX2_fewest_83 : decode cX2_fewest 83 = .ok (.goto (-38), 3) := dk_167 255 218 (dk_at dksX2_fewest_3 12 rfl rfl)
theorem dX2_fewest_86 : decode cX2_fewest 86 = .ok (.iload_n 1, 1) := dk_27 (dk_at dksX2_fewest_3 15 rfl rfl)
theorem dX2_fewest_87 : decode cX2_fewest 87 = .ok (.iload 5, 2) := dk_21 5 (dk_at dksX2_fewest_3 16 rfl rfl)
theorem dX2_fewest_89 : decode cX2_fewest 89 = .ok (.iconst (-1), 1) := dk_2 (dk_at dksX2_fewest_3 18 rfl rfl)
theorem dX2_fewest_90 : decode cX2_fewest 90 = .ok (.ixor, 1) := dk_130 (dk_at dksX2_fewest_3 19 rfl rfl)
theorem dX2_fewest_91 : decode cX2_fewest 91 = .ok (.iand, 1) := dk_126 (dk_at dksX2_fewest_3 20 rfl rfl)
theorem dX2_fewest_92 : decode cX2_fewest 92 = .ok (.ifCond .ne 20, 3) := dk_154 0 20 (dk_at dksX2_fewest_3 21 rfl rfl)
theorem dX2_fewest_95 : decode cX2_fewest 95 = .ok (.iload 4, 2) := dk_21 4 (dk_at dksX2_fewest_4 0 rfl rfl)
theorem dX2_fewest_97 : decode cX2_fewest 97 = .ok (.invokestatic 75, 3) := dk_184 0 75 (dk_at dksX2_fewest_4 2 rfl rfl)
theorem dX2_fewest_100 : decode cX2_fewest 100 = .ok (.iload_n 3, 1) := dk_29 (dk_at dksX2_fewest_4 5 rfl rfl)
theorem dX2_fewest_101 : decode cX2_fewest 101 = .ok (.invokestatic 75, 3) := dk_184 0 75 (dk_at dksX2_fewest_4 6 rfl rfl)
theorem dX2_fewest_104 : decode cX2_fewest 104 = .ok (.if_icmp .ge 8, 3) := dk_162 0 8 (dk_at dksX2_fewest_4 9 rfl rfl)
theorem dX2_fewest_107 : decode cX2_fewest 107 = .ok (.iload 4, 2) := dk_21 4 (dk_at dksX2_fewest_4 12 rfl rfl)
theorem dX2_fewest_109 : decode cX2_fewest 109 = .ok (.goto 4, 3) := dk_167 0 4 (dk_at dksX2_fewest_4 14 rfl rfl)
theorem dX2_fewest_112 : decode cX2_fewest 112 = .ok (.iload_n 3, 1) := dk_29 (dk_at dksX2_fewest_4 17 rfl rfl)
theorem dX2_fewest_113 : decode cX2_fewest 113 = .ok (.istore_n 3, 1) := dk_62 (dk_at dksX2_fewest_4 18 rfl rfl)
theorem dX2_fewest_114 : decode cX2_fewest 114 = .ok (.iinc 4 1, 3) := dk_132 4 1 (dk_at dksX2_fewest_4 19 rfl rfl)
theorem dX2_fewest_117 : decode cX2_fewest 117 = .ok (.goto (-87), 3) := dk_167 255 169 (dk_at dksX2_fewest_5 0 rfl rfl)
theorem dX2_fewest_120 : decode cX2_fewest 120 = .ok (.iload_n 2, 1) := dk_28 (dk_at dksX2_fewest_5 3 rfl rfl)
theorem dX2_fewest_121 : decode cX2_fewest 121 = .ok (.iconst 1, 1) := dk_4 (dk_at dksX2_fewest_5 4 rfl rfl)
theorem dX2_fewest_122 : decode cX2_fewest 122 = .ok (.if_icmp .ne 7, 3) := dk_160 0 7 (dk_at dksX2_fewest_5 5 rfl rfl)
theorem dX2_fewest_125 : decode cX2_fewest 125 = .ok (.iload_n 3, 1) := dk_29 (dk_at dksX2_fewest_5 8 rfl rfl)
theorem dX2_fewest_126 : decode cX2_fewest 126 = .ok (.goto 7, 3) := dk_167 0 7 (dk_at dksX2_fewest_5 9 rfl rfl)
theorem dX2_fewest_129 : decode cX2_fewest 129 = .ok (.iload_n 3, 1) := dk_29 (dk_at dksX2_fewest_5 12 rfl rfl)
theorem dX2_fewest_130 : decode cX2_fewest 130 = .ok (.invokestatic 75, 3) := dk_184 0 75 (dk_at dksX2_fewest_5 13 rfl rfl)
theorem dX2_fewest_133 : decode cX2_fewest 133 = .ok (.ireturn, 1) := dk_172 (dk_at dksX2_fewest_5 16 rfl rfl)
abbrev cX2_keep : ByteArray := prog_4_method_39_code
def yX2_keep : MethodName := ⟨RX2, "keep", "(I)I"⟩
def dkwX2_keep_9 : List UInt8 := [172]
abbrev dktX2_keep_9 : List UInt8 := dkwX2_keep_9 ++ []
def dkwX2_keep_8 : List UInt8 := [167, 0, 4, 28, 61, 132, 3, 1, 167, 255, 77, 27, 4, 160, 0, 7, 28, 167, 0, 7, 28, 184, 0, 75]
abbrev dktX2_keep_8 : List UInt8 := dkwX2_keep_8 ++ dktX2_keep_9
def dkwX2_keep_7 : List UInt8 := [167, 0, 4, 3, 54, 4, 132, 7, 1, 167, 255, 182, 132, 5, 1, 167, 255, 122, 21, 4, 153, 0, 7, 29]
abbrev dktX2_keep_7 : List UInt8 := dkwX2_keep_7 ++ dktX2_keep_8
def dkwX2_keep_6 : List UInt8 := [42, 21, 7, 21, 6, 182, 0, 92, 153, 0, 14, 42, 21, 5, 21, 7, 182, 0, 95, 154, 0, 7, 4]
abbrev dktX2_keep_6 : List UInt8 := dkwX2_keep_6 ++ dktX2_keep_7
def dkwX2_keep_5 : List UInt8 := [153, 0, 59, 29, 21, 7, 184, 0, 67, 153, 0, 37, 42, 180, 0, 79, 21, 6, 184, 0, 67, 153, 0, 25]
abbrev dktX2_keep_5 : List UInt8 := dkwX2_keep_5 ++ dktX2_keep_6
def dkwX2_keep_4 : List UInt8 := [3, 54, 4, 3, 54, 7, 21, 7, 21, 5, 162, 0, 73, 21, 4, 153, 0, 68, 29, 21, 5, 184, 0, 67]
abbrev dktX2_keep_4 : List UInt8 := dkwX2_keep_4 ++ dktX2_keep_5
def dkwX2_keep_3 : List UInt8 := [29, 21, 5, 184, 0, 67, 153, 0, 14, 42, 21, 5, 21, 6, 182, 0, 92, 153, 0, 7, 4, 167, 0, 4]
abbrev dktX2_keep_3 : List UInt8 := dkwX2_keep_3 ++ dktX2_keep_4
def dkwX2_keep_2 : List UInt8 := [21, 5, 16, 8, 162, 0, 133, 21, 4, 153, 0, 128, 42, 180, 0, 13, 16, 16, 21, 5, 96, 46, 54, 6]
abbrev dktX2_keep_2 : List UInt8 := dkwX2_keep_2 ++ dktX2_keep_3
def dkwX2_keep_1 : List UInt8 := [162, 0, 178, 29, 184, 0, 75, 28, 184, 0, 75, 164, 0, 7, 4, 167, 0, 4, 3, 54, 4, 3, 54, 5]
abbrev dktX2_keep_1 : List UInt8 := dkwX2_keep_1 ++ dktX2_keep_2
def dkwX2_keep_0 : List UInt8 := [27, 3, 4, 184, 0, 59, 154, 0, 6, 16, 254, 172, 42, 182, 0, 110, 3, 61, 3, 62, 29, 17, 1, 0]
abbrev dktX2_keep_0 : List UInt8 := dkwX2_keep_0 ++ dktX2_keep_1
theorem dksX2_keep_0 : cX2_keep.data.toList.drop 0 = dktX2_keep_0 := by decide +kernel
theorem dksX2_keep_1 : cX2_keep.data.toList.drop 24 = dktX2_keep_1 := dk_seg dksX2_keep_0 24 rfl rfl
theorem dksX2_keep_2 : cX2_keep.data.toList.drop 48 = dktX2_keep_2 := dk_seg dksX2_keep_1 24 rfl rfl
theorem dksX2_keep_3 : cX2_keep.data.toList.drop 72 = dktX2_keep_3 := dk_seg dksX2_keep_2 24 rfl rfl
theorem dksX2_keep_4 : cX2_keep.data.toList.drop 96 = dktX2_keep_4 := dk_seg dksX2_keep_3 24 rfl rfl
theorem dksX2_keep_5 : cX2_keep.data.toList.drop 120 = dktX2_keep_5 := dk_seg dksX2_keep_4 24 rfl rfl
theorem dksX2_keep_6 : cX2_keep.data.toList.drop 144 = dktX2_keep_6 := dk_seg dksX2_keep_5 24 rfl rfl
theorem dksX2_keep_7 : cX2_keep.data.toList.drop 167 = dktX2_keep_7 := dk_seg dksX2_keep_6 23 rfl rfl
theorem dksX2_keep_8 : cX2_keep.data.toList.drop 191 = dktX2_keep_8 := dk_seg dksX2_keep_7 24 rfl rfl
theorem dksX2_keep_9 : cX2_keep.data.toList.drop 215 = dktX2_keep_9 := dk_seg dksX2_keep_8 24 rfl rfl
theorem dX2_keep_0 : decode cX2_keep 0 = .ok (.iload_n 1, 1) := dk_27 (dk_at dksX2_keep_0 0 rfl rfl)
theorem dX2_keep_1 : decode cX2_keep 1 = .ok (.iconst 0, 1) := dk_3 (dk_at dksX2_keep_0 1 rfl rfl)
theorem dX2_keep_2 : decode cX2_keep 2 = .ok (.iconst 1, 1) := dk_4 (dk_at dksX2_keep_0 2 rfl rfl)
theorem dX2_keep_3 : decode cX2_keep 3 = .ok (.invokestatic 59, 3) := dk_184 0 59 (dk_at dksX2_keep_0 3 rfl rfl)
theorem dX2_keep_6 : decode cX2_keep 6 = .ok (.ifCond .ne 6, 3) := dk_154 0 6 (dk_at dksX2_keep_0 6 rfl rfl)
theorem dX2_keep_9 : decode cX2_keep 9 = .ok (.bipush (-2), 2) := dk_16 254 (dk_at dksX2_keep_0 9 rfl rfl)
theorem dX2_keep_11 : decode cX2_keep 11 = .ok (.ireturn, 1) := dk_172 (dk_at dksX2_keep_0 11 rfl rfl)
theorem dX2_keep_12 : decode cX2_keep 12 = .ok (.aload_n 0, 1) := dk_42 (dk_at dksX2_keep_0 12 rfl rfl)
theorem dX2_keep_13 : decode cX2_keep 13 = .ok (.invokevirtual 110, 3) := dk_182 0 110 (dk_at dksX2_keep_0 13 rfl rfl)
theorem dX2_keep_16 : decode cX2_keep 16 = .ok (.iconst 0, 1) := dk_3 (dk_at dksX2_keep_0 16 rfl rfl)
theorem dX2_keep_17 : decode cX2_keep 17 = .ok (.istore_n 2, 1) := dk_61 (dk_at dksX2_keep_0 17 rfl rfl)
theorem dX2_keep_18 : decode cX2_keep 18 = .ok (.iconst 0, 1) := dk_3 (dk_at dksX2_keep_0 18 rfl rfl)
theorem dX2_keep_19 : decode cX2_keep 19 = .ok (.istore_n 3, 1) := dk_62 (dk_at dksX2_keep_0 19 rfl rfl)
theorem dX2_keep_20 : decode cX2_keep 20 = .ok (.iload_n 3, 1) := dk_29 (dk_at dksX2_keep_0 20 rfl rfl)
theorem dX2_keep_21 : decode cX2_keep 21 = .ok (.sipush 256, 3) := dk_17 1 0 (dk_at dksX2_keep_0 21 rfl rfl)
theorem dX2_keep_24 : decode cX2_keep 24 = .ok (.if_icmp .ge 178, 3) := dk_162 0 178 (dk_at dksX2_keep_1 0 rfl rfl)
theorem dX2_keep_27 : decode cX2_keep 27 = .ok (.iload_n 3, 1) := dk_29 (dk_at dksX2_keep_1 3 rfl rfl)
theorem dX2_keep_28 : decode cX2_keep 28 = .ok (.invokestatic 75, 3) := dk_184 0 75 (dk_at dksX2_keep_1 4 rfl rfl)
theorem dX2_keep_31 : decode cX2_keep 31 = .ok (.iload_n 2, 1) := dk_28 (dk_at dksX2_keep_1 7 rfl rfl)
theorem dX2_keep_32 : decode cX2_keep 32 = .ok (.invokestatic 75, 3) := dk_184 0 75 (dk_at dksX2_keep_1 8 rfl rfl)
theorem dX2_keep_35 : decode cX2_keep 35 = .ok (.if_icmp .le 7, 3) := dk_164 0 7 (dk_at dksX2_keep_1 11 rfl rfl)
theorem dX2_keep_38 : decode cX2_keep 38 = .ok (.iconst 1, 1) := dk_4 (dk_at dksX2_keep_1 14 rfl rfl)
theorem dX2_keep_39 : decode cX2_keep 39 = .ok (.goto 4, 3) := dk_167 0 4 (dk_at dksX2_keep_1 15 rfl rfl)
theorem dX2_keep_42 : decode cX2_keep 42 = .ok (.iconst 0, 1) := dk_3 (dk_at dksX2_keep_1 18 rfl rfl)
theorem dX2_keep_43 : decode cX2_keep 43 = .ok (.istore 4, 2) := dk_54 4 (dk_at dksX2_keep_1 19 rfl rfl)
theorem dX2_keep_45 : decode cX2_keep 45 = .ok (.iconst 0, 1) := dk_3 (dk_at dksX2_keep_1 21 rfl rfl)
theorem dX2_keep_46 : decode cX2_keep 46 = .ok (.istore 5, 2) := dk_54 5 (dk_at dksX2_keep_1 22 rfl rfl)
theorem dX2_keep_48 : decode cX2_keep 48 = .ok (.iload 5, 2) := dk_21 5 (dk_at dksX2_keep_2 0 rfl rfl)
theorem dX2_keep_50 : decode cX2_keep 50 = .ok (.bipush 8, 2) := dk_16 8 (dk_at dksX2_keep_2 2 rfl rfl)
theorem dX2_keep_52 : decode cX2_keep 52 = .ok (.if_icmp .ge 133, 3) := dk_162 0 133 (dk_at dksX2_keep_2 4 rfl rfl)
theorem dX2_keep_55 : decode cX2_keep 55 = .ok (.iload 4, 2) := dk_21 4 (dk_at dksX2_keep_2 7 rfl rfl)
theorem dX2_keep_57 : decode cX2_keep 57 = .ok (.ifCond .eq 128, 3) := dk_153 0 128 (dk_at dksX2_keep_2 9 rfl rfl)
theorem dX2_keep_60 : decode cX2_keep 60 = .ok (.aload_n 0, 1) := dk_42 (dk_at dksX2_keep_2 12 rfl rfl)
theorem dX2_keep_61 : decode cX2_keep 61 = .ok (.getfield 13, 3) := dk_180 0 13 (dk_at dksX2_keep_2 13 rfl rfl)
theorem dX2_keep_64 : decode cX2_keep 64 = .ok (.bipush 16, 2) := dk_16 16 (dk_at dksX2_keep_2 16 rfl rfl)
theorem dX2_keep_66 : decode cX2_keep 66 = .ok (.iload 5, 2) := dk_21 5 (dk_at dksX2_keep_2 18 rfl rfl)
theorem dX2_keep_68 : decode cX2_keep 68 = .ok (.iadd, 1) := dk_96 (dk_at dksX2_keep_2 20 rfl rfl)
theorem dX2_keep_69 : decode cX2_keep 69 = .ok (.iaload, 1) := dk_46 (dk_at dksX2_keep_2 21 rfl rfl)
theorem dX2_keep_70 : decode cX2_keep 70 = .ok (.istore 6, 2) := dk_54 6 (dk_at dksX2_keep_2 22 rfl rfl)
theorem dX2_keep_72 : decode cX2_keep 72 = .ok (.iload_n 3, 1) := dk_29 (dk_at dksX2_keep_3 0 rfl rfl)
theorem dX2_keep_73 : decode cX2_keep 73 = .ok (.iload 5, 2) := dk_21 5 (dk_at dksX2_keep_3 1 rfl rfl)
theorem dX2_keep_75 : decode cX2_keep 75 = .ok (.invokestatic 67, 3) := dk_184 0 67 (dk_at dksX2_keep_3 3 rfl rfl)
theorem dX2_keep_78 : decode cX2_keep 78 = .ok (.ifCond .eq 14, 3) := dk_153 0 14 (dk_at dksX2_keep_3 6 rfl rfl)
theorem dX2_keep_81 : decode cX2_keep 81 = .ok (.aload_n 0, 1) := dk_42 (dk_at dksX2_keep_3 9 rfl rfl)
theorem dX2_keep_82 : decode cX2_keep 82 = .ok (.iload 5, 2) := dk_21 5 (dk_at dksX2_keep_3 10 rfl rfl)
theorem dX2_keep_84 : decode cX2_keep 84 = .ok (.iload 6, 2) := dk_21 6 (dk_at dksX2_keep_3 12 rfl rfl)
theorem dX2_keep_86 : decode cX2_keep 86 = .ok (.invokevirtual 92, 3) := dk_182 0 92 (dk_at dksX2_keep_3 14 rfl rfl)
theorem dX2_keep_89 : decode cX2_keep 89 = .ok (.ifCond .eq 7, 3) := dk_153 0 7 (dk_at dksX2_keep_3 17 rfl rfl)
theorem dX2_keep_92 : decode cX2_keep 92 = .ok (.iconst 1, 1) := dk_4 (dk_at dksX2_keep_3 20 rfl rfl)
theorem dX2_keep_93 : decode cX2_keep 93 = .ok (.goto 4, 3) := dk_167 0 4 (dk_at dksX2_keep_3 21 rfl rfl)
theorem dX2_keep_96 : decode cX2_keep 96 = .ok (.iconst 0, 1) := dk_3 (dk_at dksX2_keep_4 0 rfl rfl)
theorem dX2_keep_97 : decode cX2_keep 97 = .ok (.istore 4, 2) := dk_54 4 (dk_at dksX2_keep_4 1 rfl rfl)
theorem dX2_keep_99 : decode cX2_keep 99 = .ok (.iconst 0, 1) := dk_3 (dk_at dksX2_keep_4 3 rfl rfl)
theorem dX2_keep_100 : decode cX2_keep 100 = .ok (.istore 7, 2) := dk_54 7 (dk_at dksX2_keep_4 4 rfl rfl)
theorem dX2_keep_102 : decode cX2_keep 102 = .ok (.iload 7, 2) := dk_21 7 (dk_at dksX2_keep_4 6 rfl rfl)
theorem dX2_keep_104 : decode cX2_keep 104 = .ok (.iload 5, 2) := dk_21 5 (dk_at dksX2_keep_4 8 rfl rfl)
theorem dX2_keep_106 : decode cX2_keep 106 = .ok (.if_icmp .ge 73, 3) := dk_162 0 73 (dk_at dksX2_keep_4 10 rfl rfl)
theorem dX2_keep_109 : decode cX2_keep 109 = .ok (.iload 4, 2) := dk_21 4 (dk_at dksX2_keep_4 13 rfl rfl)
theorem dX2_keep_111 : decode cX2_keep 111 = .ok (.ifCond .eq 68, 3) := dk_153 0 68 (dk_at dksX2_keep_4 15 rfl rfl)
theorem dX2_keep_114 : decode cX2_keep 114 = .ok (.iload_n 3, 1) := dk_29 (dk_at dksX2_keep_4 18 rfl rfl)
theorem dX2_keep_115 : decode cX2_keep 115 = .ok (.iload 5, 2) := dk_21 5 (dk_at dksX2_keep_4 19 rfl rfl)
theorem dX2_keep_117 : decode cX2_keep 117 = .ok (.invokestatic 67, 3) := dk_184 0 67 (dk_at dksX2_keep_4 21 rfl rfl)
theorem dX2_keep_120 : decode cX2_keep 120 = .ok (.ifCond .eq 59, 3) := dk_153 0 59 (dk_at dksX2_keep_5 0 rfl rfl)
theorem dX2_keep_123 : decode cX2_keep 123 = .ok (.iload_n 3, 1) := dk_29 (dk_at dksX2_keep_5 3 rfl rfl)
theorem dX2_keep_124 : decode cX2_keep 124 = .ok (.iload 7, 2) := dk_21 7 (dk_at dksX2_keep_5 4 rfl rfl)
theorem dX2_keep_126 : decode cX2_keep 126 = .ok (.invokestatic 67, 3) := dk_184 0 67 (dk_at dksX2_keep_5 6 rfl rfl)
theorem dX2_keep_129 : decode cX2_keep 129 = .ok (.ifCond .eq 37, 3) := dk_153 0 37 (dk_at dksX2_keep_5 9 rfl rfl)
theorem dX2_keep_132 : decode cX2_keep 132 = .ok (.aload_n 0, 1) := dk_42 (dk_at dksX2_keep_5 12 rfl rfl)
theorem dX2_keep_133 : decode cX2_keep 133 = .ok (.getfield 79, 3) := dk_180 0 79 (dk_at dksX2_keep_5 13 rfl rfl)
theorem dX2_keep_136 : decode cX2_keep 136 = .ok (.iload 6, 2) := dk_21 6 (dk_at dksX2_keep_5 16 rfl rfl)
theorem dX2_keep_138 : decode cX2_keep 138 = .ok (.invokestatic 67, 3) := dk_184 0 67 (dk_at dksX2_keep_5 18 rfl rfl)
theorem dX2_keep_141 : decode cX2_keep 141 = .ok (.ifCond .eq 25, 3) := dk_153 0 25 (dk_at dksX2_keep_5 21 rfl rfl)
theorem dX2_keep_144 : decode cX2_keep 144 = .ok (.aload_n 0, 1) := dk_42 (dk_at dksX2_keep_6 0 rfl rfl)
theorem dX2_keep_145 : decode cX2_keep 145 = .ok (.iload 7, 2) := dk_21 7 (dk_at dksX2_keep_6 1 rfl rfl)
theorem dX2_keep_147 : decode cX2_keep 147 = .ok (.iload 6, 2) := dk_21 6 (dk_at dksX2_keep_6 3 rfl rfl)
theorem dX2_keep_149 : decode cX2_keep 149 = .ok (.invokevirtual 92, 3) := dk_182 0 92 (dk_at dksX2_keep_6 5 rfl rfl)
theorem dX2_keep_152 : decode cX2_keep 152 = .ok (.ifCond .eq 14, 3) := dk_153 0 14 (dk_at dksX2_keep_6 8 rfl rfl)
theorem dX2_keep_155 : decode cX2_keep 155 = .ok (.aload_n 0, 1) := dk_42 (dk_at dksX2_keep_6 11 rfl rfl)
theorem dX2_keep_156 : decode cX2_keep 156 = .ok (.iload 5, 2) := dk_21 5 (dk_at dksX2_keep_6 12 rfl rfl)
theorem dX2_keep_158 : decode cX2_keep 158 = .ok (.iload 7, 2) := dk_21 7 (dk_at dksX2_keep_6 14 rfl rfl)
theorem dX2_keep_160 : decode cX2_keep 160 = .ok (.invokevirtual 95, 3) := dk_182 0 95 (dk_at dksX2_keep_6 16 rfl rfl)
theorem dX2_keep_163 : decode cX2_keep 163 = .ok (.ifCond .ne 7, 3) := dk_154 0 7 (dk_at dksX2_keep_6 19 rfl rfl)
theorem dX2_keep_166 : decode cX2_keep 166 = .ok (.iconst 1, 1) := dk_4 (dk_at dksX2_keep_6 22 rfl rfl)
theorem dX2_keep_167 : decode cX2_keep 167 = .ok (.goto 4, 3) := dk_167 0 4 (dk_at dksX2_keep_7 0 rfl rfl)
theorem dX2_keep_170 : decode cX2_keep 170 = .ok (.iconst 0, 1) := dk_3 (dk_at dksX2_keep_7 3 rfl rfl)
theorem dX2_keep_171 : decode cX2_keep 171 = .ok (.istore 4, 2) := dk_54 4 (dk_at dksX2_keep_7 4 rfl rfl)
theorem dX2_keep_173 : decode cX2_keep 173 = .ok (.iinc 7 1, 3) := dk_132 7 1 (dk_at dksX2_keep_7 6 rfl rfl)
theorem dX2_keep_176 : decode cX2_keep 176 = .ok (.goto (-74), 3) := dk_167 255 182 (dk_at dksX2_keep_7 9 rfl rfl)
theorem dX2_keep_179 : decode cX2_keep 179 = .ok (.iinc 5 1, 3) := dk_132 5 1 (dk_at dksX2_keep_7 12 rfl rfl)
theorem dX2_keep_182 : decode cX2_keep 182 = .ok (.goto (-134), 3) := dk_167 255 122 (dk_at dksX2_keep_7 15 rfl rfl)
theorem dX2_keep_185 : decode cX2_keep 185 = .ok (.iload 4, 2) := dk_21 4 (dk_at dksX2_keep_7 18 rfl rfl)
theorem dX2_keep_187 : decode cX2_keep 187 = .ok (.ifCond .eq 7, 3) := dk_153 0 7 (dk_at dksX2_keep_7 20 rfl rfl)
theorem dX2_keep_190 : decode cX2_keep 190 = .ok (.iload_n 3, 1) := dk_29 (dk_at dksX2_keep_7 23 rfl rfl)
theorem dX2_keep_191 : decode cX2_keep 191 = .ok (.goto 4, 3) := dk_167 0 4 (dk_at dksX2_keep_8 0 rfl rfl)
theorem dX2_keep_194 : decode cX2_keep 194 = .ok (.iload_n 2, 1) := dk_28 (dk_at dksX2_keep_8 3 rfl rfl)
theorem dX2_keep_195 : decode cX2_keep 195 = .ok (.istore_n 2, 1) := dk_61 (dk_at dksX2_keep_8 4 rfl rfl)
theorem dX2_keep_196 : decode cX2_keep 196 = .ok (.iinc 3 1, 3) := dk_132 3 1 (dk_at dksX2_keep_8 5 rfl rfl)
theorem dX2_keep_199 : decode cX2_keep 199 = .ok (.goto (-179), 3) := dk_167 255 77 (dk_at dksX2_keep_8 8 rfl rfl)
theorem dX2_keep_202 : decode cX2_keep 202 = .ok (.iload_n 1, 1) := dk_27 (dk_at dksX2_keep_8 11 rfl rfl)
theorem dX2_keep_203 : decode cX2_keep 203 = .ok (.iconst 1, 1) := dk_4 (dk_at dksX2_keep_8 12 rfl rfl)
theorem dX2_keep_204 : decode cX2_keep 204 = .ok (.if_icmp .ne 7, 3) := dk_160 0 7 (dk_at dksX2_keep_8 13 rfl rfl)
theorem dX2_keep_207 : decode cX2_keep 207 = .ok (.iload_n 2, 1) := dk_28 (dk_at dksX2_keep_8 16 rfl rfl)
theorem dX2_keep_208 : decode cX2_keep 208 = .ok (.goto 7, 3) := dk_167 0 7 (dk_at dksX2_keep_8 17 rfl rfl)
theorem dX2_keep_211 : decode cX2_keep 211 = .ok (.iload_n 2, 1) := dk_28 (dk_at dksX2_keep_8 20 rfl rfl)
theorem dX2_keep_212 : decode cX2_keep 212 = .ok (.invokestatic 75, 3) := dk_184 0 75 (dk_at dksX2_keep_8 21 rfl rfl)
theorem dX2_keep_215 : decode cX2_keep 215 = .ok (.ireturn, 1) := dk_172 (dk_at dksX2_keep_9 0 rfl rfl)
abbrev cX2_cut : ByteArray := prog_4_method_40_code
def yX2_cut : MethodName := ⟨RX2, "cut", "()I"⟩
def dkwX2_cut_3 : List UInt8 := [132, 2, 1, 167, 255, 207, 27, 172]
abbrev dktX2_cut_3 : List UInt8 := dkwX2_cut_3 ++ []
def dkwX2_cut_2 : List UInt8 := [180, 0, 7, 16, 16, 28, 96, 46, 46, 18, 144, 161, 0, 9, 4, 28, 120, 167, 0, 4, 3, 128, 60]
abbrev dktX2_cut_2 : List UInt8 := dkwX2_cut_2 ++ dktX2_cut_3
def dkwX2_cut_1 : List UInt8 := [16, 8, 162, 0, 49, 27, 42, 180, 0, 63, 28, 184, 0, 67, 153, 0, 28, 42, 180, 0, 40, 42]
abbrev dktX2_cut_1 : List UInt8 := dkwX2_cut_1 ++ dktX2_cut_2
def dkwX2_cut_0 : List UInt8 := [42, 3, 17, 3, 255, 42, 180, 0, 7, 16, 34, 46, 2, 130, 126, 182, 0, 145, 3, 60, 3, 61, 28]
abbrev dktX2_cut_0 : List UInt8 := dkwX2_cut_0 ++ dktX2_cut_1
theorem dksX2_cut_0 : cX2_cut.data.toList.drop 0 = dktX2_cut_0 := by decide +kernel
theorem dksX2_cut_1 : cX2_cut.data.toList.drop 23 = dktX2_cut_1 := dk_seg dksX2_cut_0 23 rfl rfl
theorem dksX2_cut_2 : cX2_cut.data.toList.drop 45 = dktX2_cut_2 := dk_seg dksX2_cut_1 22 rfl rfl
theorem dksX2_cut_3 : cX2_cut.data.toList.drop 68 = dktX2_cut_3 := dk_seg dksX2_cut_2 23 rfl rfl
theorem dX2_cut_0 : decode cX2_cut 0 = .ok (.aload_n 0, 1) := dk_42 (dk_at dksX2_cut_0 0 rfl rfl)
theorem dX2_cut_1 : decode cX2_cut 1 = .ok (.iconst 0, 1) := dk_3 (dk_at dksX2_cut_0 1 rfl rfl)
theorem dX2_cut_2 : decode cX2_cut 2 = .ok (.sipush 1023, 3) := dk_17 3 255 (dk_at dksX2_cut_0 2 rfl rfl)
theorem dX2_cut_5 : decode cX2_cut 5 = .ok (.aload_n 0, 1) := dk_42 (dk_at dksX2_cut_0 5 rfl rfl)
theorem dX2_cut_6 : decode cX2_cut 6 = .ok (.getfield 7, 3) := dk_180 0 7 (dk_at dksX2_cut_0 6 rfl rfl)
theorem dX2_cut_9 : decode cX2_cut 9 = .ok (.bipush 34, 2) := dk_16 34 (dk_at dksX2_cut_0 9 rfl rfl)
theorem dX2_cut_11 : decode cX2_cut 11 = .ok (.iaload, 1) := dk_46 (dk_at dksX2_cut_0 11 rfl rfl)
theorem dX2_cut_12 : decode cX2_cut 12 = .ok (.iconst (-1), 1) := dk_2 (dk_at dksX2_cut_0 12 rfl rfl)
theorem dX2_cut_13 : decode cX2_cut 13 = .ok (.ixor, 1) := dk_130 (dk_at dksX2_cut_0 13 rfl rfl)
theorem dX2_cut_14 : decode cX2_cut 14 = .ok (.iand, 1) := dk_126 (dk_at dksX2_cut_0 14 rfl rfl)
theorem dX2_cut_15 : decode cX2_cut 15 = .ok (.invokevirtual 145, 3) := dk_182 0 145 (dk_at dksX2_cut_0 15 rfl rfl)
theorem dX2_cut_18 : decode cX2_cut 18 = .ok (.iconst 0, 1) := dk_3 (dk_at dksX2_cut_0 18 rfl rfl)
theorem dX2_cut_19 : decode cX2_cut 19 = .ok (.istore_n 1, 1) := dk_60 (dk_at dksX2_cut_0 19 rfl rfl)
theorem dX2_cut_20 : decode cX2_cut 20 = .ok (.iconst 0, 1) := dk_3 (dk_at dksX2_cut_0 20 rfl rfl)
theorem dX2_cut_21 : decode cX2_cut 21 = .ok (.istore_n 2, 1) := dk_61 (dk_at dksX2_cut_0 21 rfl rfl)
theorem dX2_cut_22 : decode cX2_cut 22 = .ok (.iload_n 2, 1) := dk_28 (dk_at dksX2_cut_0 22 rfl rfl)
theorem dX2_cut_23 : decode cX2_cut 23 = .ok (.bipush 8, 2) := dk_16 8 (dk_at dksX2_cut_1 0 rfl rfl)
theorem dX2_cut_25 : decode cX2_cut 25 = .ok (.if_icmp .ge 49, 3) := dk_162 0 49 (dk_at dksX2_cut_1 2 rfl rfl)
theorem dX2_cut_28 : decode cX2_cut 28 = .ok (.iload_n 1, 1) := dk_27 (dk_at dksX2_cut_1 5 rfl rfl)
theorem dX2_cut_29 : decode cX2_cut 29 = .ok (.aload_n 0, 1) := dk_42 (dk_at dksX2_cut_1 6 rfl rfl)
theorem dX2_cut_30 : decode cX2_cut 30 = .ok (.getfield 63, 3) := dk_180 0 63 (dk_at dksX2_cut_1 7 rfl rfl)
theorem dX2_cut_33 : decode cX2_cut 33 = .ok (.iload_n 2, 1) := dk_28 (dk_at dksX2_cut_1 10 rfl rfl)
theorem dX2_cut_34 : decode cX2_cut 34 = .ok (.invokestatic 67, 3) := dk_184 0 67 (dk_at dksX2_cut_1 11 rfl rfl)
theorem dX2_cut_37 : decode cX2_cut 37 = .ok (.ifCond .eq 28, 3) := dk_153 0 28 (dk_at dksX2_cut_1 14 rfl rfl)
theorem dX2_cut_40 : decode cX2_cut 40 = .ok (.aload_n 0, 1) := dk_42 (dk_at dksX2_cut_1 17 rfl rfl)
theorem dX2_cut_41 : decode cX2_cut 41 = .ok (.getfield 40, 3) := dk_180 0 40 (dk_at dksX2_cut_1 18 rfl rfl)
theorem dX2_cut_44 : decode cX2_cut 44 = .ok (.aload_n 0, 1) := dk_42 (dk_at dksX2_cut_1 21 rfl rfl)
theorem dX2_cut_45 : decode cX2_cut 45 = .ok (.getfield 7, 3) := dk_180 0 7 (dk_at dksX2_cut_2 0 rfl rfl)
theorem dX2_cut_48 : decode cX2_cut 48 = .ok (.bipush 16, 2) := dk_16 16 (dk_at dksX2_cut_2 3 rfl rfl)
theorem dX2_cut_50 : decode cX2_cut 50 = .ok (.iload_n 2, 1) := dk_28 (dk_at dksX2_cut_2 5 rfl rfl)
theorem dX2_cut_51 : decode cX2_cut 51 = .ok (.iadd, 1) := dk_96 (dk_at dksX2_cut_2 6 rfl rfl)
theorem dX2_cut_52 : decode cX2_cut 52 = .ok (.iaload, 1) := dk_46 (dk_at dksX2_cut_2 7 rfl rfl)
theorem dX2_cut_53 : decode cX2_cut 53 = .ok (.iaload, 1) := dk_46 (dk_at dksX2_cut_2 8 rfl rfl)
theorem dX2_cut_54 : decode cX2_cut 54 = .ok (.ldc 144, 2) := dk_18 144 (dk_at dksX2_cut_2 9 rfl rfl)
theorem dX2_cut_56 : decode cX2_cut 56 = .ok (.if_icmp .lt 9, 3) := dk_161 0 9 (dk_at dksX2_cut_2 11 rfl rfl)
theorem dX2_cut_59 : decode cX2_cut 59 = .ok (.iconst 1, 1) := dk_4 (dk_at dksX2_cut_2 14 rfl rfl)
theorem dX2_cut_60 : decode cX2_cut 60 = .ok (.iload_n 2, 1) := dk_28 (dk_at dksX2_cut_2 15 rfl rfl)
theorem dX2_cut_61 : decode cX2_cut 61 = .ok (.ishl, 1) := dk_120 (dk_at dksX2_cut_2 16 rfl rfl)
theorem dX2_cut_62 : decode cX2_cut 62 = .ok (.goto 4, 3) := dk_167 0 4 (dk_at dksX2_cut_2 17 rfl rfl)
theorem dX2_cut_65 : decode cX2_cut 65 = .ok (.iconst 0, 1) := dk_3 (dk_at dksX2_cut_2 20 rfl rfl)
theorem dX2_cut_66 : decode cX2_cut 66 = .ok (.ior, 1) := dk_128 (dk_at dksX2_cut_2 21 rfl rfl)
theorem dX2_cut_67 : decode cX2_cut 67 = .ok (.istore_n 1, 1) := dk_60 (dk_at dksX2_cut_2 22 rfl rfl)
theorem dX2_cut_68 : decode cX2_cut 68 = .ok (.iinc 2 1, 3) := dk_132 2 1 (dk_at dksX2_cut_3 0 rfl rfl)
theorem dX2_cut_71 : decode cX2_cut 71 = .ok (.goto (-49), 3) := dk_167 255 207 (dk_at dksX2_cut_3 3 rfl rfl)
theorem dX2_cut_74 : decode cX2_cut 74 = .ok (.iload_n 1, 1) := dk_27 (dk_at dksX2_cut_3 6 rfl rfl)
theorem dX2_cut_75 : decode cX2_cut 75 = .ok (.ireturn, 1) := dk_172 (dk_at dksX2_cut_3 7 rfl rfl)
abbrev cX2_hold : ByteArray := prog_4_method_44_code
def yX2_hold : MethodName := ⟨RX2, "hold", "(III)I"⟩
def dkwX2_hold_5 : List UInt8 := [154, 0, 8, 21, 4, 167, 0, 5, 21, 5, 172]
abbrev dktX2_hold_5 : List UInt8 := dkwX2_hold_5 ++ []
def dkwX2_hold_4 : List UInt8 := [21, 7, 21, 4, 164, 0, 8, 21, 7, 167, 0, 5, 21, 4, 54, 4, 132, 6, 1, 167, 255, 205, 29]
abbrev dktX2_hold_4 : List UInt8 := dkwX2_hold_4 ++ dktX2_hold_5
def dkwX2_hold_3 : List UInt8 := [27, 28, 182, 0, 156, 54, 7, 21, 7, 21, 4, 164, 0, 8, 21, 6, 167, 0, 5, 21, 5, 54, 5]
abbrev dktX2_hold_3 : List UInt8 := dkwX2_hold_3 ++ dktX2_hold_4
def dkwX2_hold_2 : List UInt8 := [154, 0, 6, 16, 254, 172, 3, 54, 4, 3, 54, 5, 3, 54, 6, 21, 6, 6, 162, 0, 51, 42, 21, 6]
abbrev dktX2_hold_2 : List UInt8 := dkwX2_hold_2 ++ dktX2_hold_3
def dkwX2_hold_1 : List UInt8 := [16, 10, 112, 153, 0, 23, 28, 3, 17, 3, 231, 184, 0, 59, 153, 0, 12, 29, 3, 4, 184, 0, 59]
abbrev dktX2_hold_1 : List UInt8 := dkwX2_hold_1 ++ dktX2_hold_2
def dkwX2_hold_0 : List UInt8 := [27, 16, 111, 17, 3, 231, 184, 0, 59, 153, 0, 40, 27, 16, 10, 112, 153, 0, 33, 27, 16, 10, 108]
abbrev dktX2_hold_0 : List UInt8 := dkwX2_hold_0 ++ dktX2_hold_1
theorem dksX2_hold_0 : cX2_hold.data.toList.drop 0 = dktX2_hold_0 := by decide +kernel
theorem dksX2_hold_1 : cX2_hold.data.toList.drop 23 = dktX2_hold_1 := dk_seg dksX2_hold_0 23 rfl rfl
theorem dksX2_hold_2 : cX2_hold.data.toList.drop 46 = dktX2_hold_2 := dk_seg dksX2_hold_1 23 rfl rfl
theorem dksX2_hold_3 : cX2_hold.data.toList.drop 70 = dktX2_hold_3 := dk_seg dksX2_hold_2 24 rfl rfl
theorem dksX2_hold_4 : cX2_hold.data.toList.drop 93 = dktX2_hold_4 := dk_seg dksX2_hold_3 23 rfl rfl
theorem dksX2_hold_5 : cX2_hold.data.toList.drop 116 = dktX2_hold_5 := dk_seg dksX2_hold_4 23 rfl rfl
theorem dX2_hold_0 : decode cX2_hold 0 = .ok (.iload_n 1, 1) := dk_27 (dk_at dksX2_hold_0 0 rfl rfl)
theorem dX2_hold_1 : decode cX2_hold 1 = .ok (.bipush 111, 2) := dk_16 111 (dk_at dksX2_hold_0 1 rfl rfl)
theorem dX2_hold_3 : decode cX2_hold 3 = .ok (.sipush 999, 3) := dk_17 3 231 (dk_at dksX2_hold_0 3 rfl rfl)
theorem dX2_hold_6 : decode cX2_hold 6 = .ok (.invokestatic 59, 3) := dk_184 0 59 (dk_at dksX2_hold_0 6 rfl rfl)
theorem dX2_hold_9 : decode cX2_hold 9 = .ok (.ifCond .eq 40, 3) := dk_153 0 40 (dk_at dksX2_hold_0 9 rfl rfl)
theorem dX2_hold_12 : decode cX2_hold 12 = .ok (.iload_n 1, 1) := dk_27 (dk_at dksX2_hold_0 12 rfl rfl)
theorem dX2_hold_13 : decode cX2_hold 13 = .ok (.bipush 10, 2) := dk_16 10 (dk_at dksX2_hold_0 13 rfl rfl)
theorem dX2_hold_15 : decode cX2_hold 15 = .ok (.irem, 1) := dk_112 (dk_at dksX2_hold_0 15 rfl rfl)
theorem dX2_hold_16 : decode cX2_hold 16 = .ok (.ifCond .eq 33, 3) := dk_153 0 33 (dk_at dksX2_hold_0 16 rfl rfl)
theorem dX2_hold_19 : decode cX2_hold 19 = .ok (.iload_n 1, 1) := dk_27 (dk_at dksX2_hold_0 19 rfl rfl)
theorem dX2_hold_20 : decode cX2_hold 20 = .ok (.bipush 10, 2) := dk_16 10 (dk_at dksX2_hold_0 20 rfl rfl)
theorem dX2_hold_22 : decode cX2_hold 22 = .ok (.idiv, 1) := dk_108 (dk_at dksX2_hold_0 22 rfl rfl)
theorem dX2_hold_23 : decode cX2_hold 23 = .ok (.bipush 10, 2) := dk_16 10 (dk_at dksX2_hold_1 0 rfl rfl)
theorem dX2_hold_25 : decode cX2_hold 25 = .ok (.irem, 1) := dk_112 (dk_at dksX2_hold_1 2 rfl rfl)
theorem dX2_hold_26 : decode cX2_hold 26 = .ok (.ifCond .eq 23, 3) := dk_153 0 23 (dk_at dksX2_hold_1 3 rfl rfl)
theorem dX2_hold_29 : decode cX2_hold 29 = .ok (.iload_n 2, 1) := dk_28 (dk_at dksX2_hold_1 6 rfl rfl)
theorem dX2_hold_30 : decode cX2_hold 30 = .ok (.iconst 0, 1) := dk_3 (dk_at dksX2_hold_1 7 rfl rfl)
theorem dX2_hold_31 : decode cX2_hold 31 = .ok (.sipush 999, 3) := dk_17 3 231 (dk_at dksX2_hold_1 8 rfl rfl)
theorem dX2_hold_34 : decode cX2_hold 34 = .ok (.invokestatic 59, 3) := dk_184 0 59 (dk_at dksX2_hold_1 11 rfl rfl)
theorem dX2_hold_37 : decode cX2_hold 37 = .ok (.ifCond .eq 12, 3) := dk_153 0 12 (dk_at dksX2_hold_1 14 rfl rfl)
theorem dX2_hold_40 : decode cX2_hold 40 = .ok (.iload_n 3, 1) := dk_29 (dk_at dksX2_hold_1 17 rfl rfl)
theorem dX2_hold_41 : decode cX2_hold 41 = .ok (.iconst 0, 1) := dk_3 (dk_at dksX2_hold_1 18 rfl rfl)
theorem dX2_hold_42 : decode cX2_hold 42 = .ok (.iconst 1, 1) := dk_4 (dk_at dksX2_hold_1 19 rfl rfl)
theorem dX2_hold_43 : decode cX2_hold 43 = .ok (.invokestatic 59, 3) := dk_184 0 59 (dk_at dksX2_hold_1 20 rfl rfl)
theorem dX2_hold_46 : decode cX2_hold 46 = .ok (.ifCond .ne 6, 3) := dk_154 0 6 (dk_at dksX2_hold_2 0 rfl rfl)
theorem dX2_hold_49 : decode cX2_hold 49 = .ok (.bipush (-2), 2) := dk_16 254 (dk_at dksX2_hold_2 3 rfl rfl)
theorem dX2_hold_51 : decode cX2_hold 51 = .ok (.ireturn, 1) := dk_172 (dk_at dksX2_hold_2 5 rfl rfl)
theorem dX2_hold_52 : decode cX2_hold 52 = .ok (.iconst 0, 1) := dk_3 (dk_at dksX2_hold_2 6 rfl rfl)
theorem dX2_hold_53 : decode cX2_hold 53 = .ok (.istore 4, 2) := dk_54 4 (dk_at dksX2_hold_2 7 rfl rfl)
theorem dX2_hold_55 : decode cX2_hold 55 = .ok (.iconst 0, 1) := dk_3 (dk_at dksX2_hold_2 9 rfl rfl)
theorem dX2_hold_56 : decode cX2_hold 56 = .ok (.istore 5, 2) := dk_54 5 (dk_at dksX2_hold_2 10 rfl rfl)
theorem dX2_hold_58 : decode cX2_hold 58 = .ok (.iconst 0, 1) := dk_3 (dk_at dksX2_hold_2 12 rfl rfl)
theorem dX2_hold_59 : decode cX2_hold 59 = .ok (.istore 6, 2) := dk_54 6 (dk_at dksX2_hold_2 13 rfl rfl)
theorem dX2_hold_61 : decode cX2_hold 61 = .ok (.iload 6, 2) := dk_21 6 (dk_at dksX2_hold_2 15 rfl rfl)
theorem dX2_hold_63 : decode cX2_hold 63 = .ok (.iconst 3, 1) := dk_6 (dk_at dksX2_hold_2 17 rfl rfl)
theorem dX2_hold_64 : decode cX2_hold 64 = .ok (.if_icmp .ge 51, 3) := dk_162 0 51 (dk_at dksX2_hold_2 18 rfl rfl)
theorem dX2_hold_67 : decode cX2_hold 67 = .ok (.aload_n 0, 1) := dk_42 (dk_at dksX2_hold_2 21 rfl rfl)
theorem dX2_hold_68 : decode cX2_hold 68 = .ok (.iload 6, 2) := dk_21 6 (dk_at dksX2_hold_2 22 rfl rfl)
theorem dX2_hold_70 : decode cX2_hold 70 = .ok (.iload_n 1, 1) := dk_27 (dk_at dksX2_hold_3 0 rfl rfl)
theorem dX2_hold_71 : decode cX2_hold 71 = .ok (.iload_n 2, 1) := dk_28 (dk_at dksX2_hold_3 1 rfl rfl)
theorem dX2_hold_72 : decode cX2_hold 72 = .ok (.invokevirtual 156, 3) := dk_182 0 156 (dk_at dksX2_hold_3 2 rfl rfl)
theorem dX2_hold_75 : decode cX2_hold 75 = .ok (.istore 7, 2) := dk_54 7 (dk_at dksX2_hold_3 5 rfl rfl)
theorem dX2_hold_77 : decode cX2_hold 77 = .ok (.iload 7, 2) := dk_21 7 (dk_at dksX2_hold_3 7 rfl rfl)
theorem dX2_hold_79 : decode cX2_hold 79 = .ok (.iload 4, 2) := dk_21 4 (dk_at dksX2_hold_3 9 rfl rfl)
theorem dX2_hold_81 : decode cX2_hold 81 = .ok (.if_icmp .le 8, 3) := dk_164 0 8 (dk_at dksX2_hold_3 11 rfl rfl)
theorem dX2_hold_84 : decode cX2_hold 84 = .ok (.iload 6, 2) := dk_21 6 (dk_at dksX2_hold_3 14 rfl rfl)
theorem dX2_hold_86 : decode cX2_hold 86 = .ok (.goto 5, 3) := dk_167 0 5 (dk_at dksX2_hold_3 16 rfl rfl)
theorem dX2_hold_89 : decode cX2_hold 89 = .ok (.iload 5, 2) := dk_21 5 (dk_at dksX2_hold_3 19 rfl rfl)
theorem dX2_hold_91 : decode cX2_hold 91 = .ok (.istore 5, 2) := dk_54 5 (dk_at dksX2_hold_3 21 rfl rfl)
theorem dX2_hold_93 : decode cX2_hold 93 = .ok (.iload 7, 2) := dk_21 7 (dk_at dksX2_hold_4 0 rfl rfl)
theorem dX2_hold_95 : decode cX2_hold 95 = .ok (.iload 4, 2) := dk_21 4 (dk_at dksX2_hold_4 2 rfl rfl)
theorem dX2_hold_97 : decode cX2_hold 97 = .ok (.if_icmp .le 8, 3) := dk_164 0 8 (dk_at dksX2_hold_4 4 rfl rfl)
theorem dX2_hold_100 : decode cX2_hold 100 = .ok (.iload 7, 2) := dk_21 7 (dk_at dksX2_hold_4 7 rfl rfl)
theorem dX2_hold_102 : decode cX2_hold 102 = .ok (.goto 5, 3) := dk_167 0 5 (dk_at dksX2_hold_4 9 rfl rfl)
theorem dX2_hold_105 : decode cX2_hold 105 = .ok (.iload 4, 2) := dk_21 4 (dk_at dksX2_hold_4 12 rfl rfl)
theorem dX2_hold_107 : decode cX2_hold 107 = .ok (.istore 4, 2) := dk_54 4 (dk_at dksX2_hold_4 14 rfl rfl)
theorem dX2_hold_109 : decode cX2_hold 109 = .ok (.iinc 6 1, 3) := dk_132 6 1 (dk_at dksX2_hold_4 16 rfl rfl)
theorem dX2_hold_112 : decode cX2_hold 112 = .ok (.goto (-51), 3) := dk_167 255 205 (dk_at dksX2_hold_4 19 rfl rfl)
theorem dX2_hold_115 : decode cX2_hold 115 = .ok (.iload_n 3, 1) := dk_29 (dk_at dksX2_hold_4 22 rfl rfl)
theorem dX2_hold_116 : decode cX2_hold 116 = .ok (.ifCond .ne 8, 3) := dk_154 0 8 (dk_at dksX2_hold_5 0 rfl rfl)
theorem dX2_hold_119 : decode cX2_hold 119 = .ok (.iload 4, 2) := dk_21 4 (dk_at dksX2_hold_5 3 rfl rfl)
theorem dX2_hold_121 : decode cX2_hold 121 = .ok (.goto 5, 3) := dk_167 0 5 (dk_at dksX2_hold_5 5 rfl rfl)
theorem dX2_hold_124 : decode cX2_hold 124 = .ok (.iload 5, 2) := dk_21 5 (dk_at dksX2_hold_5 8 rfl rfl)
theorem dX2_hold_126 : decode cX2_hold 126 = .ok (.ireturn, 1) := dk_172 (dk_at dksX2_hold_5 10 rfl rfl)
abbrev cX2_heldBy : ByteArray := prog_4_method_43_code
def yX2_heldBy : MethodName := ⟨RX2, "heldBy", "(III)I"⟩
def dkwX2_heldBy_9 : List UInt8 := [16, 10, 112, 104, 21, 6, 96, 3, 84, 132, 6, 1, 167, 255, 102, 132, 5, 1, 167, 255, 86, 21, 4, 172]
abbrev dktX2_heldBy_9 : List UInt8 := dkwX2_heldBy_9 ++ []
def dkwX2_heldBy_8 : List UInt8 := [21, 9, 167, 0, 5, 21, 4, 54, 4, 132, 7, 1, 167, 255, 137, 42, 180, 0, 43, 17, 3, 232, 21, 5]
abbrev dktX2_heldBy_8 : List UInt8 := dkwX2_heldBy_8 ++ dktX2_heldBy_9
def dkwX2_heldBy_7 : List UInt8 := [21, 7, 21, 8, 29, 21, 7, 184, 0, 149, 184, 0, 152, 96, 4, 84, 21, 9, 21, 4, 164, 0, 8]
abbrev dktX2_heldBy_7 : List UInt8 := dkwX2_heldBy_7 ++ dktX2_heldBy_8
def dkwX2_heldBy_6 : List UInt8 := [21, 8, 96, 54, 9, 42, 180, 0, 43, 17, 3, 232, 21, 5, 21, 8, 96, 16, 10, 112, 104, 21, 6]
abbrev dktX2_heldBy_6 : List UInt8 := dkwX2_heldBy_6 ++ dktX2_heldBy_7
def dkwX2_heldBy_5 : List UInt8 := [21, 7, 184, 0, 149, 54, 8, 21, 5, 21, 8, 96, 16, 99, 164, 0, 8, 16, 99, 167, 0, 8, 21, 5]
abbrev dktX2_heldBy_5 : List UInt8 := dkwX2_heldBy_5 ++ dktX2_heldBy_6
def dkwX2_heldBy_4 : List UInt8 := [21, 5, 16, 10, 112, 104, 21, 6, 96, 51, 153, 0, 99, 21, 6, 21, 7, 184, 0, 149, 154, 0, 83, 28]
abbrev dktX2_heldBy_4 : List UInt8 := dkwX2_heldBy_4 ++ dktX2_heldBy_5
def dkwX2_heldBy_3 : List UInt8 := [21, 6, 17, 3, 232, 162, 0, 152, 3, 54, 7, 21, 7, 6, 162, 0, 119, 42, 180, 0, 43, 17, 3, 232]
abbrev dktX2_heldBy_3 : List UInt8 := dkwX2_heldBy_3 ++ dktX2_heldBy_4
def dkwX2_heldBy_2 : List UInt8 := [29, 27, 184, 0, 149, 184, 0, 152, 96, 4, 84, 4, 54, 5, 21, 5, 16, 99, 162, 0, 169, 3, 54, 6]
abbrev dktX2_heldBy_2 : List UInt8 := dkwX2_heldBy_2 ++ dktX2_heldBy_3
def dkwX2_heldBy_1 : List UInt8 := [167, 255, 237, 28, 27, 184, 0, 149, 54, 4, 42, 180, 0, 43, 17, 3, 232, 21, 4, 104, 3, 27, 21, 4]
abbrev dktX2_heldBy_1 : List UInt8 := dkwX2_heldBy_1 ++ dktX2_heldBy_2
def dkwX2_heldBy_0 : List UInt8 := [3, 54, 4, 21, 4, 17, 39, 16, 162, 0, 17, 42, 180, 0, 43, 21, 4, 3, 84, 132, 4, 1]
abbrev dktX2_heldBy_0 : List UInt8 := dkwX2_heldBy_0 ++ dktX2_heldBy_1
theorem dksX2_heldBy_0 : cX2_heldBy.data.toList.drop 0 = dktX2_heldBy_0 := by decide +kernel
theorem dksX2_heldBy_1 : cX2_heldBy.data.toList.drop 22 = dktX2_heldBy_1 := dk_seg dksX2_heldBy_0 22 rfl rfl
theorem dksX2_heldBy_2 : cX2_heldBy.data.toList.drop 46 = dktX2_heldBy_2 := dk_seg dksX2_heldBy_1 24 rfl rfl
theorem dksX2_heldBy_3 : cX2_heldBy.data.toList.drop 70 = dktX2_heldBy_3 := dk_seg dksX2_heldBy_2 24 rfl rfl
theorem dksX2_heldBy_4 : cX2_heldBy.data.toList.drop 94 = dktX2_heldBy_4 := dk_seg dksX2_heldBy_3 24 rfl rfl
theorem dksX2_heldBy_5 : cX2_heldBy.data.toList.drop 118 = dktX2_heldBy_5 := dk_seg dksX2_heldBy_4 24 rfl rfl
theorem dksX2_heldBy_6 : cX2_heldBy.data.toList.drop 142 = dktX2_heldBy_6 := dk_seg dksX2_heldBy_5 24 rfl rfl
theorem dksX2_heldBy_7 : cX2_heldBy.data.toList.drop 165 = dktX2_heldBy_7 := dk_seg dksX2_heldBy_6 23 rfl rfl
theorem dksX2_heldBy_8 : cX2_heldBy.data.toList.drop 188 = dktX2_heldBy_8 := dk_seg dksX2_heldBy_7 23 rfl rfl
theorem dksX2_heldBy_9 : cX2_heldBy.data.toList.drop 212 = dktX2_heldBy_9 := dk_seg dksX2_heldBy_8 24 rfl rfl
theorem dX2_heldBy_0 : decode cX2_heldBy 0 = .ok (.iconst 0, 1) := dk_3 (dk_at dksX2_heldBy_0 0 rfl rfl)
theorem dX2_heldBy_1 : decode cX2_heldBy 1 = .ok (.istore 4, 2) := dk_54 4 (dk_at dksX2_heldBy_0 1 rfl rfl)
theorem dX2_heldBy_3 : decode cX2_heldBy 3 = .ok (.iload 4, 2) := dk_21 4 (dk_at dksX2_heldBy_0 3 rfl rfl)
theorem dX2_heldBy_5 : decode cX2_heldBy 5 = .ok (.sipush 10000, 3) := dk_17 39 16 (dk_at dksX2_heldBy_0 5 rfl rfl)
theorem dX2_heldBy_8 : decode cX2_heldBy 8 = .ok (.if_icmp .ge 17, 3) := dk_162 0 17 (dk_at dksX2_heldBy_0 8 rfl rfl)
theorem dX2_heldBy_11 : decode cX2_heldBy 11 = .ok (.aload_n 0, 1) := dk_42 (dk_at dksX2_heldBy_0 11 rfl rfl)
theorem dX2_heldBy_12 : decode cX2_heldBy 12 = .ok (.getfield 43, 3) := dk_180 0 43 (dk_at dksX2_heldBy_0 12 rfl rfl)
theorem dX2_heldBy_15 : decode cX2_heldBy 15 = .ok (.iload 4, 2) := dk_21 4 (dk_at dksX2_heldBy_0 15 rfl rfl)
theorem dX2_heldBy_17 : decode cX2_heldBy 17 = .ok (.iconst 0, 1) := dk_3 (dk_at dksX2_heldBy_0 17 rfl rfl)
theorem dX2_heldBy_18 : decode cX2_heldBy 18 = .ok (.bastore, 1) := dk_84 (dk_at dksX2_heldBy_0 18 rfl rfl)
theorem dX2_heldBy_19 : decode cX2_heldBy 19 = .ok (.iinc 4 1, 3) := dk_132 4 1 (dk_at dksX2_heldBy_0 19 rfl rfl)
theorem dX2_heldBy_22 : decode cX2_heldBy 22 = .ok (.goto (-19), 3) := dk_167 255 237 (dk_at dksX2_heldBy_1 0 rfl rfl)
theorem dX2_heldBy_25 : decode cX2_heldBy 25 = .ok (.iload_n 2, 1) := dk_28 (dk_at dksX2_heldBy_1 3 rfl rfl)
theorem dX2_heldBy_26 : decode cX2_heldBy 26 = .ok (.iload_n 1, 1) := dk_27 (dk_at dksX2_heldBy_1 4 rfl rfl)
theorem dX2_heldBy_27 : decode cX2_heldBy 27 = .ok (.invokestatic 149, 3) := dk_184 0 149 (dk_at dksX2_heldBy_1 5 rfl rfl)
theorem dX2_heldBy_30 : decode cX2_heldBy 30 = .ok (.istore 4, 2) := dk_54 4 (dk_at dksX2_heldBy_1 8 rfl rfl)
theorem dX2_heldBy_32 : decode cX2_heldBy 32 = .ok (.aload_n 0, 1) := dk_42 (dk_at dksX2_heldBy_1 10 rfl rfl)
theorem dX2_heldBy_33 : decode cX2_heldBy 33 = .ok (.getfield 43, 3) := dk_180 0 43 (dk_at dksX2_heldBy_1 11 rfl rfl)
theorem dX2_heldBy_36 : decode cX2_heldBy 36 = .ok (.sipush 1000, 3) := dk_17 3 232 (dk_at dksX2_heldBy_1 14 rfl rfl)
theorem dX2_heldBy_39 : decode cX2_heldBy 39 = .ok (.iload 4, 2) := dk_21 4 (dk_at dksX2_heldBy_1 17 rfl rfl)
theorem dX2_heldBy_41 : decode cX2_heldBy 41 = .ok (.imul, 1) := dk_104 (dk_at dksX2_heldBy_1 19 rfl rfl)
theorem dX2_heldBy_42 : decode cX2_heldBy 42 = .ok (.iconst 0, 1) := dk_3 (dk_at dksX2_heldBy_1 20 rfl rfl)
theorem dX2_heldBy_43 : decode cX2_heldBy 43 = .ok (.iload_n 1, 1) := dk_27 (dk_at dksX2_heldBy_1 21 rfl rfl)
theorem dX2_heldBy_44 : decode cX2_heldBy 44 = .ok (.iload 4, 2) := dk_21 4 (dk_at dksX2_heldBy_1 22 rfl rfl)
theorem dX2_heldBy_46 : decode cX2_heldBy 46 = .ok (.iload_n 3, 1) := dk_29 (dk_at dksX2_heldBy_2 0 rfl rfl)
theorem dX2_heldBy_47 : decode cX2_heldBy 47 = .ok (.iload_n 1, 1) := dk_27 (dk_at dksX2_heldBy_2 1 rfl rfl)
theorem dX2_heldBy_48 : decode cX2_heldBy 48 = .ok (.invokestatic 149, 3) := dk_184 0 149 (dk_at dksX2_heldBy_2 2 rfl rfl)
theorem dX2_heldBy_51 : decode cX2_heldBy 51 = .ok (.invokestatic 152, 3) := dk_184 0 152 (dk_at dksX2_heldBy_2 5 rfl rfl)
theorem dX2_heldBy_54 : decode cX2_heldBy 54 = .ok (.iadd, 1) := dk_96 (dk_at dksX2_heldBy_2 8 rfl rfl)
theorem dX2_heldBy_55 : decode cX2_heldBy 55 = .ok (.iconst 1, 1) := dk_4 (dk_at dksX2_heldBy_2 9 rfl rfl)
theorem dX2_heldBy_56 : decode cX2_heldBy 56 = .ok (.bastore, 1) := dk_84 (dk_at dksX2_heldBy_2 10 rfl rfl)
theorem dX2_heldBy_57 : decode cX2_heldBy 57 = .ok (.iconst 1, 1) := dk_4 (dk_at dksX2_heldBy_2 11 rfl rfl)
theorem dX2_heldBy_58 : decode cX2_heldBy 58 = .ok (.istore 5, 2) := dk_54 5 (dk_at dksX2_heldBy_2 12 rfl rfl)
theorem dX2_heldBy_60 : decode cX2_heldBy 60 = .ok (.iload 5, 2) := dk_21 5 (dk_at dksX2_heldBy_2 14 rfl rfl)
theorem dX2_heldBy_62 : decode cX2_heldBy 62 = .ok (.bipush 99, 2) := dk_16 99 (dk_at dksX2_heldBy_2 16 rfl rfl)
theorem dX2_heldBy_64 : decode cX2_heldBy 64 = .ok (.if_icmp .ge 169, 3) := dk_162 0 169 (dk_at dksX2_heldBy_2 18 rfl rfl)
theorem dX2_heldBy_67 : decode cX2_heldBy 67 = .ok (.iconst 0, 1) := dk_3 (dk_at dksX2_heldBy_2 21 rfl rfl)
theorem dX2_heldBy_68 : decode cX2_heldBy 68 = .ok (.istore 6, 2) := dk_54 6 (dk_at dksX2_heldBy_2 22 rfl rfl)
theorem dX2_heldBy_70 : decode cX2_heldBy 70 = .ok (.iload 6, 2) := dk_21 6 (dk_at dksX2_heldBy_3 0 rfl rfl)
theorem dX2_heldBy_72 : decode cX2_heldBy 72 = .ok (.sipush 1000, 3) := dk_17 3 232 (dk_at dksX2_heldBy_3 2 rfl rfl)
theorem dX2_heldBy_75 : decode cX2_heldBy 75 = .ok (.if_icmp .ge 152, 3) := dk_162 0 152 (dk_at dksX2_heldBy_3 5 rfl rfl)
theorem dX2_heldBy_78 : decode cX2_heldBy 78 = .ok (.iconst 0, 1) := dk_3 (dk_at dksX2_heldBy_3 8 rfl rfl)
theorem dX2_heldBy_79 : decode cX2_heldBy 79 = .ok (.istore 7, 2) := dk_54 7 (dk_at dksX2_heldBy_3 9 rfl rfl)
theorem dX2_heldBy_81 : decode cX2_heldBy 81 = .ok (.iload 7, 2) := dk_21 7 (dk_at dksX2_heldBy_3 11 rfl rfl)
theorem dX2_heldBy_83 : decode cX2_heldBy 83 = .ok (.iconst 3, 1) := dk_6 (dk_at dksX2_heldBy_3 13 rfl rfl)
theorem dX2_heldBy_84 : decode cX2_heldBy 84 = .ok (.if_icmp .ge 119, 3) := dk_162 0 119 (dk_at dksX2_heldBy_3 14 rfl rfl)
theorem dX2_heldBy_87 : decode cX2_heldBy 87 = .ok (.aload_n 0, 1) := dk_42 (dk_at dksX2_heldBy_3 17 rfl rfl)
theorem dX2_heldBy_88 : decode cX2_heldBy 88 = .ok (.getfield 43, 3) := dk_180 0 43 (dk_at dksX2_heldBy_3 18 rfl rfl)
theorem dX2_heldBy_91 : decode cX2_heldBy 91 = .ok (.sipush 1000, 3) := dk_17 3 232 (dk_at dksX2_heldBy_3 21 rfl rfl)
theorem dX2_heldBy_94 : decode cX2_heldBy 94 = .ok (.iload 5, 2) := dk_21 5 (dk_at dksX2_heldBy_4 0 rfl rfl)
theorem dX2_heldBy_96 : decode cX2_heldBy 96 = .ok (.bipush 10, 2) := dk_16 10 (dk_at dksX2_heldBy_4 2 rfl rfl)
theorem dX2_heldBy_98 : decode cX2_heldBy 98 = .ok (.irem, 1) := dk_112 (dk_at dksX2_heldBy_4 4 rfl rfl)
theorem dX2_heldBy_99 : decode cX2_heldBy 99 = .ok (.imul, 1) := dk_104 (dk_at dksX2_heldBy_4 5 rfl rfl)
theorem dX2_heldBy_100 : decode cX2_heldBy 100 = .ok (.iload 6, 2) := dk_21 6 (dk_at dksX2_heldBy_4 6 rfl rfl)
theorem dX2_heldBy_102 : decode cX2_heldBy 102 = .ok (.iadd, 1) := dk_96 (dk_at dksX2_heldBy_4 8 rfl rfl)
theorem dX2_heldBy_103 : decode cX2_heldBy 103 = .ok (.baload, 1) := dk_51 (dk_at dksX2_heldBy_4 9 rfl rfl)
theorem dX2_heldBy_104 : decode cX2_heldBy 104 = .ok (.ifCond .eq 99, 3) := dk_153 0 99 (dk_at dksX2_heldBy_4 10 rfl rfl)
theorem dX2_heldBy_107 : decode cX2_heldBy 107 = .ok (.iload 6, 2) := dk_21 6 (dk_at dksX2_heldBy_4 13 rfl rfl)
theorem dX2_heldBy_109 : decode cX2_heldBy 109 = .ok (.iload 7, 2) := dk_21 7 (dk_at dksX2_heldBy_4 15 rfl rfl)
theorem dX2_heldBy_111 : decode cX2_heldBy 111 = .ok (.invokestatic 149, 3) := dk_184 0 149 (dk_at dksX2_heldBy_4 17 rfl rfl)
theorem dX2_heldBy_114 : decode cX2_heldBy 114 = .ok (.ifCond .ne 83, 3) := dk_154 0 83 (dk_at dksX2_heldBy_4 20 rfl rfl)
theorem dX2_heldBy_117 : decode cX2_heldBy 117 = .ok (.iload_n 2, 1) := dk_28 (dk_at dksX2_heldBy_4 23 rfl rfl)
theorem dX2_heldBy_118 : decode cX2_heldBy 118 = .ok (.iload 7, 2) := dk_21 7 (dk_at dksX2_heldBy_5 0 rfl rfl)
theorem dX2_heldBy_120 : decode cX2_heldBy 120 = .ok (.invokestatic 149, 3) := dk_184 0 149 (dk_at dksX2_heldBy_5 2 rfl rfl)
theorem dX2_heldBy_123 : decode cX2_heldBy 123 = .ok (.istore 8, 2) := dk_54 8 (dk_at dksX2_heldBy_5 5 rfl rfl)
theorem dX2_heldBy_125 : decode cX2_heldBy 125 = .ok (.iload 5, 2) := dk_21 5 (dk_at dksX2_heldBy_5 7 rfl rfl)
theorem dX2_heldBy_127 : decode cX2_heldBy 127 = .ok (.iload 8, 2) := dk_21 8 (dk_at dksX2_heldBy_5 9 rfl rfl)
theorem dX2_heldBy_129 : decode cX2_heldBy 129 = .ok (.iadd, 1) := dk_96 (dk_at dksX2_heldBy_5 11 rfl rfl)
theorem dX2_heldBy_130 : decode cX2_heldBy 130 = .ok (.bipush 99, 2) := dk_16 99 (dk_at dksX2_heldBy_5 12 rfl rfl)
theorem dX2_heldBy_132 : decode cX2_heldBy 132 = .ok (.if_icmp .le 8, 3) := dk_164 0 8 (dk_at dksX2_heldBy_5 14 rfl rfl)
theorem dX2_heldBy_135 : decode cX2_heldBy 135 = .ok (.bipush 99, 2) := dk_16 99 (dk_at dksX2_heldBy_5 17 rfl rfl)
theorem dX2_heldBy_137 : decode cX2_heldBy 137 = .ok (.goto 8, 3) := dk_167 0 8 (dk_at dksX2_heldBy_5 19 rfl rfl)
theorem dX2_heldBy_140 : decode cX2_heldBy 140 = .ok (.iload 5, 2) := dk_21 5 (dk_at dksX2_heldBy_5 22 rfl rfl)
theorem dX2_heldBy_142 : decode cX2_heldBy 142 = .ok (.iload 8, 2) := dk_21 8 (dk_at dksX2_heldBy_6 0 rfl rfl)
theorem dX2_heldBy_144 : decode cX2_heldBy 144 = .ok (.iadd, 1) := dk_96 (dk_at dksX2_heldBy_6 2 rfl rfl)
theorem dX2_heldBy_145 : decode cX2_heldBy 145 = .ok (.istore 9, 2) := dk_54 9 (dk_at dksX2_heldBy_6 3 rfl rfl)
theorem dX2_heldBy_147 : decode cX2_heldBy 147 = .ok (.aload_n 0, 1) := dk_42 (dk_at dksX2_heldBy_6 5 rfl rfl)
theorem dX2_heldBy_148 : decode cX2_heldBy 148 = .ok (.getfield 43, 3) := dk_180 0 43 (dk_at dksX2_heldBy_6 6 rfl rfl)
theorem dX2_heldBy_151 : decode cX2_heldBy 151 = .ok (.sipush 1000, 3) := dk_17 3 232 (dk_at dksX2_heldBy_6 9 rfl rfl)
theorem dX2_heldBy_154 : decode cX2_heldBy 154 = .ok (.iload 5, 2) := dk_21 5 (dk_at dksX2_heldBy_6 12 rfl rfl)
theorem dX2_heldBy_156 : decode cX2_heldBy 156 = .ok (.iload 8, 2) := dk_21 8 (dk_at dksX2_heldBy_6 14 rfl rfl)
theorem dX2_heldBy_158 : decode cX2_heldBy 158 = .ok (.iadd, 1) := dk_96 (dk_at dksX2_heldBy_6 16 rfl rfl)
theorem dX2_heldBy_159 : decode cX2_heldBy 159 = .ok (.bipush 10, 2) := dk_16 10 (dk_at dksX2_heldBy_6 17 rfl rfl)
theorem dX2_heldBy_161 : decode cX2_heldBy 161 = .ok (.irem, 1) := dk_112 (dk_at dksX2_heldBy_6 19 rfl rfl)
theorem dX2_heldBy_162 : decode cX2_heldBy 162 = .ok (.imul, 1) := dk_104 (dk_at dksX2_heldBy_6 20 rfl rfl)
theorem dX2_heldBy_163 : decode cX2_heldBy 163 = .ok (.iload 6, 2) := dk_21 6 (dk_at dksX2_heldBy_6 21 rfl rfl)
theorem dX2_heldBy_165 : decode cX2_heldBy 165 = .ok (.iload 7, 2) := dk_21 7 (dk_at dksX2_heldBy_7 0 rfl rfl)
theorem dX2_heldBy_167 : decode cX2_heldBy 167 = .ok (.iload 8, 2) := dk_21 8 (dk_at dksX2_heldBy_7 2 rfl rfl)
theorem dX2_heldBy_169 : decode cX2_heldBy 169 = .ok (.iload_n 3, 1) := dk_29 (dk_at dksX2_heldBy_7 4 rfl rfl)
theorem dX2_heldBy_170 : decode cX2_heldBy 170 = .ok (.iload 7, 2) := dk_21 7 (dk_at dksX2_heldBy_7 5 rfl rfl)
theorem dX2_heldBy_172 : decode cX2_heldBy 172 = .ok (.invokestatic 149, 3) := dk_184 0 149 (dk_at dksX2_heldBy_7 7 rfl rfl)
theorem dX2_heldBy_175 : decode cX2_heldBy 175 = .ok (.invokestatic 152, 3) := dk_184 0 152 (dk_at dksX2_heldBy_7 10 rfl rfl)
theorem dX2_heldBy_178 : decode cX2_heldBy 178 = .ok (.iadd, 1) := dk_96 (dk_at dksX2_heldBy_7 13 rfl rfl)
theorem dX2_heldBy_179 : decode cX2_heldBy 179 = .ok (.iconst 1, 1) := dk_4 (dk_at dksX2_heldBy_7 14 rfl rfl)
theorem dX2_heldBy_180 : decode cX2_heldBy 180 = .ok (.bastore, 1) := dk_84 (dk_at dksX2_heldBy_7 15 rfl rfl)
theorem dX2_heldBy_181 : decode cX2_heldBy 181 = .ok (.iload 9, 2) := dk_21 9 (dk_at dksX2_heldBy_7 16 rfl rfl)
theorem dX2_heldBy_183 : decode cX2_heldBy 183 = .ok (.iload 4, 2) := dk_21 4 (dk_at dksX2_heldBy_7 18 rfl rfl)
theorem dX2_heldBy_185 : decode cX2_heldBy 185 = .ok (.if_icmp .le 8, 3) := dk_164 0 8 (dk_at dksX2_heldBy_7 20 rfl rfl)
theorem dX2_heldBy_188 : decode cX2_heldBy 188 = .ok (.iload 9, 2) := dk_21 9 (dk_at dksX2_heldBy_8 0 rfl rfl)
theorem dX2_heldBy_190 : decode cX2_heldBy 190 = .ok (.goto 5, 3) := dk_167 0 5 (dk_at dksX2_heldBy_8 2 rfl rfl)
theorem dX2_heldBy_193 : decode cX2_heldBy 193 = .ok (.iload 4, 2) := dk_21 4 (dk_at dksX2_heldBy_8 5 rfl rfl)
theorem dX2_heldBy_195 : decode cX2_heldBy 195 = .ok (.istore 4, 2) := dk_54 4 (dk_at dksX2_heldBy_8 7 rfl rfl)
theorem dX2_heldBy_197 : decode cX2_heldBy 197 = .ok (.iinc 7 1, 3) := dk_132 7 1 (dk_at dksX2_heldBy_8 9 rfl rfl)
theorem dX2_heldBy_200 : decode cX2_heldBy 200 = .ok (.goto (-119), 3) := dk_167 255 137 (dk_at dksX2_heldBy_8 12 rfl rfl)
theorem dX2_heldBy_203 : decode cX2_heldBy 203 = .ok (.aload_n 0, 1) := dk_42 (dk_at dksX2_heldBy_8 15 rfl rfl)
theorem dX2_heldBy_204 : decode cX2_heldBy 204 = .ok (.getfield 43, 3) := dk_180 0 43 (dk_at dksX2_heldBy_8 16 rfl rfl)
theorem dX2_heldBy_207 : decode cX2_heldBy 207 = .ok (.sipush 1000, 3) := dk_17 3 232 (dk_at dksX2_heldBy_8 19 rfl rfl)
theorem dX2_heldBy_210 : decode cX2_heldBy 210 = .ok (.iload 5, 2) := dk_21 5 (dk_at dksX2_heldBy_8 22 rfl rfl)
theorem dX2_heldBy_212 : decode cX2_heldBy 212 = .ok (.bipush 10, 2) := dk_16 10 (dk_at dksX2_heldBy_9 0 rfl rfl)
theorem dX2_heldBy_214 : decode cX2_heldBy 214 = .ok (.irem, 1) := dk_112 (dk_at dksX2_heldBy_9 2 rfl rfl)
theorem dX2_heldBy_215 : decode cX2_heldBy 215 = .ok (.imul, 1) := dk_104 (dk_at dksX2_heldBy_9 3 rfl rfl)
theorem dX2_heldBy_216 : decode cX2_heldBy 216 = .ok (.iload 6, 2) := dk_21 6 (dk_at dksX2_heldBy_9 4 rfl rfl)
theorem dX2_heldBy_218 : decode cX2_heldBy 218 = .ok (.iadd, 1) := dk_96 (dk_at dksX2_heldBy_9 6 rfl rfl)
theorem dX2_heldBy_219 : decode cX2_heldBy 219 = .ok (.iconst 0, 1) := dk_3 (dk_at dksX2_heldBy_9 7 rfl rfl)
theorem dX2_heldBy_220 : decode cX2_heldBy 220 = .ok (.bastore, 1) := dk_84 (dk_at dksX2_heldBy_9 8 rfl rfl)
theorem dX2_heldBy_221 : decode cX2_heldBy 221 = .ok (.iinc 6 1, 3) := dk_132 6 1 (dk_at dksX2_heldBy_9 9 rfl rfl)
theorem dX2_heldBy_224 : decode cX2_heldBy 224 = .ok (.goto (-154), 3) := dk_167 255 102 (dk_at dksX2_heldBy_9 12 rfl rfl)
theorem dX2_heldBy_227 : decode cX2_heldBy 227 = .ok (.iinc 5 1, 3) := dk_132 5 1 (dk_at dksX2_heldBy_9 15 rfl rfl)
theorem dX2_heldBy_230 : decode cX2_heldBy 230 = .ok (.goto (-170), 3) := dk_167 255 86 (dk_at dksX2_heldBy_9 18 rfl rfl)
theorem dX2_heldBy_233 : decode cX2_heldBy 233 = .ok (.iload 4, 2) := dk_21 4 (dk_at dksX2_heldBy_9 21 rfl rfl)
theorem dX2_heldBy_235 : decode cX2_heldBy 235 = .ok (.ireturn, 1) := dk_172 (dk_at dksX2_heldBy_9 23 rfl rfl)
abbrev cX2_digit : ByteArray := prog_4_method_41_code
def yX2_digit : MethodName := ⟨RX2, "digit", "(II)I"⟩
def dkwX2_digit_1 : List UInt8 := [167, 0, 7, 26, 16, 10, 112, 172]
abbrev dktX2_digit_1 : List UInt8 := dkwX2_digit_1 ++ []
def dkwX2_digit_0 : List UInt8 := [27, 154, 0, 10, 26, 16, 100, 108, 167, 0, 22, 27, 4, 160, 0, 13, 26, 16, 10, 108, 16, 10, 112]
abbrev dktX2_digit_0 : List UInt8 := dkwX2_digit_0 ++ dktX2_digit_1
theorem dksX2_digit_0 : cX2_digit.data.toList.drop 0 = dktX2_digit_0 := by decide +kernel
theorem dksX2_digit_1 : cX2_digit.data.toList.drop 23 = dktX2_digit_1 := dk_seg dksX2_digit_0 23 rfl rfl
theorem dX2_digit_0 : decode cX2_digit 0 = .ok (.iload_n 1, 1) := dk_27 (dk_at dksX2_digit_0 0 rfl rfl)
theorem dX2_digit_1 : decode cX2_digit 1 = .ok (.ifCond .ne 10, 3) := dk_154 0 10 (dk_at dksX2_digit_0 1 rfl rfl)
theorem dX2_digit_4 : decode cX2_digit 4 = .ok (.iload_n 0, 1) := dk_26 (dk_at dksX2_digit_0 4 rfl rfl)
theorem dX2_digit_5 : decode cX2_digit 5 = .ok (.bipush 100, 2) := dk_16 100 (dk_at dksX2_digit_0 5 rfl rfl)
theorem dX2_digit_7 : decode cX2_digit 7 = .ok (.idiv, 1) := dk_108 (dk_at dksX2_digit_0 7 rfl rfl)
theorem dX2_digit_8 : decode cX2_digit 8 = .ok (.goto 22, 3) := dk_167 0 22 (dk_at dksX2_digit_0 8 rfl rfl)
theorem dX2_digit_11 : decode cX2_digit 11 = .ok (.iload_n 1, 1) := dk_27 (dk_at dksX2_digit_0 11 rfl rfl)
theorem dX2_digit_12 : decode cX2_digit 12 = .ok (.iconst 1, 1) := dk_4 (dk_at dksX2_digit_0 12 rfl rfl)
theorem dX2_digit_13 : decode cX2_digit 13 = .ok (.if_icmp .ne 13, 3) := dk_160 0 13 (dk_at dksX2_digit_0 13 rfl rfl)
theorem dX2_digit_16 : decode cX2_digit 16 = .ok (.iload_n 0, 1) := dk_26 (dk_at dksX2_digit_0 16 rfl rfl)
theorem dX2_digit_17 : decode cX2_digit 17 = .ok (.bipush 10, 2) := dk_16 10 (dk_at dksX2_digit_0 17 rfl rfl)
theorem dX2_digit_19 : decode cX2_digit 19 = .ok (.idiv, 1) := dk_108 (dk_at dksX2_digit_0 19 rfl rfl)
theorem dX2_digit_20 : decode cX2_digit 20 = .ok (.bipush 10, 2) := dk_16 10 (dk_at dksX2_digit_0 20 rfl rfl)
theorem dX2_digit_22 : decode cX2_digit 22 = .ok (.irem, 1) := dk_112 (dk_at dksX2_digit_0 22 rfl rfl)
theorem dX2_digit_23 : decode cX2_digit 23 = .ok (.goto 7, 3) := dk_167 0 7 (dk_at dksX2_digit_1 0 rfl rfl)
theorem dX2_digit_26 : decode cX2_digit 26 = .ok (.iload_n 0, 1) := dk_26 (dk_at dksX2_digit_1 3 rfl rfl)
theorem dX2_digit_27 : decode cX2_digit 27 = .ok (.bipush 10, 2) := dk_16 10 (dk_at dksX2_digit_1 4 rfl rfl)
theorem dX2_digit_29 : decode cX2_digit 29 = .ok (.irem, 1) := dk_112 (dk_at dksX2_digit_1 6 rfl rfl)
theorem dX2_digit_30 : decode cX2_digit 30 = .ok (.ireturn, 1) := dk_172 (dk_at dksX2_digit_1 7 rfl rfl)
abbrev cX2_rested : ByteArray := prog_4_method_42_code
def yX2_rested : MethodName := ⟨RX2, "rested", "(IIII)I"⟩
def dkwX2_rested_2 : List UInt8 := [96, 54, 4, 132, 5, 1, 167, 255, 208, 21, 4, 172]
abbrev dktX2_rested_2 : List UInt8 := dkwX2_rested_2 ++ []
def dkwX2_rested_1 : List UInt8 := [21, 4, 104, 21, 5, 27, 160, 0, 7, 29, 167, 0, 14, 21, 6, 158, 0, 8, 21, 6, 167, 0, 4, 3]
abbrev dktX2_rested_1 : List UInt8 := dkwX2_rested_1 ++ dktX2_rested_2
def dkwX2_rested_0 : List UInt8 := [3, 54, 4, 3, 54, 5, 21, 5, 6, 162, 0, 48, 26, 21, 5, 184, 0, 149, 28, 100, 54, 6, 16, 10]
abbrev dktX2_rested_0 : List UInt8 := dkwX2_rested_0 ++ dktX2_rested_1
theorem dksX2_rested_0 : cX2_rested.data.toList.drop 0 = dktX2_rested_0 := by decide +kernel
theorem dksX2_rested_1 : cX2_rested.data.toList.drop 24 = dktX2_rested_1 := dk_seg dksX2_rested_0 24 rfl rfl
theorem dksX2_rested_2 : cX2_rested.data.toList.drop 48 = dktX2_rested_2 := dk_seg dksX2_rested_1 24 rfl rfl
theorem dX2_rested_0 : decode cX2_rested 0 = .ok (.iconst 0, 1) := dk_3 (dk_at dksX2_rested_0 0 rfl rfl)
theorem dX2_rested_1 : decode cX2_rested 1 = .ok (.istore 4, 2) := dk_54 4 (dk_at dksX2_rested_0 1 rfl rfl)
theorem dX2_rested_3 : decode cX2_rested 3 = .ok (.iconst 0, 1) := dk_3 (dk_at dksX2_rested_0 3 rfl rfl)
theorem dX2_rested_4 : decode cX2_rested 4 = .ok (.istore 5, 2) := dk_54 5 (dk_at dksX2_rested_0 4 rfl rfl)
theorem dX2_rested_6 : decode cX2_rested 6 = .ok (.iload 5, 2) := dk_21 5 (dk_at dksX2_rested_0 6 rfl rfl)
theorem dX2_rested_8 : decode cX2_rested 8 = .ok (.iconst 3, 1) := dk_6 (dk_at dksX2_rested_0 8 rfl rfl)
theorem dX2_rested_9 : decode cX2_rested 9 = .ok (.if_icmp .ge 48, 3) := dk_162 0 48 (dk_at dksX2_rested_0 9 rfl rfl)
theorem dX2_rested_12 : decode cX2_rested 12 = .ok (.iload_n 0, 1) := dk_26 (dk_at dksX2_rested_0 12 rfl rfl)
theorem dX2_rested_13 : decode cX2_rested 13 = .ok (.iload 5, 2) := dk_21 5 (dk_at dksX2_rested_0 13 rfl rfl)
theorem dX2_rested_15 : decode cX2_rested 15 = .ok (.invokestatic 149, 3) := dk_184 0 149 (dk_at dksX2_rested_0 15 rfl rfl)
theorem dX2_rested_18 : decode cX2_rested 18 = .ok (.iload_n 2, 1) := dk_28 (dk_at dksX2_rested_0 18 rfl rfl)
theorem dX2_rested_19 : decode cX2_rested 19 = .ok (.isub, 1) := dk_100 (dk_at dksX2_rested_0 19 rfl rfl)
theorem dX2_rested_20 : decode cX2_rested 20 = .ok (.istore 6, 2) := dk_54 6 (dk_at dksX2_rested_0 20 rfl rfl)
theorem dX2_rested_22 : decode cX2_rested 22 = .ok (.bipush 10, 2) := dk_16 10 (dk_at dksX2_rested_0 22 rfl rfl)
theorem dX2_rested_24 : decode cX2_rested 24 = .ok (.iload 4, 2) := dk_21 4 (dk_at dksX2_rested_1 0 rfl rfl)
theorem dX2_rested_26 : decode cX2_rested 26 = .ok (.imul, 1) := dk_104 (dk_at dksX2_rested_1 2 rfl rfl)
theorem dX2_rested_27 : decode cX2_rested 27 = .ok (.iload 5, 2) := dk_21 5 (dk_at dksX2_rested_1 3 rfl rfl)
theorem dX2_rested_29 : decode cX2_rested 29 = .ok (.iload_n 1, 1) := dk_27 (dk_at dksX2_rested_1 5 rfl rfl)
theorem dX2_rested_30 : decode cX2_rested 30 = .ok (.if_icmp .ne 7, 3) := dk_160 0 7 (dk_at dksX2_rested_1 6 rfl rfl)
theorem dX2_rested_33 : decode cX2_rested 33 = .ok (.iload_n 3, 1) := dk_29 (dk_at dksX2_rested_1 9 rfl rfl)
theorem dX2_rested_34 : decode cX2_rested 34 = .ok (.goto 14, 3) := dk_167 0 14 (dk_at dksX2_rested_1 10 rfl rfl)
theorem dX2_rested_37 : decode cX2_rested 37 = .ok (.iload 6, 2) := dk_21 6 (dk_at dksX2_rested_1 13 rfl rfl)
theorem dX2_rested_39 : decode cX2_rested 39 = .ok (.ifCond .le 8, 3) := dk_158 0 8 (dk_at dksX2_rested_1 15 rfl rfl)
theorem dX2_rested_42 : decode cX2_rested 42 = .ok (.iload 6, 2) := dk_21 6 (dk_at dksX2_rested_1 18 rfl rfl)
theorem dX2_rested_44 : decode cX2_rested 44 = .ok (.goto 4, 3) := dk_167 0 4 (dk_at dksX2_rested_1 20 rfl rfl)
theorem dX2_rested_47 : decode cX2_rested 47 = .ok (.iconst 0, 1) := dk_3 (dk_at dksX2_rested_1 23 rfl rfl)
theorem dX2_rested_48 : decode cX2_rested 48 = .ok (.iadd, 1) := dk_96 (dk_at dksX2_rested_2 0 rfl rfl)
theorem dX2_rested_49 : decode cX2_rested 49 = .ok (.istore 4, 2) := dk_54 4 (dk_at dksX2_rested_2 1 rfl rfl)
theorem dX2_rested_51 : decode cX2_rested 51 = .ok (.iinc 5 1, 3) := dk_132 5 1 (dk_at dksX2_rested_2 3 rfl rfl)
theorem dX2_rested_54 : decode cX2_rested 54 = .ok (.goto (-48), 3) := dk_167 255 208 (dk_at dksX2_rested_2 6 rfl rfl)
theorem dX2_rested_57 : decode cX2_rested 57 = .ok (.iload 4, 2) := dk_21 4 (dk_at dksX2_rested_2 9 rfl rfl)
theorem dX2_rested_59 : decode cX2_rested 59 = .ok (.ireturn, 1) := dk_172 (dk_at dksX2_rested_2 11 rfl rfl)
abbrev cX2_round : ByteArray := prog_4_method_45_code
def yX2_round : MethodName := ⟨RX2, "round", "(IIII)I"⟩
def dkwX2_round_3 : List UInt8 := [154, 0, 6, 21, 5, 172, 132, 5, 1, 167, 255, 223, 16, 250, 172]
abbrev dktX2_round_3 : List UInt8 := dkwX2_round_3 ++ []
def dkwX2_round_2 : List UInt8 := [21, 5, 27, 29, 104, 162, 0, 31, 21, 5, 28, 96, 27, 112, 154, 0, 16, 21, 5, 21, 4, 96, 29, 112]
abbrev dktX2_round_2 : List UInt8 := dkwX2_round_2 ++ dktX2_round_3
def dkwX2_round_1 : List UInt8 := [184, 0, 59, 153, 0, 14, 21, 4, 3, 16, 99, 184, 0, 59, 154, 0, 6, 16, 254, 172, 3, 54, 5]
abbrev dktX2_round_1 : List UInt8 := dkwX2_round_1 ++ dktX2_round_2
def dkwX2_round_0 : List UInt8 := [27, 4, 16, 99, 184, 0, 59, 153, 0, 34, 29, 4, 16, 99, 184, 0, 59, 153, 0, 24, 28, 3, 16, 99]
abbrev dktX2_round_0 : List UInt8 := dkwX2_round_0 ++ dktX2_round_1
theorem dksX2_round_0 : cX2_round.data.toList.drop 0 = dktX2_round_0 := by decide +kernel
theorem dksX2_round_1 : cX2_round.data.toList.drop 24 = dktX2_round_1 := dk_seg dksX2_round_0 24 rfl rfl
theorem dksX2_round_2 : cX2_round.data.toList.drop 47 = dktX2_round_2 := dk_seg dksX2_round_1 23 rfl rfl
theorem dksX2_round_3 : cX2_round.data.toList.drop 71 = dktX2_round_3 := dk_seg dksX2_round_2 24 rfl rfl
theorem dX2_round_0 : decode cX2_round 0 = .ok (.iload_n 1, 1) := dk_27 (dk_at dksX2_round_0 0 rfl rfl)
theorem dX2_round_1 : decode cX2_round 1 = .ok (.iconst 1, 1) := dk_4 (dk_at dksX2_round_0 1 rfl rfl)
theorem dX2_round_2 : decode cX2_round 2 = .ok (.bipush 99, 2) := dk_16 99 (dk_at dksX2_round_0 2 rfl rfl)
theorem dX2_round_4 : decode cX2_round 4 = .ok (.invokestatic 59, 3) := dk_184 0 59 (dk_at dksX2_round_0 4 rfl rfl)
theorem dX2_round_7 : decode cX2_round 7 = .ok (.ifCond .eq 34, 3) := dk_153 0 34 (dk_at dksX2_round_0 7 rfl rfl)
theorem dX2_round_10 : decode cX2_round 10 = .ok (.iload_n 3, 1) := dk_29 (dk_at dksX2_round_0 10 rfl rfl)
theorem dX2_round_11 : decode cX2_round 11 = .ok (.iconst 1, 1) := dk_4 (dk_at dksX2_round_0 11 rfl rfl)
theorem dX2_round_12 : decode cX2_round 12 = .ok (.bipush 99, 2) := dk_16 99 (dk_at dksX2_round_0 12 rfl rfl)
theorem dX2_round_14 : decode cX2_round 14 = .ok (.invokestatic 59, 3) := dk_184 0 59 (dk_at dksX2_round_0 14 rfl rfl)
theorem dX2_round_17 : decode cX2_round 17 = .ok (.ifCond .eq 24, 3) := dk_153 0 24 (dk_at dksX2_round_0 17 rfl rfl)
theorem dX2_round_20 : decode cX2_round 20 = .ok (.iload_n 2, 1) := dk_28 (dk_at dksX2_round_0 20 rfl rfl)
theorem dX2_round_21 : decode cX2_round 21 = .ok (.iconst 0, 1) := dk_3 (dk_at dksX2_round_0 21 rfl rfl)
theorem dX2_round_22 : decode cX2_round 22 = .ok (.bipush 99, 2) := dk_16 99 (dk_at dksX2_round_0 22 rfl rfl)
theorem dX2_round_24 : decode cX2_round 24 = .ok (.invokestatic 59, 3) := dk_184 0 59 (dk_at dksX2_round_1 0 rfl rfl)
theorem dX2_round_27 : decode cX2_round 27 = .ok (.ifCond .eq 14, 3) := dk_153 0 14 (dk_at dksX2_round_1 3 rfl rfl)
theorem dX2_round_30 : decode cX2_round 30 = .ok (.iload 4, 2) := dk_21 4 (dk_at dksX2_round_1 6 rfl rfl)
theorem dX2_round_32 : decode cX2_round 32 = .ok (.iconst 0, 1) := dk_3 (dk_at dksX2_round_1 8 rfl rfl)
theorem dX2_round_33 : decode cX2_round 33 = .ok (.bipush 99, 2) := dk_16 99 (dk_at dksX2_round_1 9 rfl rfl)
theorem dX2_round_35 : decode cX2_round 35 = .ok (.invokestatic 59, 3) := dk_184 0 59 (dk_at dksX2_round_1 11 rfl rfl)
theorem dX2_round_38 : decode cX2_round 38 = .ok (.ifCond .ne 6, 3) := dk_154 0 6 (dk_at dksX2_round_1 14 rfl rfl)
theorem dX2_round_41 : decode cX2_round 41 = .ok (.bipush (-2), 2) := dk_16 254 (dk_at dksX2_round_1 17 rfl rfl)
theorem dX2_round_43 : decode cX2_round 43 = .ok (.ireturn, 1) := dk_172 (dk_at dksX2_round_1 19 rfl rfl)
theorem dX2_round_44 : decode cX2_round 44 = .ok (.iconst 0, 1) := dk_3 (dk_at dksX2_round_1 20 rfl rfl)
theorem dX2_round_45 : decode cX2_round 45 = .ok (.istore 5, 2) := dk_54 5 (dk_at dksX2_round_1 21 rfl rfl)
theorem dX2_round_47 : decode cX2_round 47 = .ok (.iload 5, 2) := dk_21 5 (dk_at dksX2_round_2 0 rfl rfl)
theorem dX2_round_49 : decode cX2_round 49 = .ok (.iload_n 1, 1) := dk_27 (dk_at dksX2_round_2 2 rfl rfl)
theorem dX2_round_50 : decode cX2_round 50 = .ok (.iload_n 3, 1) := dk_29 (dk_at dksX2_round_2 3 rfl rfl)
theorem dX2_round_51 : decode cX2_round 51 = .ok (.imul, 1) := dk_104 (dk_at dksX2_round_2 4 rfl rfl)
theorem dX2_round_52 : decode cX2_round 52 = .ok (.if_icmp .ge 31, 3) := dk_162 0 31 (dk_at dksX2_round_2 5 rfl rfl)
theorem dX2_round_55 : decode cX2_round 55 = .ok (.iload 5, 2) := dk_21 5 (dk_at dksX2_round_2 8 rfl rfl)
theorem dX2_round_57 : decode cX2_round 57 = .ok (.iload_n 2, 1) := dk_28 (dk_at dksX2_round_2 10 rfl rfl)
theorem dX2_round_58 : decode cX2_round 58 = .ok (.iadd, 1) := dk_96 (dk_at dksX2_round_2 11 rfl rfl)
theorem dX2_round_59 : decode cX2_round 59 = .ok (.iload_n 1, 1) := dk_27 (dk_at dksX2_round_2 12 rfl rfl)
theorem dX2_round_60 : decode cX2_round 60 = .ok (.irem, 1) := dk_112 (dk_at dksX2_round_2 13 rfl rfl)
theorem dX2_round_61 : decode cX2_round 61 = .ok (.ifCond .ne 16, 3) := dk_154 0 16 (dk_at dksX2_round_2 14 rfl rfl)
theorem dX2_round_64 : decode cX2_round 64 = .ok (.iload 5, 2) := dk_21 5 (dk_at dksX2_round_2 17 rfl rfl)
theorem dX2_round_66 : decode cX2_round 66 = .ok (.iload 4, 2) := dk_21 4 (dk_at dksX2_round_2 19 rfl rfl)
theorem dX2_round_68 : decode cX2_round 68 = .ok (.iadd, 1) := dk_96 (dk_at dksX2_round_2 21 rfl rfl)
theorem dX2_round_69 : decode cX2_round 69 = .ok (.iload_n 3, 1) := dk_29 (dk_at dksX2_round_2 22 rfl rfl)
theorem dX2_round_70 : decode cX2_round 70 = .ok (.irem, 1) := dk_112 (dk_at dksX2_round_2 23 rfl rfl)
theorem dX2_round_71 : decode cX2_round 71 = .ok (.ifCond .ne 6, 3) := dk_154 0 6 (dk_at dksX2_round_3 0 rfl rfl)
theorem dX2_round_74 : decode cX2_round 74 = .ok (.iload 5, 2) := dk_21 5 (dk_at dksX2_round_3 3 rfl rfl)
theorem dX2_round_76 : decode cX2_round 76 = .ok (.ireturn, 1) := dk_172 (dk_at dksX2_round_3 5 rfl rfl)
theorem dX2_round_77 : decode cX2_round 77 = .ok (.iinc 5 1, 3) := dk_132 5 1 (dk_at dksX2_round_3 6 rfl rfl)
theorem dX2_round_80 : decode cX2_round 80 = .ok (.goto (-33), 3) := dk_167 255 223 (dk_at dksX2_round_3 9 rfl rfl)
theorem dX2_round_83 : decode cX2_round 83 = .ok (.bipush (-6), 2) := dk_16 250 (dk_at dksX2_round_3 12 rfl rfl)
theorem dX2_round_85 : decode cX2_round 85 = .ok (.ireturn, 1) := dk_172 (dk_at dksX2_round_3 14 rfl rfl)
abbrev cX2_heard : ByteArray := prog_4_method_47_code
def yX2_heard : MethodName := ⟨RX2, "heard", "(II)I"⟩
def dkwX2_heard_3 : List UInt8 := [180, 0, 160, 172]
abbrev dktX2_heard_3 : List UInt8 := dkwX2_heard_3 ++ []
def dkwX2_heard_2 : List UInt8 := [180, 0, 31, 5, 42, 180, 0, 160, 104, 4, 96, 28, 79, 42, 89, 180, 0, 160, 4, 96, 181, 0, 160, 42]
abbrev dktX2_heard_2 : List UInt8 := dkwX2_heard_2 ++ dktX2_heard_3
def dkwX2_heard_1 : List UInt8 := [180, 0, 160, 16, 8, 160, 0, 6, 16, 252, 172, 42, 180, 0, 31, 5, 42, 180, 0, 160, 104, 27, 79, 42]
abbrev dktX2_heard_1 : List UInt8 := dkwX2_heard_1 ++ dktX2_heard_2
def dkwX2_heard_0 : List UInt8 := [27, 184, 0, 71, 154, 0, 5, 2, 172, 28, 2, 16, 23, 184, 0, 59, 154, 0, 6, 16, 254, 172, 42]
abbrev dktX2_heard_0 : List UInt8 := dkwX2_heard_0 ++ dktX2_heard_1
theorem dksX2_heard_0 : cX2_heard.data.toList.drop 0 = dktX2_heard_0 := by decide +kernel
theorem dksX2_heard_1 : cX2_heard.data.toList.drop 23 = dktX2_heard_1 := dk_seg dksX2_heard_0 23 rfl rfl
theorem dksX2_heard_2 : cX2_heard.data.toList.drop 47 = dktX2_heard_2 := dk_seg dksX2_heard_1 24 rfl rfl
theorem dksX2_heard_3 : cX2_heard.data.toList.drop 71 = dktX2_heard_3 := dk_seg dksX2_heard_2 24 rfl rfl
theorem dX2_heard_0 : decode cX2_heard 0 = .ok (.iload_n 1, 1) := dk_27 (dk_at dksX2_heard_0 0 rfl rfl)
theorem dX2_heard_1 : decode cX2_heard 1 = .ok (.invokestatic 71, 3) := dk_184 0 71 (dk_at dksX2_heard_0 1 rfl rfl)
theorem dX2_heard_4 : decode cX2_heard 4 = .ok (.ifCond .ne 5, 3) := dk_154 0 5 (dk_at dksX2_heard_0 4 rfl rfl)
theorem dX2_heard_7 : decode cX2_heard 7 = .ok (.iconst (-1), 1) := dk_2 (dk_at dksX2_heard_0 7 rfl rfl)
theorem dX2_heard_8 : decode cX2_heard 8 = .ok (.ireturn, 1) := dk_172 (dk_at dksX2_heard_0 8 rfl rfl)
theorem dX2_heard_9 : decode cX2_heard 9 = .ok (.iload_n 2, 1) := dk_28 (dk_at dksX2_heard_0 9 rfl rfl)
theorem dX2_heard_10 : decode cX2_heard 10 = .ok (.iconst (-1), 1) := dk_2 (dk_at dksX2_heard_0 10 rfl rfl)
theorem dX2_heard_11 : decode cX2_heard 11 = .ok (.bipush 23, 2) := dk_16 23 (dk_at dksX2_heard_0 11 rfl rfl)
theorem dX2_heard_13 : decode cX2_heard 13 = .ok (.invokestatic 59, 3) := dk_184 0 59 (dk_at dksX2_heard_0 13 rfl rfl)
theorem dX2_heard_16 : decode cX2_heard 16 = .ok (.ifCond .ne 6, 3) := dk_154 0 6 (dk_at dksX2_heard_0 16 rfl rfl)
theorem dX2_heard_19 : decode cX2_heard 19 = .ok (.bipush (-2), 2) := dk_16 254 (dk_at dksX2_heard_0 19 rfl rfl)
theorem dX2_heard_21 : decode cX2_heard 21 = .ok (.ireturn, 1) := dk_172 (dk_at dksX2_heard_0 21 rfl rfl)
theorem dX2_heard_22 : decode cX2_heard 22 = .ok (.aload_n 0, 1) := dk_42 (dk_at dksX2_heard_0 22 rfl rfl)
theorem dX2_heard_23 : decode cX2_heard 23 = .ok (.getfield 160, 3) := dk_180 0 160 (dk_at dksX2_heard_1 0 rfl rfl)
theorem dX2_heard_26 : decode cX2_heard 26 = .ok (.bipush 8, 2) := dk_16 8 (dk_at dksX2_heard_1 3 rfl rfl)
theorem dX2_heard_28 : decode cX2_heard 28 = .ok (.if_icmp .ne 6, 3) := dk_160 0 6 (dk_at dksX2_heard_1 5 rfl rfl)
theorem dX2_heard_31 : decode cX2_heard 31 = .ok (.bipush (-4), 2) := dk_16 252 (dk_at dksX2_heard_1 8 rfl rfl)
theorem dX2_heard_33 : decode cX2_heard 33 = .ok (.ireturn, 1) := dk_172 (dk_at dksX2_heard_1 10 rfl rfl)
theorem dX2_heard_34 : decode cX2_heard 34 = .ok (.aload_n 0, 1) := dk_42 (dk_at dksX2_heard_1 11 rfl rfl)
theorem dX2_heard_35 : decode cX2_heard 35 = .ok (.getfield 31, 3) := dk_180 0 31 (dk_at dksX2_heard_1 12 rfl rfl)
theorem dX2_heard_38 : decode cX2_heard 38 = .ok (.iconst 2, 1) := dk_5 (dk_at dksX2_heard_1 15 rfl rfl)
theorem dX2_heard_39 : decode cX2_heard 39 = .ok (.aload_n 0, 1) := dk_42 (dk_at dksX2_heard_1 16 rfl rfl)
theorem dX2_heard_40 : decode cX2_heard 40 = .ok (.getfield 160, 3) := dk_180 0 160 (dk_at dksX2_heard_1 17 rfl rfl)
theorem dX2_heard_43 : decode cX2_heard 43 = .ok (.imul, 1) := dk_104 (dk_at dksX2_heard_1 20 rfl rfl)
theorem dX2_heard_44 : decode cX2_heard 44 = .ok (.iload_n 1, 1) := dk_27 (dk_at dksX2_heard_1 21 rfl rfl)
theorem dX2_heard_45 : decode cX2_heard 45 = .ok (.iastore, 1) := dk_79 (dk_at dksX2_heard_1 22 rfl rfl)
theorem dX2_heard_46 : decode cX2_heard 46 = .ok (.aload_n 0, 1) := dk_42 (dk_at dksX2_heard_1 23 rfl rfl)
theorem dX2_heard_47 : decode cX2_heard 47 = .ok (.getfield 31, 3) := dk_180 0 31 (dk_at dksX2_heard_2 0 rfl rfl)
theorem dX2_heard_50 : decode cX2_heard 50 = .ok (.iconst 2, 1) := dk_5 (dk_at dksX2_heard_2 3 rfl rfl)
theorem dX2_heard_51 : decode cX2_heard 51 = .ok (.aload_n 0, 1) := dk_42 (dk_at dksX2_heard_2 4 rfl rfl)
theorem dX2_heard_52 : decode cX2_heard 52 = .ok (.getfield 160, 3) := dk_180 0 160 (dk_at dksX2_heard_2 5 rfl rfl)
theorem dX2_heard_55 : decode cX2_heard 55 = .ok (.imul, 1) := dk_104 (dk_at dksX2_heard_2 8 rfl rfl)
theorem dX2_heard_56 : decode cX2_heard 56 = .ok (.iconst 1, 1) := dk_4 (dk_at dksX2_heard_2 9 rfl rfl)
theorem dX2_heard_57 : decode cX2_heard 57 = .ok (.iadd, 1) := dk_96 (dk_at dksX2_heard_2 10 rfl rfl)
theorem dX2_heard_58 : decode cX2_heard 58 = .ok (.iload_n 2, 1) := dk_28 (dk_at dksX2_heard_2 11 rfl rfl)
theorem dX2_heard_59 : decode cX2_heard 59 = .ok (.iastore, 1) := dk_79 (dk_at dksX2_heard_2 12 rfl rfl)
theorem dX2_heard_60 : decode cX2_heard 60 = .ok (.aload_n 0, 1) := dk_42 (dk_at dksX2_heard_2 13 rfl rfl)
theorem dX2_heard_61 : decode cX2_heard 61 = .ok (.dup, 1) := dk_89 (dk_at dksX2_heard_2 14 rfl rfl)
theorem dX2_heard_62 : decode cX2_heard 62 = .ok (.getfield 160, 3) := dk_180 0 160 (dk_at dksX2_heard_2 15 rfl rfl)
theorem dX2_heard_65 : decode cX2_heard 65 = .ok (.iconst 1, 1) := dk_4 (dk_at dksX2_heard_2 18 rfl rfl)
theorem dX2_heard_66 : decode cX2_heard 66 = .ok (.iadd, 1) := dk_96 (dk_at dksX2_heard_2 19 rfl rfl)
theorem dX2_heard_67 : decode cX2_heard 67 = .ok (.putfield 160, 3) := dk_181 0 160 (dk_at dksX2_heard_2 20 rfl rfl)
theorem dX2_heard_70 : decode cX2_heard 70 = .ok (.aload_n 0, 1) := dk_42 (dk_at dksX2_heard_2 23 rfl rfl)
theorem dX2_heard_71 : decode cX2_heard 71 = .ok (.getfield 160, 3) := dk_180 0 160 (dk_at dksX2_heard_3 0 rfl rfl)
theorem dX2_heard_74 : decode cX2_heard 74 = .ok (.ireturn, 1) := dk_172 (dk_at dksX2_heard_3 3 rfl rfl)
abbrev cX2_forget : ByteArray := prog_4_method_48_code
def yX2_forget : MethodName := ⟨RX2, "forget", "()I"⟩
def dkwX2_forget_0 : List UInt8 := [42, 180, 0, 160, 60, 42, 3, 181, 0, 160, 27, 172]
abbrev dktX2_forget_0 : List UInt8 := dkwX2_forget_0 ++ []
theorem dksX2_forget_0 : cX2_forget.data.toList.drop 0 = dktX2_forget_0 := by decide +kernel
theorem dX2_forget_0 : decode cX2_forget 0 = .ok (.aload_n 0, 1) := dk_42 (dk_at dksX2_forget_0 0 rfl rfl)
theorem dX2_forget_1 : decode cX2_forget 1 = .ok (.getfield 160, 3) := dk_180 0 160 (dk_at dksX2_forget_0 1 rfl rfl)
theorem dX2_forget_4 : decode cX2_forget 4 = .ok (.istore_n 1, 1) := dk_60 (dk_at dksX2_forget_0 4 rfl rfl)
theorem dX2_forget_5 : decode cX2_forget 5 = .ok (.aload_n 0, 1) := dk_42 (dk_at dksX2_forget_0 5 rfl rfl)
theorem dX2_forget_6 : decode cX2_forget 6 = .ok (.iconst 0, 1) := dk_3 (dk_at dksX2_forget_0 6 rfl rfl)
theorem dX2_forget_7 : decode cX2_forget 7 = .ok (.putfield 160, 3) := dk_181 0 160 (dk_at dksX2_forget_0 7 rfl rfl)
theorem dX2_forget_10 : decode cX2_forget 10 = .ok (.iload_n 1, 1) := dk_27 (dk_at dksX2_forget_0 10 rfl rfl)
theorem dX2_forget_11 : decode cX2_forget 11 = .ok (.ireturn, 1) := dk_172 (dk_at dksX2_forget_0 11 rfl rfl)
abbrev cX2_losts : ByteArray := prog_4_method_51_code
def yX2_losts : MethodName := ⟨RX2, "losts", "(I)I"⟩
def dkwX2_losts_2 : List UInt8 := [16, 250, 172]
abbrev dktX2_losts_2 : List UInt8 := dkwX2_losts_2 ++ []
def dkwX2_losts_1 : List UInt8 := [27, 160, 0, 5, 29, 172, 132, 2, 1, 132, 3, 1, 167, 255, 228, 27, 2, 160, 0, 7, 28, 167, 0, 5]
abbrev dktX2_losts_1 : List UInt8 := dkwX2_losts_1 ++ dktX2_losts_2
def dkwX2_losts_0 : List UInt8 := [42, 182, 0, 166, 3, 61, 3, 62, 29, 17, 3, 232, 162, 0, 27, 42, 29, 182, 0, 169, 153, 0, 13, 28]
abbrev dktX2_losts_0 : List UInt8 := dkwX2_losts_0 ++ dktX2_losts_1
theorem dksX2_losts_0 : cX2_losts.data.toList.drop 0 = dktX2_losts_0 := by decide +kernel
theorem dksX2_losts_1 : cX2_losts.data.toList.drop 24 = dktX2_losts_1 := dk_seg dksX2_losts_0 24 rfl rfl
theorem dksX2_losts_2 : cX2_losts.data.toList.drop 48 = dktX2_losts_2 := dk_seg dksX2_losts_1 24 rfl rfl
theorem dX2_losts_0 : decode cX2_losts 0 = .ok (.aload_n 0, 1) := dk_42 (dk_at dksX2_losts_0 0 rfl rfl)
theorem dX2_losts_1 : decode cX2_losts 1 = .ok (.invokevirtual 166, 3) := dk_182 0 166 (dk_at dksX2_losts_0 1 rfl rfl)
theorem dX2_losts_4 : decode cX2_losts 4 = .ok (.iconst 0, 1) := dk_3 (dk_at dksX2_losts_0 4 rfl rfl)
theorem dX2_losts_5 : decode cX2_losts 5 = .ok (.istore_n 2, 1) := dk_61 (dk_at dksX2_losts_0 5 rfl rfl)
theorem dX2_losts_6 : decode cX2_losts 6 = .ok (.iconst 0, 1) := dk_3 (dk_at dksX2_losts_0 6 rfl rfl)
theorem dX2_losts_7 : decode cX2_losts 7 = .ok (.istore_n 3, 1) := dk_62 (dk_at dksX2_losts_0 7 rfl rfl)
theorem dX2_losts_8 : decode cX2_losts 8 = .ok (.iload_n 3, 1) := dk_29 (dk_at dksX2_losts_0 8 rfl rfl)
theorem dX2_losts_9 : decode cX2_losts 9 = .ok (.sipush 1000, 3) := dk_17 3 232 (dk_at dksX2_losts_0 9 rfl rfl)
theorem dX2_losts_12 : decode cX2_losts 12 = .ok (.if_icmp .ge 27, 3) := dk_162 0 27 (dk_at dksX2_losts_0 12 rfl rfl)
theorem dX2_losts_15 : decode cX2_losts 15 = .ok (.aload_n 0, 1) := dk_42 (dk_at dksX2_losts_0 15 rfl rfl)
theorem dX2_losts_16 : decode cX2_losts 16 = .ok (.iload_n 3, 1) := dk_29 (dk_at dksX2_losts_0 16 rfl rfl)
theorem dX2_losts_17 : decode cX2_losts 17 = .ok (.invokevirtual 169, 3) := dk_182 0 169 (dk_at dksX2_losts_0 17 rfl rfl)
theorem dX2_losts_20 : decode cX2_losts 20 = .ok (.ifCond .eq 13, 3) := dk_153 0 13 (dk_at dksX2_losts_0 20 rfl rfl)
theorem dX2_losts_23 : decode cX2_losts 23 = .ok (.iload_n 2, 1) := dk_28 (dk_at dksX2_losts_0 23 rfl rfl)
theorem dX2_losts_24 : decode cX2_losts 24 = .ok (.iload_n 1, 1) := dk_27 (dk_at dksX2_losts_1 0 rfl rfl)
theorem dX2_losts_25 : decode cX2_losts 25 = .ok (.if_icmp .ne 5, 3) := dk_160 0 5 (dk_at dksX2_losts_1 1 rfl rfl)
theorem dX2_losts_28 : decode cX2_losts 28 = .ok (.iload_n 3, 1) := dk_29 (dk_at dksX2_losts_1 4 rfl rfl)
theorem dX2_losts_29 : decode cX2_losts 29 = .ok (.ireturn, 1) := dk_172 (dk_at dksX2_losts_1 5 rfl rfl)
theorem dX2_losts_30 : decode cX2_losts 30 = .ok (.iinc 2 1, 3) := dk_132 2 1 (dk_at dksX2_losts_1 6 rfl rfl)
theorem dX2_losts_33 : decode cX2_losts 33 = .ok (.iinc 3 1, 3) := dk_132 3 1 (dk_at dksX2_losts_1 9 rfl rfl)
theorem dX2_losts_36 : decode cX2_losts 36 = .ok (.goto (-28), 3) := dk_167 255 228 (dk_at dksX2_losts_1 12 rfl rfl)
theorem dX2_losts_39 : decode cX2_losts 39 = .ok (.iload_n 1, 1) := dk_27 (dk_at dksX2_losts_1 15 rfl rfl)
theorem dX2_losts_40 : decode cX2_losts 40 = .ok (.iconst (-1), 1) := dk_2 (dk_at dksX2_losts_1 16 rfl rfl)
theorem dX2_losts_41 : decode cX2_losts 41 = .ok (.if_icmp .ne 7, 3) := dk_160 0 7 (dk_at dksX2_losts_1 17 rfl rfl)
theorem dX2_losts_44 : decode cX2_losts 44 = .ok (.iload_n 2, 1) := dk_28 (dk_at dksX2_losts_1 20 rfl rfl)
theorem dX2_losts_45 : decode cX2_losts 45 = .ok (.goto 5, 3) := dk_167 0 5 (dk_at dksX2_losts_1 21 rfl rfl)
theorem dX2_losts_48 : decode cX2_losts 48 = .ok (.bipush (-6), 2) := dk_16 250 (dk_at dksX2_losts_2 0 rfl rfl)
theorem dX2_losts_50 : decode cX2_losts 50 = .ok (.ireturn, 1) := dk_172 (dk_at dksX2_losts_2 2 rfl rfl)
abbrev cX2_layApart : ByteArray := prog_4_method_46_code
def yX2_layApart : MethodName := ⟨RX2, "layApart", "()V"⟩
def dkwX2_layApart_2 : List UInt8 := [180, 0, 40, 28, 46, 79, 132, 2, 1, 167, 255, 230, 132, 1, 1, 167, 255, 198, 177]
abbrev dktX2_layApart_2 : List UInt8 := dkwX2_layApart_2 ++ []
def dkwX2_layApart_1 : List UInt8 := [182, 0, 145, 3, 61, 28, 16, 10, 162, 0, 26, 42, 180, 0, 47, 16, 10, 27, 104, 28, 96, 42]
abbrev dktX2_layApart_1 : List UInt8 := dkwX2_layApart_1 ++ dktX2_layApart_2
def dkwX2_layApart_0 : List UInt8 := [3, 60, 27, 16, 10, 162, 0, 58, 42, 27, 17, 3, 255, 42, 180, 0, 7, 16, 34, 46, 2, 130, 126]
abbrev dktX2_layApart_0 : List UInt8 := dkwX2_layApart_0 ++ dktX2_layApart_1
theorem dksX2_layApart_0 : cX2_layApart.data.toList.drop 0 = dktX2_layApart_0 := by decide +kernel
theorem dksX2_layApart_1 : cX2_layApart.data.toList.drop 23 = dktX2_layApart_1 := dk_seg dksX2_layApart_0 23 rfl rfl
theorem dksX2_layApart_2 : cX2_layApart.data.toList.drop 45 = dktX2_layApart_2 := dk_seg dksX2_layApart_1 22 rfl rfl
theorem dX2_layApart_0 : decode cX2_layApart 0 = .ok (.iconst 0, 1) := dk_3 (dk_at dksX2_layApart_0 0 rfl rfl)
theorem dX2_layApart_1 : decode cX2_layApart 1 = .ok (.istore_n 1, 1) := dk_60 (dk_at dksX2_layApart_0 1 rfl rfl)
theorem dX2_layApart_2 : decode cX2_layApart 2 = .ok (.iload_n 1, 1) := dk_27 (dk_at dksX2_layApart_0 2 rfl rfl)
theorem dX2_layApart_3 : decode cX2_layApart 3 = .ok (.bipush 10, 2) := dk_16 10 (dk_at dksX2_layApart_0 3 rfl rfl)
theorem dX2_layApart_5 : decode cX2_layApart 5 = .ok (.if_icmp .ge 58, 3) := dk_162 0 58 (dk_at dksX2_layApart_0 5 rfl rfl)
theorem dX2_layApart_8 : decode cX2_layApart 8 = .ok (.aload_n 0, 1) := dk_42 (dk_at dksX2_layApart_0 8 rfl rfl)
theorem dX2_layApart_9 : decode cX2_layApart 9 = .ok (.iload_n 1, 1) := dk_27 (dk_at dksX2_layApart_0 9 rfl rfl)
theorem dX2_layApart_10 : decode cX2_layApart 10 = .ok (.sipush 1023, 3) := dk_17 3 255 (dk_at dksX2_layApart_0 10 rfl rfl)
theorem dX2_layApart_13 : decode cX2_layApart 13 = .ok (.aload_n 0, 1) := dk_42 (dk_at dksX2_layApart_0 13 rfl rfl)
theorem dX2_layApart_14 : decode cX2_layApart 14 = .ok (.getfield 7, 3) := dk_180 0 7 (dk_at dksX2_layApart_0 14 rfl rfl)
theorem dX2_layApart_17 : decode cX2_layApart 17 = .ok (.bipush 34, 2) := dk_16 34 (dk_at dksX2_layApart_0 17 rfl rfl)
theorem dX2_layApart_19 : decode cX2_layApart 19 = .ok (.iaload, 1) := dk_46 (dk_at dksX2_layApart_0 19 rfl rfl)
theorem dX2_layApart_20 : decode cX2_layApart 20 = .ok (.iconst (-1), 1) := dk_2 (dk_at dksX2_layApart_0 20 rfl rfl)
theorem dX2_layApart_21 : decode cX2_layApart 21 = .ok (.ixor, 1) := dk_130 (dk_at dksX2_layApart_0 21 rfl rfl)
theorem dX2_layApart_22 : decode cX2_layApart 22 = .ok (.iand, 1) := dk_126 (dk_at dksX2_layApart_0 22 rfl rfl)
theorem dX2_layApart_23 : decode cX2_layApart 23 = .ok (.invokevirtual 145, 3) := dk_182 0 145 (dk_at dksX2_layApart_1 0 rfl rfl)
theorem dX2_layApart_26 : decode cX2_layApart 26 = .ok (.iconst 0, 1) := dk_3 (dk_at dksX2_layApart_1 3 rfl rfl)
theorem dX2_layApart_27 : decode cX2_layApart 27 = .ok (.istore_n 2, 1) := dk_61 (dk_at dksX2_layApart_1 4 rfl rfl)
theorem dX2_layApart_28 : decode cX2_layApart 28 = .ok (.iload_n 2, 1) := dk_28 (dk_at dksX2_layApart_1 5 rfl rfl)
theorem dX2_layApart_29 : decode cX2_layApart 29 = .ok (.bipush 10, 2) := dk_16 10 (dk_at dksX2_layApart_1 6 rfl rfl)
theorem dX2_layApart_31 : decode cX2_layApart 31 = .ok (.if_icmp .ge 26, 3) := dk_162 0 26 (dk_at dksX2_layApart_1 8 rfl rfl)
theorem dX2_layApart_34 : decode cX2_layApart 34 = .ok (.aload_n 0, 1) := dk_42 (dk_at dksX2_layApart_1 11 rfl rfl)
theorem dX2_layApart_35 : decode cX2_layApart 35 = .ok (.getfield 47, 3) := dk_180 0 47 (dk_at dksX2_layApart_1 12 rfl rfl)
theorem dX2_layApart_38 : decode cX2_layApart 38 = .ok (.bipush 10, 2) := dk_16 10 (dk_at dksX2_layApart_1 15 rfl rfl)
theorem dX2_layApart_40 : decode cX2_layApart 40 = .ok (.iload_n 1, 1) := dk_27 (dk_at dksX2_layApart_1 17 rfl rfl)
theorem dX2_layApart_41 : decode cX2_layApart 41 = .ok (.imul, 1) := dk_104 (dk_at dksX2_layApart_1 18 rfl rfl)
theorem dX2_layApart_42 : decode cX2_layApart 42 = .ok (.iload_n 2, 1) := dk_28 (dk_at dksX2_layApart_1 19 rfl rfl)
theorem dX2_layApart_43 : decode cX2_layApart 43 = .ok (.iadd, 1) := dk_96 (dk_at dksX2_layApart_1 20 rfl rfl)
theorem dX2_layApart_44 : decode cX2_layApart 44 = .ok (.aload_n 0, 1) := dk_42 (dk_at dksX2_layApart_1 21 rfl rfl)
theorem dX2_layApart_45 : decode cX2_layApart 45 = .ok (.getfield 40, 3) := dk_180 0 40 (dk_at dksX2_layApart_2 0 rfl rfl)
theorem dX2_layApart_48 : decode cX2_layApart 48 = .ok (.iload_n 2, 1) := dk_28 (dk_at dksX2_layApart_2 3 rfl rfl)
theorem dX2_layApart_49 : decode cX2_layApart 49 = .ok (.iaload, 1) := dk_46 (dk_at dksX2_layApart_2 4 rfl rfl)
theorem dX2_layApart_50 : decode cX2_layApart 50 = .ok (.iastore, 1) := dk_79 (dk_at dksX2_layApart_2 5 rfl rfl)
theorem dX2_layApart_51 : decode cX2_layApart 51 = .ok (.iinc 2 1, 3) := dk_132 2 1 (dk_at dksX2_layApart_2 6 rfl rfl)
theorem dX2_layApart_54 : decode cX2_layApart 54 = .ok (.goto (-26), 3) := dk_167 255 230 (dk_at dksX2_layApart_2 9 rfl rfl)
theorem dX2_layApart_57 : decode cX2_layApart 57 = .ok (.iinc 1 1, 3) := dk_132 1 1 (dk_at dksX2_layApart_2 12 rfl rfl)
theorem dX2_layApart_60 : decode cX2_layApart 60 = .ok (.goto (-58), 3) := dk_167 255 198 (dk_at dksX2_layApart_2 15 rfl rfl)
theorem dX2_layApart_63 : decode cX2_layApart 63 = .ok (.return_, 1) := dk_177 (dk_at dksX2_layApart_2 18 rfl rfl)
abbrev cX2_isLost : ByteArray := prog_4_method_50_code
def yX2_isLost : MethodName := ⟨RX2, "isLost", "(I)Z"⟩
def dkwX2_isLost_2 : List UInt8 := [5, 29, 104, 4, 96, 46, 160, 0, 7, 4, 167, 0, 4, 3, 61, 132, 3, 1, 167, 255, 209, 28, 172]
abbrev dktX2_isLost_2 : List UInt8 := dkwX2_isLost_2 ++ []
def dkwX2_isLost_1 : List UInt8 := [162, 0, 45, 28, 153, 0, 41, 42, 27, 42, 180, 0, 31, 5, 29, 104, 46, 182, 0, 163, 42, 180, 0, 31]
abbrev dktX2_isLost_1 : List UInt8 := dkwX2_isLost_1 ++ dktX2_isLost_2
def dkwX2_isLost_0 : List UInt8 := [27, 16, 100, 112, 16, 24, 162, 0, 7, 4, 167, 0, 4, 3, 61, 3, 62, 29, 42, 180, 0, 160]
abbrev dktX2_isLost_0 : List UInt8 := dkwX2_isLost_0 ++ dktX2_isLost_1
theorem dksX2_isLost_0 : cX2_isLost.data.toList.drop 0 = dktX2_isLost_0 := by decide +kernel
theorem dksX2_isLost_1 : cX2_isLost.data.toList.drop 22 = dktX2_isLost_1 := dk_seg dksX2_isLost_0 22 rfl rfl
theorem dksX2_isLost_2 : cX2_isLost.data.toList.drop 46 = dktX2_isLost_2 := dk_seg dksX2_isLost_1 24 rfl rfl
theorem dX2_isLost_0 : decode cX2_isLost 0 = .ok (.iload_n 1, 1) := dk_27 (dk_at dksX2_isLost_0 0 rfl rfl)
theorem dX2_isLost_1 : decode cX2_isLost 1 = .ok (.bipush 100, 2) := dk_16 100 (dk_at dksX2_isLost_0 1 rfl rfl)
theorem dX2_isLost_3 : decode cX2_isLost 3 = .ok (.irem, 1) := dk_112 (dk_at dksX2_isLost_0 3 rfl rfl)
theorem dX2_isLost_4 : decode cX2_isLost 4 = .ok (.bipush 24, 2) := dk_16 24 (dk_at dksX2_isLost_0 4 rfl rfl)
theorem dX2_isLost_6 : decode cX2_isLost 6 = .ok (.if_icmp .ge 7, 3) := dk_162 0 7 (dk_at dksX2_isLost_0 6 rfl rfl)
theorem dX2_isLost_9 : decode cX2_isLost 9 = .ok (.iconst 1, 1) := dk_4 (dk_at dksX2_isLost_0 9 rfl rfl)
theorem dX2_isLost_10 : decode cX2_isLost 10 = .ok (.goto 4, 3) := dk_167 0 4 (dk_at dksX2_isLost_0 10 rfl rfl)
theorem dX2_isLost_13 : decode cX2_isLost 13 = .ok (.iconst 0, 1) := dk_3 (dk_at dksX2_isLost_0 13 rfl rfl)
theorem dX2_isLost_14 : decode cX2_isLost 14 = .ok (.istore_n 2, 1) := dk_61 (dk_at dksX2_isLost_0 14 rfl rfl)
theorem dX2_isLost_15 : decode cX2_isLost 15 = .ok (.iconst 0, 1) := dk_3 (dk_at dksX2_isLost_0 15 rfl rfl)
theorem dX2_isLost_16 : decode cX2_isLost 16 = .ok (.istore_n 3, 1) := dk_62 (dk_at dksX2_isLost_0 16 rfl rfl)
theorem dX2_isLost_17 : decode cX2_isLost 17 = .ok (.iload_n 3, 1) := dk_29 (dk_at dksX2_isLost_0 17 rfl rfl)
theorem dX2_isLost_18 : decode cX2_isLost 18 = .ok (.aload_n 0, 1) := dk_42 (dk_at dksX2_isLost_0 18 rfl rfl)
theorem dX2_isLost_19 : decode cX2_isLost 19 = .ok (.getfield 160, 3) := dk_180 0 160 (dk_at dksX2_isLost_0 19 rfl rfl)
theorem dX2_isLost_22 : decode cX2_isLost 22 = .ok (.if_icmp .ge 45, 3) := dk_162 0 45 (dk_at dksX2_isLost_1 0 rfl rfl)
theorem dX2_isLost_25 : decode cX2_isLost 25 = .ok (.iload_n 2, 1) := dk_28 (dk_at dksX2_isLost_1 3 rfl rfl)
theorem dX2_isLost_26 : decode cX2_isLost 26 = .ok (.ifCond .eq 41, 3) := dk_153 0 41 (dk_at dksX2_isLost_1 4 rfl rfl)
theorem dX2_isLost_29 : decode cX2_isLost 29 = .ok (.aload_n 0, 1) := dk_42 (dk_at dksX2_isLost_1 7 rfl rfl)
theorem dX2_isLost_30 : decode cX2_isLost 30 = .ok (.iload_n 1, 1) := dk_27 (dk_at dksX2_isLost_1 8 rfl rfl)
theorem dX2_isLost_31 : decode cX2_isLost 31 = .ok (.aload_n 0, 1) := dk_42 (dk_at dksX2_isLost_1 9 rfl rfl)
theorem dX2_isLost_32 : decode cX2_isLost 32 = .ok (.getfield 31, 3) := dk_180 0 31 (dk_at dksX2_isLost_1 10 rfl rfl)
theorem dX2_isLost_35 : decode cX2_isLost 35 = .ok (.iconst 2, 1) := dk_5 (dk_at dksX2_isLost_1 13 rfl rfl)
theorem dX2_isLost_36 : decode cX2_isLost 36 = .ok (.iload_n 3, 1) := dk_29 (dk_at dksX2_isLost_1 14 rfl rfl)
theorem dX2_isLost_37 : decode cX2_isLost 37 = .ok (.imul, 1) := dk_104 (dk_at dksX2_isLost_1 15 rfl rfl)
theorem dX2_isLost_38 : decode cX2_isLost 38 = .ok (.iaload, 1) := dk_46 (dk_at dksX2_isLost_1 16 rfl rfl)
theorem dX2_isLost_39 : decode cX2_isLost 39 = .ok (.invokevirtual 163, 3) := dk_182 0 163 (dk_at dksX2_isLost_1 17 rfl rfl)
theorem dX2_isLost_42 : decode cX2_isLost 42 = .ok (.aload_n 0, 1) := dk_42 (dk_at dksX2_isLost_1 20 rfl rfl)
theorem dX2_isLost_43 : decode cX2_isLost 43 = .ok (.getfield 31, 3) := dk_180 0 31 (dk_at dksX2_isLost_1 21 rfl rfl)
theorem dX2_isLost_46 : decode cX2_isLost 46 = .ok (.iconst 2, 1) := dk_5 (dk_at dksX2_isLost_2 0 rfl rfl)
theorem dX2_isLost_47 : decode cX2_isLost 47 = .ok (.iload_n 3, 1) := dk_29 (dk_at dksX2_isLost_2 1 rfl rfl)
theorem dX2_isLost_48 : decode cX2_isLost 48 = .ok (.imul, 1) := dk_104 (dk_at dksX2_isLost_2 2 rfl rfl)
theorem dX2_isLost_49 : decode cX2_isLost 49 = .ok (.iconst 1, 1) := dk_4 (dk_at dksX2_isLost_2 3 rfl rfl)
theorem dX2_isLost_50 : decode cX2_isLost 50 = .ok (.iadd, 1) := dk_96 (dk_at dksX2_isLost_2 4 rfl rfl)
theorem dX2_isLost_51 : decode cX2_isLost 51 = .ok (.iaload, 1) := dk_46 (dk_at dksX2_isLost_2 5 rfl rfl)
theorem dX2_isLost_52 : decode cX2_isLost 52 = .ok (.if_icmp .ne 7, 3) := dk_160 0 7 (dk_at dksX2_isLost_2 6 rfl rfl)
theorem dX2_isLost_55 : decode cX2_isLost 55 = .ok (.iconst 1, 1) := dk_4 (dk_at dksX2_isLost_2 9 rfl rfl)
theorem dX2_isLost_56 : decode cX2_isLost 56 = .ok (.goto 4, 3) := dk_167 0 4 (dk_at dksX2_isLost_2 10 rfl rfl)
theorem dX2_isLost_59 : decode cX2_isLost 59 = .ok (.iconst 0, 1) := dk_3 (dk_at dksX2_isLost_2 13 rfl rfl)
theorem dX2_isLost_60 : decode cX2_isLost 60 = .ok (.istore_n 2, 1) := dk_61 (dk_at dksX2_isLost_2 14 rfl rfl)
theorem dX2_isLost_61 : decode cX2_isLost 61 = .ok (.iinc 3 1, 3) := dk_132 3 1 (dk_at dksX2_isLost_2 15 rfl rfl)
theorem dX2_isLost_64 : decode cX2_isLost 64 = .ok (.goto (-47), 3) := dk_167 255 209 (dk_at dksX2_isLost_2 18 rfl rfl)
theorem dX2_isLost_67 : decode cX2_isLost 67 = .ok (.iload_n 2, 1) := dk_28 (dk_at dksX2_isLost_2 21 rfl rfl)
theorem dX2_isLost_68 : decode cX2_isLost 68 = .ok (.ireturn, 1) := dk_172 (dk_at dksX2_isLost_2 22 rfl rfl)
abbrev cX2_noteIn : ByteArray := prog_4_method_49_code
def yX2_noteIn : MethodName := ⟨RX2, "noteIn", "(II)I"⟩
def dkwX2_noteIn_1 : List UInt8 := [2, 167, 0, 4, 29, 172]
abbrev dktX2_noteIn_1 : List UInt8 := dkwX2_noteIn_1 ++ []
def dkwX2_noteIn_0 : List UInt8 := [27, 16, 100, 112, 42, 180, 0, 47, 27, 16, 100, 108, 16, 10, 104, 28, 96, 46, 100, 62, 29, 156, 0, 7]
abbrev dktX2_noteIn_0 : List UInt8 := dkwX2_noteIn_0 ++ dktX2_noteIn_1
theorem dksX2_noteIn_0 : cX2_noteIn.data.toList.drop 0 = dktX2_noteIn_0 := by decide +kernel
theorem dksX2_noteIn_1 : cX2_noteIn.data.toList.drop 24 = dktX2_noteIn_1 := dk_seg dksX2_noteIn_0 24 rfl rfl
theorem dX2_noteIn_0 : decode cX2_noteIn 0 = .ok (.iload_n 1, 1) := dk_27 (dk_at dksX2_noteIn_0 0 rfl rfl)
theorem dX2_noteIn_1 : decode cX2_noteIn 1 = .ok (.bipush 100, 2) := dk_16 100 (dk_at dksX2_noteIn_0 1 rfl rfl)
theorem dX2_noteIn_3 : decode cX2_noteIn 3 = .ok (.irem, 1) := dk_112 (dk_at dksX2_noteIn_0 3 rfl rfl)
theorem dX2_noteIn_4 : decode cX2_noteIn 4 = .ok (.aload_n 0, 1) := dk_42 (dk_at dksX2_noteIn_0 4 rfl rfl)
theorem dX2_noteIn_5 : decode cX2_noteIn 5 = .ok (.getfield 47, 3) := dk_180 0 47 (dk_at dksX2_noteIn_0 5 rfl rfl)
theorem dX2_noteIn_8 : decode cX2_noteIn 8 = .ok (.iload_n 1, 1) := dk_27 (dk_at dksX2_noteIn_0 8 rfl rfl)
theorem dX2_noteIn_9 : decode cX2_noteIn 9 = .ok (.bipush 100, 2) := dk_16 100 (dk_at dksX2_noteIn_0 9 rfl rfl)
theorem dX2_noteIn_11 : decode cX2_noteIn 11 = .ok (.idiv, 1) := dk_108 (dk_at dksX2_noteIn_0 11 rfl rfl)
theorem dX2_noteIn_12 : decode cX2_noteIn 12 = .ok (.bipush 10, 2) := dk_16 10 (dk_at dksX2_noteIn_0 12 rfl rfl)
theorem dX2_noteIn_14 : decode cX2_noteIn 14 = .ok (.imul, 1) := dk_104 (dk_at dksX2_noteIn_0 14 rfl rfl)
theorem dX2_noteIn_15 : decode cX2_noteIn 15 = .ok (.iload_n 2, 1) := dk_28 (dk_at dksX2_noteIn_0 15 rfl rfl)
theorem dX2_noteIn_16 : decode cX2_noteIn 16 = .ok (.iadd, 1) := dk_96 (dk_at dksX2_noteIn_0 16 rfl rfl)
theorem dX2_noteIn_17 : decode cX2_noteIn 17 = .ok (.iaload, 1) := dk_46 (dk_at dksX2_noteIn_0 17 rfl rfl)
theorem dX2_noteIn_18 : decode cX2_noteIn 18 = .ok (.isub, 1) := dk_100 (dk_at dksX2_noteIn_0 18 rfl rfl)
theorem dX2_noteIn_19 : decode cX2_noteIn 19 = .ok (.istore_n 3, 1) := dk_62 (dk_at dksX2_noteIn_0 19 rfl rfl)
theorem dX2_noteIn_20 : decode cX2_noteIn 20 = .ok (.iload_n 3, 1) := dk_29 (dk_at dksX2_noteIn_0 20 rfl rfl)
theorem dX2_noteIn_21 : decode cX2_noteIn 21 = .ok (.ifCond .ge 7, 3) := dk_156 0 7 (dk_at dksX2_noteIn_0 21 rfl rfl)
theorem dX2_noteIn_24 : decode cX2_noteIn 24 = .ok (.iconst (-1), 1) := dk_2 (dk_at dksX2_noteIn_1 0 rfl rfl)
theorem dX2_noteIn_25 : decode cX2_noteIn 25 = .ok (.goto 4, 3) := dk_167 0 4 (dk_at dksX2_noteIn_1 1 rfl rfl)
theorem dX2_noteIn_28 : decode cX2_noteIn 28 = .ok (.iload_n 3, 1) := dk_29 (dk_at dksX2_noteIn_1 4 rfl rfl)
theorem dX2_noteIn_29 : decode cX2_noteIn 29 = .ok (.ireturn, 1) := dk_172 (dk_at dksX2_noteIn_1 5 rfl rfl)
abbrev cX2_listen : ByteArray := prog_4_method_52_code
def yX2_listen : MethodName := ⟨RX2, "listen", "(I)I"⟩
def dkwX2_listen_8 : List UInt8 := [154, 0, 7, 28, 167, 0, 4, 29, 172]
abbrev dktX2_listen_8 : List UInt8 := dkwX2_listen_8 ++ []
def dkwX2_listen_7 : List UInt8 := [61, 21, 6, 153, 0, 8, 21, 5, 167, 0, 4, 29, 62, 132, 4, 1, 167, 255, 102, 28, 155, 0, 7, 27]
abbrev dktX2_listen_7 : List UInt8 := dkwX2_listen_7 ++ dktX2_listen_8
def dkwX2_listen_6 : List UInt8 := [21, 5, 29, 162, 0, 7, 4, 167, 0, 4, 3, 54, 6, 21, 6, 153, 0, 8, 21, 4, 167, 0, 4, 28]
abbrev dktX2_listen_6 : List UInt8 := dkwX2_listen_6 ++ dktX2_listen_7
def dkwX2_listen_5 : List UInt8 := [180, 0, 50, 21, 7, 46, 167, 0, 5, 21, 5, 54, 5, 132, 6, 1, 167, 255, 187, 21, 5, 158, 0, 13]
abbrev dktX2_listen_5 : List UInt8 := dkwX2_listen_5 ++ dktX2_listen_6
def dkwX2_listen_4 : List UInt8 := [180, 0, 50, 21, 7, 92, 46, 4, 96, 79, 42, 180, 0, 50, 21, 7, 46, 21, 5, 164, 0, 13, 42]
abbrev dktX2_listen_4 : List UInt8 := dkwX2_listen_4 ++ dktX2_listen_5
def dkwX2_listen_3 : List UInt8 := [42, 21, 6, 182, 0, 169, 153, 0, 52, 42, 21, 6, 21, 4, 182, 0, 163, 4, 96, 54, 7, 42]
abbrev dktX2_listen_3 : List UInt8 := dkwX2_listen_3 ++ dktX2_listen_4
def dkwX2_listen_2 : List UInt8 := [180, 0, 50, 21, 6, 3, 79, 132, 6, 1, 167, 255, 238, 3, 54, 6, 21, 6, 17, 3, 232, 162, 0, 67]
abbrev dktX2_listen_2 : List UInt8 := dkwX2_listen_2 ++ dktX2_listen_3
def dkwX2_listen_1 : List UInt8 := [54, 4, 21, 4, 16, 10, 162, 0, 153, 3, 54, 5, 3, 54, 6, 21, 6, 16, 25, 162, 0, 17, 42]
abbrev dktX2_listen_1 : List UInt8 := dkwX2_listen_1 ++ dktX2_listen_2
def dkwX2_listen_0 : List UInt8 := [27, 3, 4, 184, 0, 59, 154, 0, 6, 16, 254, 172, 42, 182, 0, 166, 16, 250, 61, 18, 144, 62, 3]
abbrev dktX2_listen_0 : List UInt8 := dkwX2_listen_0 ++ dktX2_listen_1
theorem dksX2_listen_0 : cX2_listen.data.toList.drop 0 = dktX2_listen_0 := by decide +kernel
theorem dksX2_listen_1 : cX2_listen.data.toList.drop 23 = dktX2_listen_1 := dk_seg dksX2_listen_0 23 rfl rfl
theorem dksX2_listen_2 : cX2_listen.data.toList.drop 46 = dktX2_listen_2 := dk_seg dksX2_listen_1 23 rfl rfl
theorem dksX2_listen_3 : cX2_listen.data.toList.drop 70 = dktX2_listen_3 := dk_seg dksX2_listen_2 24 rfl rfl
theorem dksX2_listen_4 : cX2_listen.data.toList.drop 92 = dktX2_listen_4 := dk_seg dksX2_listen_3 22 rfl rfl
theorem dksX2_listen_5 : cX2_listen.data.toList.drop 115 = dktX2_listen_5 := dk_seg dksX2_listen_4 23 rfl rfl
theorem dksX2_listen_6 : cX2_listen.data.toList.drop 139 = dktX2_listen_6 := dk_seg dksX2_listen_5 24 rfl rfl
theorem dksX2_listen_7 : cX2_listen.data.toList.drop 163 = dktX2_listen_7 := dk_seg dksX2_listen_6 24 rfl rfl
theorem dksX2_listen_8 : cX2_listen.data.toList.drop 187 = dktX2_listen_8 := dk_seg dksX2_listen_7 24 rfl rfl
theorem dX2_listen_0 : decode cX2_listen 0 = .ok (.iload_n 1, 1) := dk_27 (dk_at dksX2_listen_0 0 rfl rfl)
theorem dX2_listen_1 : decode cX2_listen 1 = .ok (.iconst 0, 1) := dk_3 (dk_at dksX2_listen_0 1 rfl rfl)
theorem dX2_listen_2 : decode cX2_listen 2 = .ok (.iconst 1, 1) := dk_4 (dk_at dksX2_listen_0 2 rfl rfl)
theorem dX2_listen_3 : decode cX2_listen 3 = .ok (.invokestatic 59, 3) := dk_184 0 59 (dk_at dksX2_listen_0 3 rfl rfl)
theorem dX2_listen_6 : decode cX2_listen 6 = .ok (.ifCond .ne 6, 3) := dk_154 0 6 (dk_at dksX2_listen_0 6 rfl rfl)
theorem dX2_listen_9 : decode cX2_listen 9 = .ok (.bipush (-2), 2) := dk_16 254 (dk_at dksX2_listen_0 9 rfl rfl)
theorem dX2_listen_11 : decode cX2_listen 11 = .ok (.ireturn, 1) := dk_172 (dk_at dksX2_listen_0 11 rfl rfl)
theorem dX2_listen_12 : decode cX2_listen 12 = .ok (.aload_n 0, 1) := dk_42 (dk_at dksX2_listen_0 12 rfl rfl)
theorem dX2_listen_13 : decode cX2_listen 13 = .ok (.invokevirtual 166, 3) := dk_182 0 166 (dk_at dksX2_listen_0 13 rfl rfl)
theorem dX2_listen_16 : decode cX2_listen 16 = .ok (.bipush (-6), 2) := dk_16 250 (dk_at dksX2_listen_0 16 rfl rfl)
theorem dX2_listen_18 : decode cX2_listen 18 = .ok (.istore_n 2, 1) := dk_61 (dk_at dksX2_listen_0 18 rfl rfl)
theorem dX2_listen_19 : decode cX2_listen 19 = .ok (.ldc 144, 2) := dk_18 144 (dk_at dksX2_listen_0 19 rfl rfl)
theorem dX2_listen_21 : decode cX2_listen 21 = .ok (.istore_n 3, 1) := dk_62 (dk_at dksX2_listen_0 21 rfl rfl)
theorem dX2_listen_22 : decode cX2_listen 22 = .ok (.iconst 0, 1) := dk_3 (dk_at dksX2_listen_0 22 rfl rfl)
theorem dX2_listen_23 : decode cX2_listen 23 = .ok (.istore 4, 2) := dk_54 4 (dk_at dksX2_listen_1 0 rfl rfl)
theorem dX2_listen_25 : decode cX2_listen 25 = .ok (.iload 4, 2) := dk_21 4 (dk_at dksX2_listen_1 2 rfl rfl)
theorem dX2_listen_27 : decode cX2_listen 27 = .ok (.bipush 10, 2) := dk_16 10 (dk_at dksX2_listen_1 4 rfl rfl)
theorem dX2_listen_29 : decode cX2_listen 29 = .ok (.if_icmp .ge 153, 3) := dk_162 0 153 (dk_at dksX2_listen_1 6 rfl rfl)
theorem dX2_listen_32 : decode cX2_listen 32 = .ok (.iconst 0, 1) := dk_3 (dk_at dksX2_listen_1 9 rfl rfl)
theorem dX2_listen_33 : decode cX2_listen 33 = .ok (.istore 5, 2) := dk_54 5 (dk_at dksX2_listen_1 10 rfl rfl)
theorem dX2_listen_35 : decode cX2_listen 35 = .ok (.iconst 0, 1) := dk_3 (dk_at dksX2_listen_1 12 rfl rfl)
theorem dX2_listen_36 : decode cX2_listen 36 = .ok (.istore 6, 2) := dk_54 6 (dk_at dksX2_listen_1 13 rfl rfl)
theorem dX2_listen_38 : decode cX2_listen 38 = .ok (.iload 6, 2) := dk_21 6 (dk_at dksX2_listen_1 15 rfl rfl)
theorem dX2_listen_40 : decode cX2_listen 40 = .ok (.bipush 25, 2) := dk_16 25 (dk_at dksX2_listen_1 17 rfl rfl)
theorem dX2_listen_42 : decode cX2_listen 42 = .ok (.if_icmp .ge 17, 3) := dk_162 0 17 (dk_at dksX2_listen_1 19 rfl rfl)
theorem dX2_listen_45 : decode cX2_listen 45 = .ok (.aload_n 0, 1) := dk_42 (dk_at dksX2_listen_1 22 rfl rfl)
theorem dX2_listen_46 : decode cX2_listen 46 = .ok (.getfield 50, 3) := dk_180 0 50 (dk_at dksX2_listen_2 0 rfl rfl)
theorem dX2_listen_49 : decode cX2_listen 49 = .ok (.iload 6, 2) := dk_21 6 (dk_at dksX2_listen_2 3 rfl rfl)
theorem dX2_listen_51 : decode cX2_listen 51 = .ok (.iconst 0, 1) := dk_3 (dk_at dksX2_listen_2 5 rfl rfl)
theorem dX2_listen_52 : decode cX2_listen 52 = .ok (.iastore, 1) := dk_79 (dk_at dksX2_listen_2 6 rfl rfl)
theorem dX2_listen_53 : decode cX2_listen 53 = .ok (.iinc 6 1, 3) := dk_132 6 1 (dk_at dksX2_listen_2 7 rfl rfl)
theorem dX2_listen_56 : decode cX2_listen 56 = .ok (.goto (-18), 3) := dk_167 255 238 (dk_at dksX2_listen_2 10 rfl rfl)
theorem dX2_listen_59 : decode cX2_listen 59 = .ok (.iconst 0, 1) := dk_3 (dk_at dksX2_listen_2 13 rfl rfl)
theorem dX2_listen_60 : decode cX2_listen 60 = .ok (.istore 6, 2) := dk_54 6 (dk_at dksX2_listen_2 14 rfl rfl)
theorem dX2_listen_62 : decode cX2_listen 62 = .ok (.iload 6, 2) := dk_21 6 (dk_at dksX2_listen_2 16 rfl rfl)
theorem dX2_listen_64 : decode cX2_listen 64 = .ok (.sipush 1000, 3) := dk_17 3 232 (dk_at dksX2_listen_2 18 rfl rfl)
theorem dX2_listen_67 : decode cX2_listen 67 = .ok (.if_icmp .ge 67, 3) := dk_162 0 67 (dk_at dksX2_listen_2 21 rfl rfl)
theorem dX2_listen_70 : decode cX2_listen 70 = .ok (.aload_n 0, 1) := dk_42 (dk_at dksX2_listen_3 0 rfl rfl)
theorem dX2_listen_71 : decode cX2_listen 71 = .ok (.iload 6, 2) := dk_21 6 (dk_at dksX2_listen_3 1 rfl rfl)
theorem dX2_listen_73 : decode cX2_listen 73 = .ok (.invokevirtual 169, 3) := dk_182 0 169 (dk_at dksX2_listen_3 3 rfl rfl)
theorem dX2_listen_76 : decode cX2_listen 76 = .ok (.ifCond .eq 52, 3) := dk_153 0 52 (dk_at dksX2_listen_3 6 rfl rfl)
theorem dX2_listen_79 : decode cX2_listen 79 = .ok (.aload_n 0, 1) := dk_42 (dk_at dksX2_listen_3 9 rfl rfl)
theorem dX2_listen_80 : decode cX2_listen 80 = .ok (.iload 6, 2) := dk_21 6 (dk_at dksX2_listen_3 10 rfl rfl)
theorem dX2_listen_82 : decode cX2_listen 82 = .ok (.iload 4, 2) := dk_21 4 (dk_at dksX2_listen_3 12 rfl rfl)
theorem dX2_listen_84 : decode cX2_listen 84 = .ok (.invokevirtual 163, 3) := dk_182 0 163 (dk_at dksX2_listen_3 14 rfl rfl)
theorem dX2_listen_87 : decode cX2_listen 87 = .ok (.iconst 1, 1) := dk_4 (dk_at dksX2_listen_3 17 rfl rfl)
theorem dX2_listen_88 : decode cX2_listen 88 = .ok (.iadd, 1) := dk_96 (dk_at dksX2_listen_3 18 rfl rfl)
theorem dX2_listen_89 : decode cX2_listen 89 = .ok (.istore 7, 2) := dk_54 7 (dk_at dksX2_listen_3 19 rfl rfl)
theorem dX2_listen_91 : decode cX2_listen 91 = .ok (.aload_n 0, 1) := dk_42 (dk_at dksX2_listen_3 21 rfl rfl)
theorem dX2_listen_92 : decode cX2_listen 92 = .ok (.getfield 50, 3) := dk_180 0 50 (dk_at dksX2_listen_4 0 rfl rfl)
theorem dX2_listen_95 : decode cX2_listen 95 = .ok (.iload 7, 2) := dk_21 7 (dk_at dksX2_listen_4 3 rfl rfl)
theorem dX2_listen_97 : decode cX2_listen 97 = .ok (.dup2, 1) := dk_92 (dk_at dksX2_listen_4 5 rfl rfl)
theorem dX2_listen_98 : decode cX2_listen 98 = .ok (.iaload, 1) := dk_46 (dk_at dksX2_listen_4 6 rfl rfl)
theorem dX2_listen_99 : decode cX2_listen 99 = .ok (.iconst 1, 1) := dk_4 (dk_at dksX2_listen_4 7 rfl rfl)
theorem dX2_listen_100 : decode cX2_listen 100 = .ok (.iadd, 1) := dk_96 (dk_at dksX2_listen_4 8 rfl rfl)
theorem dX2_listen_101 : decode cX2_listen 101 = .ok (.iastore, 1) := dk_79 (dk_at dksX2_listen_4 9 rfl rfl)
theorem dX2_listen_102 : decode cX2_listen 102 = .ok (.aload_n 0, 1) := dk_42 (dk_at dksX2_listen_4 10 rfl rfl)
theorem dX2_listen_103 : decode cX2_listen 103 = .ok (.getfield 50, 3) := dk_180 0 50 (dk_at dksX2_listen_4 11 rfl rfl)
theorem dX2_listen_106 : decode cX2_listen 106 = .ok (.iload 7, 2) := dk_21 7 (dk_at dksX2_listen_4 14 rfl rfl)
theorem dX2_listen_108 : decode cX2_listen 108 = .ok (.iaload, 1) := dk_46 (dk_at dksX2_listen_4 16 rfl rfl)
theorem dX2_listen_109 : decode cX2_listen 109 = .ok (.iload 5, 2) := dk_21 5 (dk_at dksX2_listen_4 17 rfl rfl)
theorem dX2_listen_111 : decode cX2_listen 111 = .ok (.if_icmp .le 13, 3) := dk_164 0 13 (dk_at dksX2_listen_4 19 rfl rfl)
theorem dX2_listen_114 : decode cX2_listen 114 = .ok (.aload_n 0, 1) := dk_42 (dk_at dksX2_listen_4 22 rfl rfl)
theorem dX2_listen_115 : decode cX2_listen 115 = .ok (.getfield 50, 3) := dk_180 0 50 (dk_at dksX2_listen_5 0 rfl rfl)
theorem dX2_listen_118 : decode cX2_listen 118 = .ok (.iload 7, 2) := dk_21 7 (dk_at dksX2_listen_5 3 rfl rfl)
theorem dX2_listen_120 : decode cX2_listen 120 = .ok (.iaload, 1) := dk_46 (dk_at dksX2_listen_5 5 rfl rfl)
theorem dX2_listen_121 : decode cX2_listen 121 = .ok (.goto 5, 3) := dk_167 0 5 (dk_at dksX2_listen_5 6 rfl rfl)
theorem dX2_listen_124 : decode cX2_listen 124 = .ok (.iload 5, 2) := dk_21 5 (dk_at dksX2_listen_5 9 rfl rfl)
theorem dX2_listen_126 : decode cX2_listen 126 = .ok (.istore 5, 2) := dk_54 5 (dk_at dksX2_listen_5 11 rfl rfl)
theorem dX2_listen_128 : decode cX2_listen 128 = .ok (.iinc 6 1, 3) := dk_132 6 1 (dk_at dksX2_listen_5 13 rfl rfl)
theorem dX2_listen_131 : decode cX2_listen 131 = .ok (.goto (-69), 3) := dk_167 255 187 (dk_at dksX2_listen_5 16 rfl rfl)
theorem dX2_listen_134 : decode cX2_listen 134 = .ok (.iload 5, 2) := dk_21 5 (dk_at dksX2_listen_5 19 rfl rfl)
theorem dX2_listen_136 : decode cX2_listen 136 = .ok (.ifCond .le 13, 3) := dk_158 0 13 (dk_at dksX2_listen_5 21 rfl rfl)
theorem dX2_listen_139 : decode cX2_listen 139 = .ok (.iload 5, 2) := dk_21 5 (dk_at dksX2_listen_6 0 rfl rfl)
theorem dX2_listen_141 : decode cX2_listen 141 = .ok (.iload_n 3, 1) := dk_29 (dk_at dksX2_listen_6 2 rfl rfl)
theorem dX2_listen_142 : decode cX2_listen 142 = .ok (.if_icmp .ge 7, 3) := dk_162 0 7 (dk_at dksX2_listen_6 3 rfl rfl)
theorem dX2_listen_145 : decode cX2_listen 145 = .ok (.iconst 1, 1) := dk_4 (dk_at dksX2_listen_6 6 rfl rfl)
theorem dX2_listen_146 : decode cX2_listen 146 = .ok (.goto 4, 3) := dk_167 0 4 (dk_at dksX2_listen_6 7 rfl rfl)
theorem dX2_listen_149 : decode cX2_listen 149 = .ok (.iconst 0, 1) := dk_3 (dk_at dksX2_listen_6 10 rfl rfl)
theorem dX2_listen_150 : decode cX2_listen 150 = .ok (.istore 6, 2) := dk_54 6 (dk_at dksX2_listen_6 11 rfl rfl)
theorem dX2_listen_152 : decode cX2_listen 152 = .ok (.iload 6, 2) := dk_21 6 (dk_at dksX2_listen_6 13 rfl rfl)
theorem dX2_listen_154 : decode cX2_listen 154 = .ok (.ifCond .eq 8, 3) := dk_153 0 8 (dk_at dksX2_listen_6 15 rfl rfl)
theorem dX2_listen_157 : decode cX2_listen 157 = .ok (.iload 4, 2) := dk_21 4 (dk_at dksX2_listen_6 18 rfl rfl)
theorem dX2_listen_159 : decode cX2_listen 159 = .ok (.goto 4, 3) := dk_167 0 4 (dk_at dksX2_listen_6 20 rfl rfl)
theorem dX2_listen_162 : decode cX2_listen 162 = .ok (.iload_n 2, 1) := dk_28 (dk_at dksX2_listen_6 23 rfl rfl)
theorem dX2_listen_163 : decode cX2_listen 163 = .ok (.istore_n 2, 1) := dk_61 (dk_at dksX2_listen_7 0 rfl rfl)
theorem dX2_listen_164 : decode cX2_listen 164 = .ok (.iload 6, 2) := dk_21 6 (dk_at dksX2_listen_7 1 rfl rfl)
theorem dX2_listen_166 : decode cX2_listen 166 = .ok (.ifCond .eq 8, 3) := dk_153 0 8 (dk_at dksX2_listen_7 3 rfl rfl)
theorem dX2_listen_169 : decode cX2_listen 169 = .ok (.iload 5, 2) := dk_21 5 (dk_at dksX2_listen_7 6 rfl rfl)
theorem dX2_listen_171 : decode cX2_listen 171 = .ok (.goto 4, 3) := dk_167 0 4 (dk_at dksX2_listen_7 8 rfl rfl)
theorem dX2_listen_174 : decode cX2_listen 174 = .ok (.iload_n 3, 1) := dk_29 (dk_at dksX2_listen_7 11 rfl rfl)
theorem dX2_listen_175 : decode cX2_listen 175 = .ok (.istore_n 3, 1) := dk_62 (dk_at dksX2_listen_7 12 rfl rfl)
theorem dX2_listen_176 : decode cX2_listen 176 = .ok (.iinc 4 1, 3) := dk_132 4 1 (dk_at dksX2_listen_7 13 rfl rfl)
theorem dX2_listen_179 : decode cX2_listen 179 = .ok (.goto (-154), 3) := dk_167 255 102 (dk_at dksX2_listen_7 16 rfl rfl)
theorem dX2_listen_182 : decode cX2_listen 182 = .ok (.iload_n 2, 1) := dk_28 (dk_at dksX2_listen_7 19 rfl rfl)
theorem dX2_listen_183 : decode cX2_listen 183 = .ok (.ifCond .lt 7, 3) := dk_155 0 7 (dk_at dksX2_listen_7 20 rfl rfl)
theorem dX2_listen_186 : decode cX2_listen 186 = .ok (.iload_n 1, 1) := dk_27 (dk_at dksX2_listen_7 23 rfl rfl)
theorem dX2_listen_187 : decode cX2_listen 187 = .ok (.ifCond .ne 7, 3) := dk_154 0 7 (dk_at dksX2_listen_8 0 rfl rfl)
theorem dX2_listen_190 : decode cX2_listen 190 = .ok (.iload_n 2, 1) := dk_28 (dk_at dksX2_listen_8 3 rfl rfl)
theorem dX2_listen_191 : decode cX2_listen 191 = .ok (.goto 4, 3) := dk_167 0 4 (dk_at dksX2_listen_8 4 rfl rfl)
theorem dX2_listen_194 : decode cX2_listen 194 = .ok (.iload_n 3, 1) := dk_29 (dk_at dksX2_listen_8 7 rfl rfl)
theorem dX2_listen_195 : decode cX2_listen 195 = .ok (.ireturn, 1) := dk_172 (dk_at dksX2_listen_8 8 rfl rfl)
abbrev cX2_cold : ByteArray := prog_4_method_54_code
def yX2_cold : MethodName := ⟨RX2, "cold", "(IIIII)J"⟩
def dkwX2_cold_9 : List UInt8 := [167, 255, 234, 21, 5, 154, 0, 11, 22, 11, 22, 13, 109, 167, 0, 8, 22, 7, 22, 13, 109, 173]
abbrev dktX2_cold_9 : List UInt8 := dkwX2_cold_9 ++ []
def dkwX2_cold_8 : List UInt8 := [22, 15, 9, 148, 153, 0, 21, 22, 13, 22, 15, 113, 55, 17, 22, 15, 55, 13, 22, 17, 55, 15]
abbrev dktX2_cold_8 : List UInt8 := dkwX2_cold_8 ++ dktX2_cold_9
def dkwX2_cold_7 : List UInt8 := [184, 0, 180, 101, 55, 11, 22, 7, 21, 6, 184, 0, 180, 55, 7, 22, 11, 55, 13, 22, 7, 55, 15]
abbrev dktX2_cold_7 : List UInt8 := dkwX2_cold_7 ++ dktX2_cold_8
def dkwX2_cold_6 : List UInt8 := [22, 9, 105, 55, 11, 21, 4, 154, 0, 32, 22, 7, 21, 6, 184, 0, 180, 22, 7, 22, 9, 101, 21, 6]
abbrev dktX2_cold_6 : List UInt8 := dkwX2_cold_6 ++ dktX2_cold_7
def dkwX2_cold_5 : List UInt8 := [20, 0, 178, 29, 184, 0, 180, 55, 7, 20, 0, 178, 28, 133, 101, 29, 184, 0, 180, 55, 9, 21, 6, 133]
abbrev dktX2_cold_5 : List UInt8 := dkwX2_cold_5 ++ dktX2_cold_6
def dkwX2_cold_4 : List UInt8 := [132, 7, 1, 167, 255, 226, 21, 4, 154, 0, 16, 29, 21, 6, 104, 16, 18, 164, 0, 7, 20, 0, 176, 173]
abbrev dktX2_cold_4 : List UInt8 := dkwX2_cold_4 ++ dktX2_cold_5
def dkwX2_cold_3 : List UInt8 := [162, 0, 29, 21, 6, 42, 21, 7, 27, 182, 0, 92, 153, 0, 7, 4, 167, 0, 4, 3, 96, 54, 6]
abbrev dktX2_cold_3 : List UInt8 := dkwX2_cold_3 ++ dktX2_cold_4
def dkwX2_cold_2 : List UInt8 := [184, 0, 59, 154, 0, 7, 20, 0, 174, 173, 42, 182, 0, 110, 3, 54, 6, 3, 54, 7, 21, 7, 16, 8]
abbrev dktX2_cold_2 : List UInt8 := dkwX2_cold_2 ++ dktX2_cold_3
def dkwX2_cold_1 : List UInt8 := [16, 9, 184, 0, 59, 153, 0, 23, 21, 4, 3, 4, 184, 0, 59, 153, 0, 13, 21, 5, 3, 4]
abbrev dktX2_cold_1 : List UInt8 := dkwX2_cold_1 ++ dktX2_cold_2
def dkwX2_cold_0 : List UInt8 := [27, 184, 0, 71, 154, 0, 7, 20, 0, 172, 173, 28, 3, 16, 10, 184, 0, 59, 153, 0, 33, 29, 3]
abbrev dktX2_cold_0 : List UInt8 := dkwX2_cold_0 ++ dktX2_cold_1
theorem dksX2_cold_0 : cX2_cold.data.toList.drop 0 = dktX2_cold_0 := by decide +kernel
theorem dksX2_cold_1 : cX2_cold.data.toList.drop 23 = dktX2_cold_1 := dk_seg dksX2_cold_0 23 rfl rfl
theorem dksX2_cold_2 : cX2_cold.data.toList.drop 45 = dktX2_cold_2 := dk_seg dksX2_cold_1 22 rfl rfl
theorem dksX2_cold_3 : cX2_cold.data.toList.drop 69 = dktX2_cold_3 := dk_seg dksX2_cold_2 24 rfl rfl
theorem dksX2_cold_4 : cX2_cold.data.toList.drop 92 = dktX2_cold_4 := dk_seg dksX2_cold_3 23 rfl rfl
theorem dksX2_cold_5 : cX2_cold.data.toList.drop 116 = dktX2_cold_5 := dk_seg dksX2_cold_4 24 rfl rfl
theorem dksX2_cold_6 : cX2_cold.data.toList.drop 140 = dktX2_cold_6 := dk_seg dksX2_cold_5 24 rfl rfl
theorem dksX2_cold_7 : cX2_cold.data.toList.drop 164 = dktX2_cold_7 := dk_seg dksX2_cold_6 24 rfl rfl
theorem dksX2_cold_8 : cX2_cold.data.toList.drop 187 = dktX2_cold_8 := dk_seg dksX2_cold_7 23 rfl rfl
theorem dksX2_cold_9 : cX2_cold.data.toList.drop 209 = dktX2_cold_9 := dk_seg dksX2_cold_8 22 rfl rfl
theorem dX2_cold_0 : decode cX2_cold 0 = .ok (.iload_n 1, 1) := dk_27 (dk_at dksX2_cold_0 0 rfl rfl)
theorem dX2_cold_1 : decode cX2_cold 1 = .ok (.invokestatic 71, 3) := dk_184 0 71 (dk_at dksX2_cold_0 1 rfl rfl)
theorem dX2_cold_4 : decode cX2_cold 4 = .ok (.ifCond .ne 7, 3) := dk_154 0 7 (dk_at dksX2_cold_0 4 rfl rfl)
theorem dX2_cold_7 : decode cX2_cold 7 = .ok (.ldc2_w 172, 3) := dk_20 0 172 (dk_at dksX2_cold_0 7 rfl rfl)
theorem dX2_cold_10 : decode cX2_cold 10 = .ok (.lreturn, 1) := dk_173 (dk_at dksX2_cold_0 10 rfl rfl)
theorem dX2_cold_11 : decode cX2_cold 11 = .ok (.iload_n 2, 1) := dk_28 (dk_at dksX2_cold_0 11 rfl rfl)
theorem dX2_cold_12 : decode cX2_cold 12 = .ok (.iconst 0, 1) := dk_3 (dk_at dksX2_cold_0 12 rfl rfl)
theorem dX2_cold_13 : decode cX2_cold 13 = .ok (.bipush 10, 2) := dk_16 10 (dk_at dksX2_cold_0 13 rfl rfl)
theorem dX2_cold_15 : decode cX2_cold 15 = .ok (.invokestatic 59, 3) := dk_184 0 59 (dk_at dksX2_cold_0 15 rfl rfl)
theorem dX2_cold_18 : decode cX2_cold 18 = .ok (.ifCond .eq 33, 3) := dk_153 0 33 (dk_at dksX2_cold_0 18 rfl rfl)
theorem dX2_cold_21 : decode cX2_cold 21 = .ok (.iload_n 3, 1) := dk_29 (dk_at dksX2_cold_0 21 rfl rfl)
theorem dX2_cold_22 : decode cX2_cold 22 = .ok (.iconst 0, 1) := dk_3 (dk_at dksX2_cold_0 22 rfl rfl)
theorem dX2_cold_23 : decode cX2_cold 23 = .ok (.bipush 9, 2) := dk_16 9 (dk_at dksX2_cold_1 0 rfl rfl)
theorem dX2_cold_25 : decode cX2_cold 25 = .ok (.invokestatic 59, 3) := dk_184 0 59 (dk_at dksX2_cold_1 2 rfl rfl)
theorem dX2_cold_28 : decode cX2_cold 28 = .ok (.ifCond .eq 23, 3) := dk_153 0 23 (dk_at dksX2_cold_1 5 rfl rfl)
theorem dX2_cold_31 : decode cX2_cold 31 = .ok (.iload 4, 2) := dk_21 4 (dk_at dksX2_cold_1 8 rfl rfl)
theorem dX2_cold_33 : decode cX2_cold 33 = .ok (.iconst 0, 1) := dk_3 (dk_at dksX2_cold_1 10 rfl rfl)
theorem dX2_cold_34 : decode cX2_cold 34 = .ok (.iconst 1, 1) := dk_4 (dk_at dksX2_cold_1 11 rfl rfl)
theorem dX2_cold_35 : decode cX2_cold 35 = .ok (.invokestatic 59, 3) := dk_184 0 59 (dk_at dksX2_cold_1 12 rfl rfl)
theorem dX2_cold_38 : decode cX2_cold 38 = .ok (.ifCond .eq 13, 3) := dk_153 0 13 (dk_at dksX2_cold_1 15 rfl rfl)
theorem dX2_cold_41 : decode cX2_cold 41 = .ok (.iload 5, 2) := dk_21 5 (dk_at dksX2_cold_1 18 rfl rfl)
theorem dX2_cold_43 : decode cX2_cold 43 = .ok (.iconst 0, 1) := dk_3 (dk_at dksX2_cold_1 20 rfl rfl)
theorem dX2_cold_44 : decode cX2_cold 44 = .ok (.iconst 1, 1) := dk_4 (dk_at dksX2_cold_1 21 rfl rfl)
theorem dX2_cold_45 : decode cX2_cold 45 = .ok (.invokestatic 59, 3) := dk_184 0 59 (dk_at dksX2_cold_2 0 rfl rfl)
theorem dX2_cold_48 : decode cX2_cold 48 = .ok (.ifCond .ne 7, 3) := dk_154 0 7 (dk_at dksX2_cold_2 3 rfl rfl)
theorem dX2_cold_51 : decode cX2_cold 51 = .ok (.ldc2_w 174, 3) := dk_20 0 174 (dk_at dksX2_cold_2 6 rfl rfl)
theorem dX2_cold_54 : decode cX2_cold 54 = .ok (.lreturn, 1) := dk_173 (dk_at dksX2_cold_2 9 rfl rfl)
theorem dX2_cold_55 : decode cX2_cold 55 = .ok (.aload_n 0, 1) := dk_42 (dk_at dksX2_cold_2 10 rfl rfl)
theorem dX2_cold_56 : decode cX2_cold 56 = .ok (.invokevirtual 110, 3) := dk_182 0 110 (dk_at dksX2_cold_2 11 rfl rfl)
theorem dX2_cold_59 : decode cX2_cold 59 = .ok (.iconst 0, 1) := dk_3 (dk_at dksX2_cold_2 14 rfl rfl)
theorem dX2_cold_60 : decode cX2_cold 60 = .ok (.istore 6, 2) := dk_54 6 (dk_at dksX2_cold_2 15 rfl rfl)
theorem dX2_cold_62 : decode cX2_cold 62 = .ok (.iconst 0, 1) := dk_3 (dk_at dksX2_cold_2 17 rfl rfl)
theorem dX2_cold_63 : decode cX2_cold 63 = .ok (.istore 7, 2) := dk_54 7 (dk_at dksX2_cold_2 18 rfl rfl)
theorem dX2_cold_65 : decode cX2_cold 65 = .ok (.iload 7, 2) := dk_21 7 (dk_at dksX2_cold_2 20 rfl rfl)
theorem dX2_cold_67 : decode cX2_cold 67 = .ok (.bipush 8, 2) := dk_16 8 (dk_at dksX2_cold_2 22 rfl rfl)
theorem dX2_cold_69 : decode cX2_cold 69 = .ok (.if_icmp .ge 29, 3) := dk_162 0 29 (dk_at dksX2_cold_3 0 rfl rfl)
theorem dX2_cold_72 : decode cX2_cold 72 = .ok (.iload 6, 2) := dk_21 6 (dk_at dksX2_cold_3 3 rfl rfl)
theorem dX2_cold_74 : decode cX2_cold 74 = .ok (.aload_n 0, 1) := dk_42 (dk_at dksX2_cold_3 5 rfl rfl)
theorem dX2_cold_75 : decode cX2_cold 75 = .ok (.iload 7, 2) := dk_21 7 (dk_at dksX2_cold_3 6 rfl rfl)
theorem dX2_cold_77 : decode cX2_cold 77 = .ok (.iload_n 1, 1) := dk_27 (dk_at dksX2_cold_3 8 rfl rfl)
theorem dX2_cold_78 : decode cX2_cold 78 = .ok (.invokevirtual 92, 3) := dk_182 0 92 (dk_at dksX2_cold_3 9 rfl rfl)
theorem dX2_cold_81 : decode cX2_cold 81 = .ok (.ifCond .eq 7, 3) := dk_153 0 7 (dk_at dksX2_cold_3 12 rfl rfl)
theorem dX2_cold_84 : decode cX2_cold 84 = .ok (.iconst 1, 1) := dk_4 (dk_at dksX2_cold_3 15 rfl rfl)
theorem dX2_cold_85 : decode cX2_cold 85 = .ok (.goto 4, 3) := dk_167 0 4 (dk_at dksX2_cold_3 16 rfl rfl)
theorem dX2_cold_88 : decode cX2_cold 88 = .ok (.iconst 0, 1) := dk_3 (dk_at dksX2_cold_3 19 rfl rfl)
theorem dX2_cold_89 : decode cX2_cold 89 = .ok (.iadd, 1) := dk_96 (dk_at dksX2_cold_3 20 rfl rfl)
theorem dX2_cold_90 : decode cX2_cold 90 = .ok (.istore 6, 2) := dk_54 6 (dk_at dksX2_cold_3 21 rfl rfl)
theorem dX2_cold_92 : decode cX2_cold 92 = .ok (.iinc 7 1, 3) := dk_132 7 1 (dk_at dksX2_cold_4 0 rfl rfl)
theorem dX2_cold_95 : decode cX2_cold 95 = .ok (.goto (-30), 3) := dk_167 255 226 (dk_at dksX2_cold_4 3 rfl rfl)
theorem dX2_cold_98 : decode cX2_cold 98 = .ok (.iload 4, 2) := dk_21 4 (dk_at dksX2_cold_4 6 rfl rfl)
theorem dX2_cold_100 : decode cX2_cold 100 = .ok (.ifCond .ne 16, 3) := dk_154 0 16 (dk_at dksX2_cold_4 8 rfl rfl)
theorem dX2_cold_103 : decode cX2_cold 103 = .ok (.iload_n 3, 1) := dk_29 (dk_at dksX2_cold_4 11 rfl rfl)
theorem dX2_cold_104 : decode cX2_cold 104 = .ok (.iload 6, 2) := dk_21 6 (dk_at dksX2_cold_4 12 rfl rfl)
theorem dX2_cold_106 : decode cX2_cold 106 = .ok (.imul, 1) := dk_104 (dk_at dksX2_cold_4 14 rfl rfl)
theorem dX2_cold_107 : decode cX2_cold 107 = .ok (.bipush 18, 2) := dk_16 18 (dk_at dksX2_cold_4 15 rfl rfl)
theorem dX2_cold_109 : decode cX2_cold 109 = .ok (.if_icmp .le 7, 3) := dk_164 0 7 (dk_at dksX2_cold_4 17 rfl rfl)
theorem dX2_cold_112 : decode cX2_cold 112 = .ok (.ldc2_w 176, 3) := dk_20 0 176 (dk_at dksX2_cold_4 20 rfl rfl)
theorem dX2_cold_115 : decode cX2_cold 115 = .ok (.lreturn, 1) := dk_173 (dk_at dksX2_cold_4 23 rfl rfl)
theorem dX2_cold_116 : decode cX2_cold 116 = .ok (.ldc2_w 178, 3) := dk_20 0 178 (dk_at dksX2_cold_5 0 rfl rfl)
theorem dX2_cold_119 : decode cX2_cold 119 = .ok (.iload_n 3, 1) := dk_29 (dk_at dksX2_cold_5 3 rfl rfl)
theorem dX2_cold_120 : decode cX2_cold 120 = .ok (.invokestatic 180, 3) := dk_184 0 180 (dk_at dksX2_cold_5 4 rfl rfl)
theorem dX2_cold_123 : decode cX2_cold 123 = .ok (.lstore 7, 2) := dk_55 7 (dk_at dksX2_cold_5 7 rfl rfl)
theorem dX2_cold_125 : decode cX2_cold 125 = .ok (.ldc2_w 178, 3) := dk_20 0 178 (dk_at dksX2_cold_5 9 rfl rfl)
theorem dX2_cold_128 : decode cX2_cold 128 = .ok (.iload_n 2, 1) := dk_28 (dk_at dksX2_cold_5 12 rfl rfl)
theorem dX2_cold_129 : decode cX2_cold 129 = .ok (.i2l, 1) := dk_133 (dk_at dksX2_cold_5 13 rfl rfl)
theorem dX2_cold_130 : decode cX2_cold 130 = .ok (.lsub, 1) := dk_101 (dk_at dksX2_cold_5 14 rfl rfl)
theorem dX2_cold_131 : decode cX2_cold 131 = .ok (.iload_n 3, 1) := dk_29 (dk_at dksX2_cold_5 15 rfl rfl)
theorem dX2_cold_132 : decode cX2_cold 132 = .ok (.invokestatic 180, 3) := dk_184 0 180 (dk_at dksX2_cold_5 16 rfl rfl)
theorem dX2_cold_135 : decode cX2_cold 135 = .ok (.lstore 9, 2) := dk_55 9 (dk_at dksX2_cold_5 19 rfl rfl)
theorem dX2_cold_137 : decode cX2_cold 137 = .ok (.iload 6, 2) := dk_21 6 (dk_at dksX2_cold_5 21 rfl rfl)
theorem dX2_cold_139 : decode cX2_cold 139 = .ok (.i2l, 1) := dk_133 (dk_at dksX2_cold_5 23 rfl rfl)
theorem dX2_cold_140 : decode cX2_cold 140 = .ok (.lload 9, 2) := dk_22 9 (dk_at dksX2_cold_6 0 rfl rfl)
theorem dX2_cold_142 : decode cX2_cold 142 = .ok (.lmul, 1) := dk_105 (dk_at dksX2_cold_6 2 rfl rfl)
theorem dX2_cold_143 : decode cX2_cold 143 = .ok (.lstore 11, 2) := dk_55 11 (dk_at dksX2_cold_6 3 rfl rfl)
theorem dX2_cold_145 : decode cX2_cold 145 = .ok (.iload 4, 2) := dk_21 4 (dk_at dksX2_cold_6 5 rfl rfl)
theorem dX2_cold_147 : decode cX2_cold 147 = .ok (.ifCond .ne 32, 3) := dk_154 0 32 (dk_at dksX2_cold_6 7 rfl rfl)
theorem dX2_cold_150 : decode cX2_cold 150 = .ok (.lload 7, 2) := dk_22 7 (dk_at dksX2_cold_6 10 rfl rfl)
theorem dX2_cold_152 : decode cX2_cold 152 = .ok (.iload 6, 2) := dk_21 6 (dk_at dksX2_cold_6 12 rfl rfl)
theorem dX2_cold_154 : decode cX2_cold 154 = .ok (.invokestatic 180, 3) := dk_184 0 180 (dk_at dksX2_cold_6 14 rfl rfl)
theorem dX2_cold_157 : decode cX2_cold 157 = .ok (.lload 7, 2) := dk_22 7 (dk_at dksX2_cold_6 17 rfl rfl)
theorem dX2_cold_159 : decode cX2_cold 159 = .ok (.lload 9, 2) := dk_22 9 (dk_at dksX2_cold_6 19 rfl rfl)
theorem dX2_cold_161 : decode cX2_cold 161 = .ok (.lsub, 1) := dk_101 (dk_at dksX2_cold_6 21 rfl rfl)
theorem dX2_cold_162 : decode cX2_cold 162 = .ok (.iload 6, 2) := dk_21 6 (dk_at dksX2_cold_6 22 rfl rfl)
theorem dX2_cold_164 : decode cX2_cold 164 = .ok (.invokestatic 180, 3) := dk_184 0 180 (dk_at dksX2_cold_7 0 rfl rfl)
theorem dX2_cold_167 : decode cX2_cold 167 = .ok (.lsub, 1) := dk_101 (dk_at dksX2_cold_7 3 rfl rfl)
theorem dX2_cold_168 : decode cX2_cold 168 = .ok (.lstore 11, 2) := dk_55 11 (dk_at dksX2_cold_7 4 rfl rfl)
theorem dX2_cold_170 : decode cX2_cold 170 = .ok (.lload 7, 2) := dk_22 7 (dk_at dksX2_cold_7 6 rfl rfl)
theorem dX2_cold_172 : decode cX2_cold 172 = .ok (.iload 6, 2) := dk_21 6 (dk_at dksX2_cold_7 8 rfl rfl)
theorem dX2_cold_174 : decode cX2_cold 174 = .ok (.invokestatic 180, 3) := dk_184 0 180 (dk_at dksX2_cold_7 10 rfl rfl)
theorem dX2_cold_177 : decode cX2_cold 177 = .ok (.lstore 7, 2) := dk_55 7 (dk_at dksX2_cold_7 13 rfl rfl)
theorem dX2_cold_179 : decode cX2_cold 179 = .ok (.lload 11, 2) := dk_22 11 (dk_at dksX2_cold_7 15 rfl rfl)
theorem dX2_cold_181 : decode cX2_cold 181 = .ok (.lstore 13, 2) := dk_55 13 (dk_at dksX2_cold_7 17 rfl rfl)
theorem dX2_cold_183 : decode cX2_cold 183 = .ok (.lload 7, 2) := dk_22 7 (dk_at dksX2_cold_7 19 rfl rfl)
theorem dX2_cold_185 : decode cX2_cold 185 = .ok (.lstore 15, 2) := dk_55 15 (dk_at dksX2_cold_7 21 rfl rfl)
theorem dX2_cold_187 : decode cX2_cold 187 = .ok (.lload 15, 2) := dk_22 15 (dk_at dksX2_cold_8 0 rfl rfl)
theorem dX2_cold_189 : decode cX2_cold 189 = .ok (.lconst 0, 1) := dk_9 (dk_at dksX2_cold_8 2 rfl rfl)
theorem dX2_cold_190 : decode cX2_cold 190 = .ok (.lcmp, 1) := dk_148 (dk_at dksX2_cold_8 3 rfl rfl)
theorem dX2_cold_191 : decode cX2_cold 191 = .ok (.ifCond .eq 21, 3) := dk_153 0 21 (dk_at dksX2_cold_8 4 rfl rfl)
theorem dX2_cold_194 : decode cX2_cold 194 = .ok (.lload 13, 2) := dk_22 13 (dk_at dksX2_cold_8 7 rfl rfl)
theorem dX2_cold_196 : decode cX2_cold 196 = .ok (.lload 15, 2) := dk_22 15 (dk_at dksX2_cold_8 9 rfl rfl)
theorem dX2_cold_198 : decode cX2_cold 198 = .ok (.lrem, 1) := dk_113 (dk_at dksX2_cold_8 11 rfl rfl)
theorem dX2_cold_199 : decode cX2_cold 199 = .ok (.lstore 17, 2) := dk_55 17 (dk_at dksX2_cold_8 12 rfl rfl)
theorem dX2_cold_201 : decode cX2_cold 201 = .ok (.lload 15, 2) := dk_22 15 (dk_at dksX2_cold_8 14 rfl rfl)
theorem dX2_cold_203 : decode cX2_cold 203 = .ok (.lstore 13, 2) := dk_55 13 (dk_at dksX2_cold_8 16 rfl rfl)
theorem dX2_cold_205 : decode cX2_cold 205 = .ok (.lload 17, 2) := dk_22 17 (dk_at dksX2_cold_8 18 rfl rfl)
theorem dX2_cold_207 : decode cX2_cold 207 = .ok (.lstore 15, 2) := dk_55 15 (dk_at dksX2_cold_8 20 rfl rfl)
theorem dX2_cold_209 : decode cX2_cold 209 = .ok (.goto (-22), 3) := dk_167 255 234 (dk_at dksX2_cold_9 0 rfl rfl)
theorem dX2_cold_212 : decode cX2_cold 212 = .ok (.iload 5, 2) := dk_21 5 (dk_at dksX2_cold_9 3 rfl rfl)
theorem dX2_cold_214 : decode cX2_cold 214 = .ok (.ifCond .ne 11, 3) := dk_154 0 11 (dk_at dksX2_cold_9 5 rfl rfl)
theorem dX2_cold_217 : decode cX2_cold 217 = .ok (.lload 11, 2) := dk_22 11 (dk_at dksX2_cold_9 8 rfl rfl)
theorem dX2_cold_219 : decode cX2_cold 219 = .ok (.lload 13, 2) := dk_22 13 (dk_at dksX2_cold_9 10 rfl rfl)
theorem dX2_cold_221 : decode cX2_cold 221 = .ok (.ldiv, 1) := dk_109 (dk_at dksX2_cold_9 12 rfl rfl)
theorem dX2_cold_222 : decode cX2_cold 222 = .ok (.goto 8, 3) := dk_167 0 8 (dk_at dksX2_cold_9 13 rfl rfl)
theorem dX2_cold_225 : decode cX2_cold 225 = .ok (.lload 7, 2) := dk_22 7 (dk_at dksX2_cold_9 16 rfl rfl)
theorem dX2_cold_227 : decode cX2_cold 227 = .ok (.lload 13, 2) := dk_22 13 (dk_at dksX2_cold_9 18 rfl rfl)
theorem dX2_cold_229 : decode cX2_cold 229 = .ok (.ldiv, 1) := dk_109 (dk_at dksX2_cold_9 20 rfl rfl)
theorem dX2_cold_230 : decode cX2_cold 230 = .ok (.lreturn, 1) := dk_173 (dk_at dksX2_cold_9 21 rfl rfl)
abbrev cX2_power : ByteArray := prog_4_method_53_code
def yX2_power : MethodName := ⟨RX2, "power", "(JI)J"⟩
def dkwX2_power_0 : List UInt8 := [10, 66, 3, 54, 5, 21, 5, 28, 162, 0, 13, 33, 30, 105, 66, 132, 5, 1, 167, 255, 243, 33, 173]
abbrev dktX2_power_0 : List UInt8 := dkwX2_power_0 ++ []
theorem dksX2_power_0 : cX2_power.data.toList.drop 0 = dktX2_power_0 := by decide +kernel
theorem dX2_power_0 : decode cX2_power 0 = .ok (.lconst 1, 1) := dk_10 (dk_at dksX2_power_0 0 rfl rfl)
theorem dX2_power_1 : decode cX2_power 1 = .ok (.lstore_n 3, 1) := dk_66 (dk_at dksX2_power_0 1 rfl rfl)
theorem dX2_power_2 : decode cX2_power 2 = .ok (.iconst 0, 1) := dk_3 (dk_at dksX2_power_0 2 rfl rfl)
theorem dX2_power_3 : decode cX2_power 3 = .ok (.istore 5, 2) := dk_54 5 (dk_at dksX2_power_0 3 rfl rfl)
theorem dX2_power_5 : decode cX2_power 5 = .ok (.iload 5, 2) := dk_21 5 (dk_at dksX2_power_0 5 rfl rfl)
theorem dX2_power_7 : decode cX2_power 7 = .ok (.iload_n 2, 1) := dk_28 (dk_at dksX2_power_0 7 rfl rfl)
theorem dX2_power_8 : decode cX2_power 8 = .ok (.if_icmp .ge 13, 3) := dk_162 0 13 (dk_at dksX2_power_0 8 rfl rfl)
theorem dX2_power_11 : decode cX2_power 11 = .ok (.lload_n 3, 1) := dk_33 (dk_at dksX2_power_0 11 rfl rfl)
theorem dX2_power_12 : decode cX2_power 12 = .ok (.lload_n 0, 1) := dk_30 (dk_at dksX2_power_0 12 rfl rfl)
theorem dX2_power_13 : decode cX2_power 13 = .ok (.lmul, 1) := dk_105 (dk_at dksX2_power_0 13 rfl rfl)
theorem dX2_power_14 : decode cX2_power 14 = .ok (.lstore_n 3, 1) := dk_66 (dk_at dksX2_power_0 14 rfl rfl)
theorem dX2_power_15 : decode cX2_power 15 = .ok (.iinc 5 1, 3) := dk_132 5 1 (dk_at dksX2_power_0 15 rfl rfl)
theorem dX2_power_18 : decode cX2_power 18 = .ok (.goto (-13), 3) := dk_167 255 243 (dk_at dksX2_power_0 18 rfl rfl)
theorem dX2_power_21 : decode cX2_power 21 = .ok (.lload_n 3, 1) := dk_33 (dk_at dksX2_power_0 21 rfl rfl)
theorem dX2_power_22 : decode cX2_power 22 = .ok (.lreturn, 1) := dk_173 (dk_at dksX2_power_0 22 rfl rfl)
abbrev cX2_year : ByteArray := prog_4_method_55_code
def yX2_year : MethodName := ⟨RX2, "year", "(III)I"⟩
def dkwX2_year_11 : List UInt8 := [184, 0, 75, 167, 0, 5, 21, 5, 172]
abbrev dktX2_year_11 : List UInt8 := dkwX2_year_11 ++ []
def dkwX2_year_10 : List UInt8 := [167, 255, 214, 29, 154, 0, 10, 42, 182, 0, 141, 167, 0, 20, 29, 4, 160, 0, 13, 42, 182, 0, 116]
abbrev dktX2_year_10 : List UInt8 := dkwX2_year_10 ++ dktX2_year_11
def dkwX2_year_9 : List UInt8 := [153, 0, 17, 42, 180, 0, 13, 21, 6, 46, 155, 0, 7, 4, 167, 0, 4, 3, 96, 54, 5, 132, 6, 1]
abbrev dktX2_year_9 : List UInt8 := dkwX2_year_9 ++ dktX2_year_10
def dkwX2_year_8 : List UInt8 := [54, 5, 3, 54, 6, 21, 6, 16, 8, 162, 0, 41, 21, 5, 42, 180, 0, 63, 21, 6, 184, 0, 67]
abbrev dktX2_year_8 : List UInt8 := dkwX2_year_8 ++ dktX2_year_9
def dkwX2_year_7 : List UInt8 := [21, 8, 16, 10, 112, 120, 130, 79, 167, 0, 8, 42, 182, 0, 122, 87, 132, 5, 1, 167, 255, 119, 3]
abbrev dktX2_year_7 : List UInt8 := dkwX2_year_7 ++ dktX2_year_8
def dkwX2_year_6 : List UInt8 := [182, 0, 128, 87, 167, 0, 35, 21, 7, 16, 6, 160, 0, 23, 42, 180, 0, 13, 16, 34, 92, 46, 4]
abbrev dktX2_year_6 : List UInt8 := dkwX2_year_6 ++ dktX2_year_7
def dkwX2_year_5 : List UInt8 := [182, 0, 125, 87, 167, 0, 57, 21, 7, 16, 6, 162, 0, 18, 42, 21, 6, 21, 8, 16, 10, 112]
abbrev dktX2_year_5 : List UInt8 := dkwX2_year_5 ++ dktX2_year_6
def dkwX2_year_4 : List UInt8 := [21, 6, 21, 8, 16, 24, 112, 182, 0, 132, 87, 167, 0, 73, 21, 7, 6, 160, 0, 13, 42, 21, 6]
abbrev dktX2_year_4 : List UInt8 := dkwX2_year_4 ++ dktX2_year_5
def dkwX2_year_3 : List UInt8 := [21, 4, 16, 8, 108, 16, 8, 112, 54, 7, 21, 4, 16, 64, 108, 54, 8, 21, 7, 6, 162, 0, 18, 42]
abbrev dktX2_year_3 : List UInt8 := dkwX2_year_3 ++ dktX2_year_4
def dkwX2_year_2 : List UInt8 := [162, 0, 137, 16, 75, 21, 4, 104, 16, 74, 96, 18, 184, 112, 54, 4, 21, 4, 16, 8, 112, 54, 6]
abbrev dktX2_year_2 : List UInt8 := dkwX2_year_2 ++ dktX2_year_3
def dkwX2_year_1 : List UInt8 := [184, 0, 59, 154, 0, 6, 16, 254, 172, 42, 182, 0, 110, 27, 54, 4, 3, 54, 5, 21, 5, 28]
abbrev dktX2_year_1 : List UInt8 := dkwX2_year_1 ++ dktX2_year_2
def dkwX2_year_0 : List UInt8 := [27, 3, 17, 39, 15, 184, 0, 59, 153, 0, 22, 28, 4, 16, 99, 184, 0, 59, 153, 0, 12, 29, 3, 5]
abbrev dktX2_year_0 : List UInt8 := dkwX2_year_0 ++ dktX2_year_1
theorem dksX2_year_0 : cX2_year.data.toList.drop 0 = dktX2_year_0 := by decide +kernel
theorem dksX2_year_1 : cX2_year.data.toList.drop 24 = dktX2_year_1 := dk_seg dksX2_year_0 24 rfl rfl
theorem dksX2_year_2 : cX2_year.data.toList.drop 46 = dktX2_year_2 := dk_seg dksX2_year_1 22 rfl rfl
theorem dksX2_year_3 : cX2_year.data.toList.drop 69 = dktX2_year_3 := dk_seg dksX2_year_2 23 rfl rfl
theorem dksX2_year_4 : cX2_year.data.toList.drop 93 = dktX2_year_4 := dk_seg dksX2_year_3 24 rfl rfl
theorem dksX2_year_5 : cX2_year.data.toList.drop 116 = dktX2_year_5 := dk_seg dksX2_year_4 23 rfl rfl
theorem dksX2_year_6 : cX2_year.data.toList.drop 138 = dktX2_year_6 := dk_seg dksX2_year_5 22 rfl rfl
theorem dksX2_year_7 : cX2_year.data.toList.drop 161 = dktX2_year_7 := dk_seg dksX2_year_6 23 rfl rfl
theorem dksX2_year_8 : cX2_year.data.toList.drop 184 = dktX2_year_8 := dk_seg dksX2_year_7 23 rfl rfl
theorem dksX2_year_9 : cX2_year.data.toList.drop 207 = dktX2_year_9 := dk_seg dksX2_year_8 23 rfl rfl
theorem dksX2_year_10 : cX2_year.data.toList.drop 231 = dktX2_year_10 := dk_seg dksX2_year_9 24 rfl rfl
theorem dksX2_year_11 : cX2_year.data.toList.drop 254 = dktX2_year_11 := dk_seg dksX2_year_10 23 rfl rfl
theorem dX2_year_0 : decode cX2_year 0 = .ok (.iload_n 1, 1) := dk_27 (dk_at dksX2_year_0 0 rfl rfl)
theorem dX2_year_1 : decode cX2_year 1 = .ok (.iconst 0, 1) := dk_3 (dk_at dksX2_year_0 1 rfl rfl)
theorem dX2_year_2 : decode cX2_year 2 = .ok (.sipush 9999, 3) := dk_17 39 15 (dk_at dksX2_year_0 2 rfl rfl)
theorem dX2_year_5 : decode cX2_year 5 = .ok (.invokestatic 59, 3) := dk_184 0 59 (dk_at dksX2_year_0 5 rfl rfl)
theorem dX2_year_8 : decode cX2_year 8 = .ok (.ifCond .eq 22, 3) := dk_153 0 22 (dk_at dksX2_year_0 8 rfl rfl)
theorem dX2_year_11 : decode cX2_year 11 = .ok (.iload_n 2, 1) := dk_28 (dk_at dksX2_year_0 11 rfl rfl)
theorem dX2_year_12 : decode cX2_year 12 = .ok (.iconst 1, 1) := dk_4 (dk_at dksX2_year_0 12 rfl rfl)
theorem dX2_year_13 : decode cX2_year 13 = .ok (.bipush 99, 2) := dk_16 99 (dk_at dksX2_year_0 13 rfl rfl)
theorem dX2_year_15 : decode cX2_year 15 = .ok (.invokestatic 59, 3) := dk_184 0 59 (dk_at dksX2_year_0 15 rfl rfl)
theorem dX2_year_18 : decode cX2_year 18 = .ok (.ifCond .eq 12, 3) := dk_153 0 12 (dk_at dksX2_year_0 18 rfl rfl)
theorem dX2_year_21 : decode cX2_year 21 = .ok (.iload_n 3, 1) := dk_29 (dk_at dksX2_year_0 21 rfl rfl)
theorem dX2_year_22 : decode cX2_year 22 = .ok (.iconst 0, 1) := dk_3 (dk_at dksX2_year_0 22 rfl rfl)
theorem dX2_year_23 : decode cX2_year 23 = .ok (.iconst 2, 1) := dk_5 (dk_at dksX2_year_0 23 rfl rfl)
theorem dX2_year_24 : decode cX2_year 24 = .ok (.invokestatic 59, 3) := dk_184 0 59 (dk_at dksX2_year_1 0 rfl rfl)
theorem dX2_year_27 : decode cX2_year 27 = .ok (.ifCond .ne 6, 3) := dk_154 0 6 (dk_at dksX2_year_1 3 rfl rfl)
theorem dX2_year_30 : decode cX2_year 30 = .ok (.bipush (-2), 2) := dk_16 254 (dk_at dksX2_year_1 6 rfl rfl)
theorem dX2_year_32 : decode cX2_year 32 = .ok (.ireturn, 1) := dk_172 (dk_at dksX2_year_1 8 rfl rfl)
theorem dX2_year_33 : decode cX2_year 33 = .ok (.aload_n 0, 1) := dk_42 (dk_at dksX2_year_1 9 rfl rfl)
theorem dX2_year_34 : decode cX2_year 34 = .ok (.invokevirtual 110, 3) := dk_182 0 110 (dk_at dksX2_year_1 10 rfl rfl)
theorem dX2_year_37 : decode cX2_year 37 = .ok (.iload_n 1, 1) := dk_27 (dk_at dksX2_year_1 13 rfl rfl)
theorem dX2_year_38 : decode cX2_year 38 = .ok (.istore 4, 2) := dk_54 4 (dk_at dksX2_year_1 14 rfl rfl)
theorem dX2_year_40 : decode cX2_year 40 = .ok (.iconst 0, 1) := dk_3 (dk_at dksX2_year_1 16 rfl rfl)
theorem dX2_year_41 : decode cX2_year 41 = .ok (.istore 5, 2) := dk_54 5 (dk_at dksX2_year_1 17 rfl rfl)
theorem dX2_year_43 : decode cX2_year 43 = .ok (.iload 5, 2) := dk_21 5 (dk_at dksX2_year_1 19 rfl rfl)
theorem dX2_year_45 : decode cX2_year 45 = .ok (.iload_n 2, 1) := dk_28 (dk_at dksX2_year_1 21 rfl rfl)
theorem dX2_year_46 : decode cX2_year 46 = .ok (.if_icmp .ge 137, 3) := dk_162 0 137 (dk_at dksX2_year_2 0 rfl rfl)
theorem dX2_year_49 : decode cX2_year 49 = .ok (.bipush 75, 2) := dk_16 75 (dk_at dksX2_year_2 3 rfl rfl)
theorem dX2_year_51 : decode cX2_year 51 = .ok (.iload 4, 2) := dk_21 4 (dk_at dksX2_year_2 5 rfl rfl)
theorem dX2_year_53 : decode cX2_year 53 = .ok (.imul, 1) := dk_104 (dk_at dksX2_year_2 7 rfl rfl)
theorem dX2_year_54 : decode cX2_year 54 = .ok (.bipush 74, 2) := dk_16 74 (dk_at dksX2_year_2 8 rfl rfl)
theorem dX2_year_56 : decode cX2_year 56 = .ok (.iadd, 1) := dk_96 (dk_at dksX2_year_2 10 rfl rfl)
theorem dX2_year_57 : decode cX2_year 57 = .ok (.ldc 184, 2) := dk_18 184 (dk_at dksX2_year_2 11 rfl rfl)
theorem dX2_year_59 : decode cX2_year 59 = .ok (.irem, 1) := dk_112 (dk_at dksX2_year_2 13 rfl rfl)
theorem dX2_year_60 : decode cX2_year 60 = .ok (.istore 4, 2) := dk_54 4 (dk_at dksX2_year_2 14 rfl rfl)
theorem dX2_year_62 : decode cX2_year 62 = .ok (.iload 4, 2) := dk_21 4 (dk_at dksX2_year_2 16 rfl rfl)
theorem dX2_year_64 : decode cX2_year 64 = .ok (.bipush 8, 2) := dk_16 8 (dk_at dksX2_year_2 18 rfl rfl)
theorem dX2_year_66 : decode cX2_year 66 = .ok (.irem, 1) := dk_112 (dk_at dksX2_year_2 20 rfl rfl)
theorem dX2_year_67 : decode cX2_year 67 = .ok (.istore 6, 2) := dk_54 6 (dk_at dksX2_year_2 21 rfl rfl)
theorem dX2_year_69 : decode cX2_year 69 = .ok (.iload 4, 2) := dk_21 4 (dk_at dksX2_year_3 0 rfl rfl)
theorem dX2_year_71 : decode cX2_year 71 = .ok (.bipush 8, 2) := dk_16 8 (dk_at dksX2_year_3 2 rfl rfl)
theorem dX2_year_73 : decode cX2_year 73 = .ok (.idiv, 1) := dk_108 (dk_at dksX2_year_3 4 rfl rfl)
theorem dX2_year_74 : decode cX2_year 74 = .ok (.bipush 8, 2) := dk_16 8 (dk_at dksX2_year_3 5 rfl rfl)
theorem dX2_year_76 : decode cX2_year 76 = .ok (.irem, 1) := dk_112 (dk_at dksX2_year_3 7 rfl rfl)
theorem dX2_year_77 : decode cX2_year 77 = .ok (.istore 7, 2) := dk_54 7 (dk_at dksX2_year_3 8 rfl rfl)
theorem dX2_year_79 : decode cX2_year 79 = .ok (.iload 4, 2) := dk_21 4 (dk_at dksX2_year_3 10 rfl rfl)
theorem dX2_year_81 : decode cX2_year 81 = .ok (.bipush 64, 2) := dk_16 64 (dk_at dksX2_year_3 12 rfl rfl)
theorem dX2_year_83 : decode cX2_year 83 = .ok (.idiv, 1) := dk_108 (dk_at dksX2_year_3 14 rfl rfl)
theorem dX2_year_84 : decode cX2_year 84 = .ok (.istore 8, 2) := dk_54 8 (dk_at dksX2_year_3 15 rfl rfl)
theorem dX2_year_86 : decode cX2_year 86 = .ok (.iload 7, 2) := dk_21 7 (dk_at dksX2_year_3 17 rfl rfl)
theorem dX2_year_88 : decode cX2_year 88 = .ok (.iconst 3, 1) := dk_6 (dk_at dksX2_year_3 19 rfl rfl)
theorem dX2_year_89 : decode cX2_year 89 = .ok (.if_icmp .ge 18, 3) := dk_162 0 18 (dk_at dksX2_year_3 20 rfl rfl)
theorem dX2_year_92 : decode cX2_year 92 = .ok (.aload_n 0, 1) := dk_42 (dk_at dksX2_year_3 23 rfl rfl)
theorem dX2_year_93 : decode cX2_year 93 = .ok (.iload 6, 2) := dk_21 6 (dk_at dksX2_year_4 0 rfl rfl)
theorem dX2_year_95 : decode cX2_year 95 = .ok (.iload 8, 2) := dk_21 8 (dk_at dksX2_year_4 2 rfl rfl)
theorem dX2_year_97 : decode cX2_year 97 = .ok (.bipush 24, 2) := dk_16 24 (dk_at dksX2_year_4 4 rfl rfl)
theorem dX2_year_99 : decode cX2_year 99 = .ok (.irem, 1) := dk_112 (dk_at dksX2_year_4 6 rfl rfl)
theorem dX2_year_100 : decode cX2_year 100 = .ok (.invokevirtual 132, 3) := dk_182 0 132 (dk_at dksX2_year_4 7 rfl rfl)
theorem dX2_year_103 : decode cX2_year 103 = .ok (.pop, 1) := dk_87 (dk_at dksX2_year_4 10 rfl rfl)
theorem dX2_year_104 : decode cX2_year 104 = .ok (.goto 73, 3) := dk_167 0 73 (dk_at dksX2_year_4 11 rfl rfl)
theorem dX2_year_107 : decode cX2_year 107 = .ok (.iload 7, 2) := dk_21 7 (dk_at dksX2_year_4 14 rfl rfl)
theorem dX2_year_109 : decode cX2_year 109 = .ok (.iconst 3, 1) := dk_6 (dk_at dksX2_year_4 16 rfl rfl)
theorem dX2_year_110 : decode cX2_year 110 = .ok (.if_icmp .ne 13, 3) := dk_160 0 13 (dk_at dksX2_year_4 17 rfl rfl)
theorem dX2_year_113 : decode cX2_year 113 = .ok (.aload_n 0, 1) := dk_42 (dk_at dksX2_year_4 20 rfl rfl)
theorem dX2_year_114 : decode cX2_year 114 = .ok (.iload 6, 2) := dk_21 6 (dk_at dksX2_year_4 21 rfl rfl)
theorem dX2_year_116 : decode cX2_year 116 = .ok (.invokevirtual 125, 3) := dk_182 0 125 (dk_at dksX2_year_5 0 rfl rfl)
theorem dX2_year_119 : decode cX2_year 119 = .ok (.pop, 1) := dk_87 (dk_at dksX2_year_5 3 rfl rfl)
theorem dX2_year_120 : decode cX2_year 120 = .ok (.goto 57, 3) := dk_167 0 57 (dk_at dksX2_year_5 4 rfl rfl)
theorem dX2_year_123 : decode cX2_year 123 = .ok (.iload 7, 2) := dk_21 7 (dk_at dksX2_year_5 7 rfl rfl)
theorem dX2_year_125 : decode cX2_year 125 = .ok (.bipush 6, 2) := dk_16 6 (dk_at dksX2_year_5 9 rfl rfl)
theorem dX2_year_127 : decode cX2_year 127 = .ok (.if_icmp .ge 18, 3) := dk_162 0 18 (dk_at dksX2_year_5 11 rfl rfl)
theorem dX2_year_130 : decode cX2_year 130 = .ok (.aload_n 0, 1) := dk_42 (dk_at dksX2_year_5 14 rfl rfl)
theorem dX2_year_131 : decode cX2_year 131 = .ok (.iload 6, 2) := dk_21 6 (dk_at dksX2_year_5 15 rfl rfl)
theorem dX2_year_133 : decode cX2_year 133 = .ok (.iload 8, 2) := dk_21 8 (dk_at dksX2_year_5 17 rfl rfl)
theorem dX2_year_135 : decode cX2_year 135 = .ok (.bipush 10, 2) := dk_16 10 (dk_at dksX2_year_5 19 rfl rfl)
theorem dX2_year_137 : decode cX2_year 137 = .ok (.irem, 1) := dk_112 (dk_at dksX2_year_5 21 rfl rfl)
theorem dX2_year_138 : decode cX2_year 138 = .ok (.invokevirtual 128, 3) := dk_182 0 128 (dk_at dksX2_year_6 0 rfl rfl)
theorem dX2_year_141 : decode cX2_year 141 = .ok (.pop, 1) := dk_87 (dk_at dksX2_year_6 3 rfl rfl)
theorem dX2_year_142 : decode cX2_year 142 = .ok (.goto 35, 3) := dk_167 0 35 (dk_at dksX2_year_6 4 rfl rfl)
theorem dX2_year_145 : decode cX2_year 145 = .ok (.iload 7, 2) := dk_21 7 (dk_at dksX2_year_6 7 rfl rfl)
theorem dX2_year_147 : decode cX2_year 147 = .ok (.bipush 6, 2) := dk_16 6 (dk_at dksX2_year_6 9 rfl rfl)
theorem dX2_year_149 : decode cX2_year 149 = .ok (.if_icmp .ne 23, 3) := dk_160 0 23 (dk_at dksX2_year_6 11 rfl rfl)
theorem dX2_year_152 : decode cX2_year 152 = .ok (.aload_n 0, 1) := dk_42 (dk_at dksX2_year_6 14 rfl rfl)
theorem dX2_year_153 : decode cX2_year 153 = .ok (.getfield 13, 3) := dk_180 0 13 (dk_at dksX2_year_6 15 rfl rfl)
theorem dX2_year_156 : decode cX2_year 156 = .ok (.bipush 34, 2) := dk_16 34 (dk_at dksX2_year_6 18 rfl rfl)
theorem dX2_year_158 : decode cX2_year 158 = .ok (.dup2, 1) := dk_92 (dk_at dksX2_year_6 20 rfl rfl)
theorem dX2_year_159 : decode cX2_year 159 = .ok (.iaload, 1) := dk_46 (dk_at dksX2_year_6 21 rfl rfl)
theorem dX2_year_160 : decode cX2_year 160 = .ok (.iconst 1, 1) := dk_4 (dk_at dksX2_year_6 22 rfl rfl)
theorem dX2_year_161 : decode cX2_year 161 = .ok (.iload 8, 2) := dk_21 8 (dk_at dksX2_year_7 0 rfl rfl)
theorem dX2_year_163 : decode cX2_year 163 = .ok (.bipush 10, 2) := dk_16 10 (dk_at dksX2_year_7 2 rfl rfl)
theorem dX2_year_165 : decode cX2_year 165 = .ok (.irem, 1) := dk_112 (dk_at dksX2_year_7 4 rfl rfl)
theorem dX2_year_166 : decode cX2_year 166 = .ok (.ishl, 1) := dk_120 (dk_at dksX2_year_7 5 rfl rfl)
theorem dX2_year_167 : decode cX2_year 167 = .ok (.ixor, 1) := dk_130 (dk_at dksX2_year_7 6 rfl rfl)
theorem dX2_year_168 : decode cX2_year 168 = .ok (.iastore, 1) := dk_79 (dk_at dksX2_year_7 7 rfl rfl)
theorem dX2_year_169 : decode cX2_year 169 = .ok (.goto 8, 3) := dk_167 0 8 (dk_at dksX2_year_7 8 rfl rfl)
theorem dX2_year_172 : decode cX2_year 172 = .ok (.aload_n 0, 1) := dk_42 (dk_at dksX2_year_7 11 rfl rfl)
theorem dX2_year_173 : decode cX2_year 173 = .ok (.invokevirtual 122, 3) := dk_182 0 122 (dk_at dksX2_year_7 12 rfl rfl)
theorem dX2_year_176 : decode cX2_year 176 = .ok (.pop, 1) := dk_87 (dk_at dksX2_year_7 15 rfl rfl)
theorem dX2_year_177 : decode cX2_year 177 = .ok (.iinc 5 1, 3) := dk_132 5 1 (dk_at dksX2_year_7 16 rfl rfl)
theorem dX2_year_180 : decode cX2_year 180 = .ok (.goto (-137), 3) := dk_167 255 119 (dk_at dksX2_year_7 19 rfl rfl)
theorem dX2_year_183 : decode cX2_year 183 = .ok (.iconst 0, 1) := dk_3 (dk_at dksX2_year_7 22 rfl rfl)
theorem dX2_year_184 : decode cX2_year 184 = .ok (.istore 5, 2) := dk_54 5 (dk_at dksX2_year_8 0 rfl rfl)
theorem dX2_year_186 : decode cX2_year 186 = .ok (.iconst 0, 1) := dk_3 (dk_at dksX2_year_8 2 rfl rfl)
theorem dX2_year_187 : decode cX2_year 187 = .ok (.istore 6, 2) := dk_54 6 (dk_at dksX2_year_8 3 rfl rfl)
theorem dX2_year_189 : decode cX2_year 189 = .ok (.iload 6, 2) := dk_21 6 (dk_at dksX2_year_8 5 rfl rfl)
theorem dX2_year_191 : decode cX2_year 191 = .ok (.bipush 8, 2) := dk_16 8 (dk_at dksX2_year_8 7 rfl rfl)
theorem dX2_year_193 : decode cX2_year 193 = .ok (.if_icmp .ge 41, 3) := dk_162 0 41 (dk_at dksX2_year_8 9 rfl rfl)
theorem dX2_year_196 : decode cX2_year 196 = .ok (.iload 5, 2) := dk_21 5 (dk_at dksX2_year_8 12 rfl rfl)
theorem dX2_year_198 : decode cX2_year 198 = .ok (.aload_n 0, 1) := dk_42 (dk_at dksX2_year_8 14 rfl rfl)
theorem dX2_year_199 : decode cX2_year 199 = .ok (.getfield 63, 3) := dk_180 0 63 (dk_at dksX2_year_8 15 rfl rfl)
theorem dX2_year_202 : decode cX2_year 202 = .ok (.iload 6, 2) := dk_21 6 (dk_at dksX2_year_8 18 rfl rfl)
theorem dX2_year_204 : decode cX2_year 204 = .ok (.invokestatic 67, 3) := dk_184 0 67 (dk_at dksX2_year_8 20 rfl rfl)
theorem dX2_year_207 : decode cX2_year 207 = .ok (.ifCond .eq 17, 3) := dk_153 0 17 (dk_at dksX2_year_9 0 rfl rfl)
theorem dX2_year_210 : decode cX2_year 210 = .ok (.aload_n 0, 1) := dk_42 (dk_at dksX2_year_9 3 rfl rfl)
theorem dX2_year_211 : decode cX2_year 211 = .ok (.getfield 13, 3) := dk_180 0 13 (dk_at dksX2_year_9 4 rfl rfl)
theorem dX2_year_214 : decode cX2_year 214 = .ok (.iload 6, 2) := dk_21 6 (dk_at dksX2_year_9 7 rfl rfl)
theorem dX2_year_216 : decode cX2_year 216 = .ok (.iaload, 1) := dk_46 (dk_at dksX2_year_9 9 rfl rfl)
theorem dX2_year_217 : decode cX2_year 217 = .ok (.ifCond .lt 7, 3) := dk_155 0 7 (dk_at dksX2_year_9 10 rfl rfl)
theorem dX2_year_220 : decode cX2_year 220 = .ok (.iconst 1, 1) := dk_4 (dk_at dksX2_year_9 13 rfl rfl)
theorem dX2_year_221 : decode cX2_year 221 = .ok (.goto 4, 3) := dk_167 0 4 (dk_at dksX2_year_9 14 rfl rfl)
theorem dX2_year_224 : decode cX2_year 224 = .ok (.iconst 0, 1) := dk_3 (dk_at dksX2_year_9 17 rfl rfl)
theorem dX2_year_225 : decode cX2_year 225 = .ok (.iadd, 1) := dk_96 (dk_at dksX2_year_9 18 rfl rfl)
theorem dX2_year_226 : decode cX2_year 226 = .ok (.istore 5, 2) := dk_54 5 (dk_at dksX2_year_9 19 rfl rfl)
theorem dX2_year_228 : decode cX2_year 228 = .ok (.iinc 6 1, 3) := dk_132 6 1 (dk_at dksX2_year_9 21 rfl rfl)
theorem dX2_year_231 : decode cX2_year 231 = .ok (.goto (-42), 3) := dk_167 255 214 (dk_at dksX2_year_10 0 rfl rfl)
theorem dX2_year_234 : decode cX2_year 234 = .ok (.iload_n 3, 1) := dk_29 (dk_at dksX2_year_10 3 rfl rfl)
theorem dX2_year_235 : decode cX2_year 235 = .ok (.ifCond .ne 10, 3) := dk_154 0 10 (dk_at dksX2_year_10 4 rfl rfl)
theorem dX2_year_238 : decode cX2_year 238 = .ok (.aload_n 0, 1) := dk_42 (dk_at dksX2_year_10 7 rfl rfl)
theorem dX2_year_239 : decode cX2_year 239 = .ok (.invokevirtual 141, 3) := dk_182 0 141 (dk_at dksX2_year_10 8 rfl rfl)
theorem dX2_year_242 : decode cX2_year 242 = .ok (.goto 20, 3) := dk_167 0 20 (dk_at dksX2_year_10 11 rfl rfl)
theorem dX2_year_245 : decode cX2_year 245 = .ok (.iload_n 3, 1) := dk_29 (dk_at dksX2_year_10 14 rfl rfl)
theorem dX2_year_246 : decode cX2_year 246 = .ok (.iconst 1, 1) := dk_4 (dk_at dksX2_year_10 15 rfl rfl)
theorem dX2_year_247 : decode cX2_year 247 = .ok (.if_icmp .ne 13, 3) := dk_160 0 13 (dk_at dksX2_year_10 16 rfl rfl)
theorem dX2_year_250 : decode cX2_year 250 = .ok (.aload_n 0, 1) := dk_42 (dk_at dksX2_year_10 19 rfl rfl)
theorem dX2_year_251 : decode cX2_year 251 = .ok (.invokevirtual 116, 3) := dk_182 0 116 (dk_at dksX2_year_10 20 rfl rfl)
theorem dX2_year_254 : decode cX2_year 254 = .ok (.invokestatic 75, 3) := dk_184 0 75 (dk_at dksX2_year_11 0 rfl rfl)
theorem dX2_year_257 : decode cX2_year 257 = .ok (.goto 5, 3) := dk_167 0 5 (dk_at dksX2_year_11 3 rfl rfl)
theorem dX2_year_260 : decode cX2_year 260 = .ok (.iload 5, 2) := dk_21 5 (dk_at dksX2_year_11 6 rfl rfl)
theorem dX2_year_262 : decode cX2_year 262 = .ok (.ireturn, 1) := dk_172 (dk_at dksX2_year_11 8 rfl rfl)
abbrev cX2_image : ByteArray := prog_4_method_56_code
def yX2_image : MethodName := ⟨RX2, "image", "(I)I"⟩
def dkwX2_image_9 : List UInt8 := [79, 42, 180, 0, 53, 28, 16, 102, 96, 42, 180, 0, 160, 79, 42, 180, 0, 56, 27, 4, 84, 4, 172]
abbrev dktX2_image_9 : List UInt8 := dkwX2_image_9 ++ []
def dkwX2_image_8 : List UInt8 := [180, 0, 53, 28, 16, 100, 96, 42, 180, 0, 63, 79, 42, 180, 0, 53, 28, 16, 101, 96, 42, 180, 0, 79]
abbrev dktX2_image_8 : List UInt8 := dkwX2_image_8 ++ dktX2_image_9
def dkwX2_image_7 : List UInt8 := [42, 180, 0, 53, 28, 16, 80, 96, 29, 96, 42, 180, 0, 31, 29, 46, 79, 132, 3, 1, 167, 255, 230, 42]
abbrev dktX2_image_7 : List UInt8 := dkwX2_image_7 ++ dktX2_image_8
def dkwX2_image_6 : List UInt8 := [96, 29, 96, 42, 180, 0, 28, 29, 46, 79, 132, 3, 1, 167, 255, 213, 3, 62, 29, 16, 16, 162, 0, 26]
abbrev dktX2_image_6 : List UInt8 := dkwX2_image_6 ++ dktX2_image_7
def dkwX2_image_5 : List UInt8 := [42, 180, 0, 53, 28, 16, 60, 96, 29, 96, 42, 180, 0, 25, 29, 46, 79, 42, 180, 0, 53, 28, 16, 70]
abbrev dktX2_image_5 : List UInt8 := dkwX2_image_5 ++ dktX2_image_6
def dkwX2_image_4 : List UInt8 := [96, 29, 96, 42, 180, 0, 22, 29, 46, 79, 132, 3, 1, 167, 255, 196, 3, 62, 29, 16, 10, 162, 0, 43]
abbrev dktX2_image_4 : List UInt8 := dkwX2_image_4 ++ dktX2_image_5
def dkwX2_image_3 : List UInt8 := [42, 180, 0, 53, 28, 16, 44, 96, 29, 96, 42, 180, 0, 19, 29, 46, 79, 42, 180, 0, 53, 28, 16, 52]
abbrev dktX2_image_3 : List UInt8 := dkwX2_image_3 ++ dktX2_image_4
def dkwX2_image_2 : List UInt8 := [62, 29, 16, 8, 162, 0, 60, 42, 180, 0, 53, 28, 16, 36, 96, 29, 96, 42, 180, 0, 16, 29, 46, 79]
abbrev dktX2_image_2 : List UInt8 := dkwX2_image_2 ++ dktX2_image_3
def dkwX2_image_1 : List UInt8 := [162, 0, 23, 42, 180, 0, 53, 28, 29, 96, 42, 180, 0, 7, 29, 46, 79, 132, 3, 1, 167, 255, 233, 3]
abbrev dktX2_image_1 : List UInt8 := dkwX2_image_1 ++ dktX2_image_2
def dkwX2_image_0 : List UInt8 := [27, 3, 4, 184, 0, 59, 154, 0, 6, 16, 254, 172, 16, 110, 27, 104, 61, 3, 62, 29, 16, 36]
abbrev dktX2_image_0 : List UInt8 := dkwX2_image_0 ++ dktX2_image_1
theorem dksX2_image_0 : cX2_image.data.toList.drop 0 = dktX2_image_0 := by decide +kernel
theorem dksX2_image_1 : cX2_image.data.toList.drop 22 = dktX2_image_1 := dk_seg dksX2_image_0 22 rfl rfl
theorem dksX2_image_2 : cX2_image.data.toList.drop 46 = dktX2_image_2 := dk_seg dksX2_image_1 24 rfl rfl
theorem dksX2_image_3 : cX2_image.data.toList.drop 70 = dktX2_image_3 := dk_seg dksX2_image_2 24 rfl rfl
theorem dksX2_image_4 : cX2_image.data.toList.drop 94 = dktX2_image_4 := dk_seg dksX2_image_3 24 rfl rfl
theorem dksX2_image_5 : cX2_image.data.toList.drop 118 = dktX2_image_5 := dk_seg dksX2_image_4 24 rfl rfl
theorem dksX2_image_6 : cX2_image.data.toList.drop 142 = dktX2_image_6 := dk_seg dksX2_image_5 24 rfl rfl
theorem dksX2_image_7 : cX2_image.data.toList.drop 166 = dktX2_image_7 := dk_seg dksX2_image_6 24 rfl rfl
theorem dksX2_image_8 : cX2_image.data.toList.drop 190 = dktX2_image_8 := dk_seg dksX2_image_7 24 rfl rfl
theorem dksX2_image_9 : cX2_image.data.toList.drop 214 = dktX2_image_9 := dk_seg dksX2_image_8 24 rfl rfl
theorem dX2_image_0 : decode cX2_image 0 = .ok (.iload_n 1, 1) := dk_27 (dk_at dksX2_image_0 0 rfl rfl)
theorem dX2_image_1 : decode cX2_image 1 = .ok (.iconst 0, 1) := dk_3 (dk_at dksX2_image_0 1 rfl rfl)
theorem dX2_image_2 : decode cX2_image 2 = .ok (.iconst 1, 1) := dk_4 (dk_at dksX2_image_0 2 rfl rfl)
theorem dX2_image_3 : decode cX2_image 3 = .ok (.invokestatic 59, 3) := dk_184 0 59 (dk_at dksX2_image_0 3 rfl rfl)
theorem dX2_image_6 : decode cX2_image 6 = .ok (.ifCond .ne 6, 3) := dk_154 0 6 (dk_at dksX2_image_0 6 rfl rfl)
theorem dX2_image_9 : decode cX2_image 9 = .ok (.bipush (-2), 2) := dk_16 254 (dk_at dksX2_image_0 9 rfl rfl)
theorem dX2_image_11 : decode cX2_image 11 = .ok (.ireturn, 1) := dk_172 (dk_at dksX2_image_0 11 rfl rfl)
theorem dX2_image_12 : decode cX2_image 12 = .ok (.bipush 110, 2) := dk_16 110 (dk_at dksX2_image_0 12 rfl rfl)
theorem dX2_image_14 : decode cX2_image 14 = .ok (.iload_n 1, 1) := dk_27 (dk_at dksX2_image_0 14 rfl rfl)
theorem dX2_image_15 : decode cX2_image 15 = .ok (.imul, 1) := dk_104 (dk_at dksX2_image_0 15 rfl rfl)
theorem dX2_image_16 : decode cX2_image 16 = .ok (.istore_n 2, 1) := dk_61 (dk_at dksX2_image_0 16 rfl rfl)
theorem dX2_image_17 : decode cX2_image 17 = .ok (.iconst 0, 1) := dk_3 (dk_at dksX2_image_0 17 rfl rfl)
theorem dX2_image_18 : decode cX2_image 18 = .ok (.istore_n 3, 1) := dk_62 (dk_at dksX2_image_0 18 rfl rfl)
theorem dX2_image_19 : decode cX2_image 19 = .ok (.iload_n 3, 1) := dk_29 (dk_at dksX2_image_0 19 rfl rfl)
theorem dX2_image_20 : decode cX2_image 20 = .ok (.bipush 36, 2) := dk_16 36 (dk_at dksX2_image_0 20 rfl rfl)
theorem dX2_image_22 : decode cX2_image 22 = .ok (.if_icmp .ge 23, 3) := dk_162 0 23 (dk_at dksX2_image_1 0 rfl rfl)
theorem dX2_image_25 : decode cX2_image 25 = .ok (.aload_n 0, 1) := dk_42 (dk_at dksX2_image_1 3 rfl rfl)
theorem dX2_image_26 : decode cX2_image 26 = .ok (.getfield 53, 3) := dk_180 0 53 (dk_at dksX2_image_1 4 rfl rfl)
theorem dX2_image_29 : decode cX2_image 29 = .ok (.iload_n 2, 1) := dk_28 (dk_at dksX2_image_1 7 rfl rfl)
theorem dX2_image_30 : decode cX2_image 30 = .ok (.iload_n 3, 1) := dk_29 (dk_at dksX2_image_1 8 rfl rfl)
theorem dX2_image_31 : decode cX2_image 31 = .ok (.iadd, 1) := dk_96 (dk_at dksX2_image_1 9 rfl rfl)
theorem dX2_image_32 : decode cX2_image 32 = .ok (.aload_n 0, 1) := dk_42 (dk_at dksX2_image_1 10 rfl rfl)
theorem dX2_image_33 : decode cX2_image 33 = .ok (.getfield 7, 3) := dk_180 0 7 (dk_at dksX2_image_1 11 rfl rfl)
theorem dX2_image_36 : decode cX2_image 36 = .ok (.iload_n 3, 1) := dk_29 (dk_at dksX2_image_1 14 rfl rfl)
theorem dX2_image_37 : decode cX2_image 37 = .ok (.iaload, 1) := dk_46 (dk_at dksX2_image_1 15 rfl rfl)
theorem dX2_image_38 : decode cX2_image 38 = .ok (.iastore, 1) := dk_79 (dk_at dksX2_image_1 16 rfl rfl)
theorem dX2_image_39 : decode cX2_image 39 = .ok (.iinc 3 1, 3) := dk_132 3 1 (dk_at dksX2_image_1 17 rfl rfl)
theorem dX2_image_42 : decode cX2_image 42 = .ok (.goto (-23), 3) := dk_167 255 233 (dk_at dksX2_image_1 20 rfl rfl)
theorem dX2_image_45 : decode cX2_image 45 = .ok (.iconst 0, 1) := dk_3 (dk_at dksX2_image_1 23 rfl rfl)
theorem dX2_image_46 : decode cX2_image 46 = .ok (.istore_n 3, 1) := dk_62 (dk_at dksX2_image_2 0 rfl rfl)
theorem dX2_image_47 : decode cX2_image 47 = .ok (.iload_n 3, 1) := dk_29 (dk_at dksX2_image_2 1 rfl rfl)
theorem dX2_image_48 : decode cX2_image 48 = .ok (.bipush 8, 2) := dk_16 8 (dk_at dksX2_image_2 2 rfl rfl)
theorem dX2_image_50 : decode cX2_image 50 = .ok (.if_icmp .ge 60, 3) := dk_162 0 60 (dk_at dksX2_image_2 4 rfl rfl)
theorem dX2_image_53 : decode cX2_image 53 = .ok (.aload_n 0, 1) := dk_42 (dk_at dksX2_image_2 7 rfl rfl)
theorem dX2_image_54 : decode cX2_image 54 = .ok (.getfield 53, 3) := dk_180 0 53 (dk_at dksX2_image_2 8 rfl rfl)
theorem dX2_image_57 : decode cX2_image 57 = .ok (.iload_n 2, 1) := dk_28 (dk_at dksX2_image_2 11 rfl rfl)
theorem dX2_image_58 : decode cX2_image 58 = .ok (.bipush 36, 2) := dk_16 36 (dk_at dksX2_image_2 12 rfl rfl)
theorem dX2_image_60 : decode cX2_image 60 = .ok (.iadd, 1) := dk_96 (dk_at dksX2_image_2 14 rfl rfl)
theorem dX2_image_61 : decode cX2_image 61 = .ok (.iload_n 3, 1) := dk_29 (dk_at dksX2_image_2 15 rfl rfl)
theorem dX2_image_62 : decode cX2_image 62 = .ok (.iadd, 1) := dk_96 (dk_at dksX2_image_2 16 rfl rfl)
theorem dX2_image_63 : decode cX2_image 63 = .ok (.aload_n 0, 1) := dk_42 (dk_at dksX2_image_2 17 rfl rfl)
theorem dX2_image_64 : decode cX2_image 64 = .ok (.getfield 16, 3) := dk_180 0 16 (dk_at dksX2_image_2 18 rfl rfl)
theorem dX2_image_67 : decode cX2_image 67 = .ok (.iload_n 3, 1) := dk_29 (dk_at dksX2_image_2 21 rfl rfl)
theorem dX2_image_68 : decode cX2_image 68 = .ok (.iaload, 1) := dk_46 (dk_at dksX2_image_2 22 rfl rfl)
theorem dX2_image_69 : decode cX2_image 69 = .ok (.iastore, 1) := dk_79 (dk_at dksX2_image_2 23 rfl rfl)
theorem dX2_image_70 : decode cX2_image 70 = .ok (.aload_n 0, 1) := dk_42 (dk_at dksX2_image_3 0 rfl rfl)
theorem dX2_image_71 : decode cX2_image 71 = .ok (.getfield 53, 3) := dk_180 0 53 (dk_at dksX2_image_3 1 rfl rfl)
theorem dX2_image_74 : decode cX2_image 74 = .ok (.iload_n 2, 1) := dk_28 (dk_at dksX2_image_3 4 rfl rfl)
theorem dX2_image_75 : decode cX2_image 75 = .ok (.bipush 44, 2) := dk_16 44 (dk_at dksX2_image_3 5 rfl rfl)
theorem dX2_image_77 : decode cX2_image 77 = .ok (.iadd, 1) := dk_96 (dk_at dksX2_image_3 7 rfl rfl)
theorem dX2_image_78 : decode cX2_image 78 = .ok (.iload_n 3, 1) := dk_29 (dk_at dksX2_image_3 8 rfl rfl)
theorem dX2_image_79 : decode cX2_image 79 = .ok (.iadd, 1) := dk_96 (dk_at dksX2_image_3 9 rfl rfl)
theorem dX2_image_80 : decode cX2_image 80 = .ok (.aload_n 0, 1) := dk_42 (dk_at dksX2_image_3 10 rfl rfl)
theorem dX2_image_81 : decode cX2_image 81 = .ok (.getfield 19, 3) := dk_180 0 19 (dk_at dksX2_image_3 11 rfl rfl)
theorem dX2_image_84 : decode cX2_image 84 = .ok (.iload_n 3, 1) := dk_29 (dk_at dksX2_image_3 14 rfl rfl)
theorem dX2_image_85 : decode cX2_image 85 = .ok (.iaload, 1) := dk_46 (dk_at dksX2_image_3 15 rfl rfl)
theorem dX2_image_86 : decode cX2_image 86 = .ok (.iastore, 1) := dk_79 (dk_at dksX2_image_3 16 rfl rfl)
theorem dX2_image_87 : decode cX2_image 87 = .ok (.aload_n 0, 1) := dk_42 (dk_at dksX2_image_3 17 rfl rfl)
theorem dX2_image_88 : decode cX2_image 88 = .ok (.getfield 53, 3) := dk_180 0 53 (dk_at dksX2_image_3 18 rfl rfl)
theorem dX2_image_91 : decode cX2_image 91 = .ok (.iload_n 2, 1) := dk_28 (dk_at dksX2_image_3 21 rfl rfl)
theorem dX2_image_92 : decode cX2_image 92 = .ok (.bipush 52, 2) := dk_16 52 (dk_at dksX2_image_3 22 rfl rfl)
theorem dX2_image_94 : decode cX2_image 94 = .ok (.iadd, 1) := dk_96 (dk_at dksX2_image_4 0 rfl rfl)
theorem dX2_image_95 : decode cX2_image 95 = .ok (.iload_n 3, 1) := dk_29 (dk_at dksX2_image_4 1 rfl rfl)
theorem dX2_image_96 : decode cX2_image 96 = .ok (.iadd, 1) := dk_96 (dk_at dksX2_image_4 2 rfl rfl)
theorem dX2_image_97 : decode cX2_image 97 = .ok (.aload_n 0, 1) := dk_42 (dk_at dksX2_image_4 3 rfl rfl)
theorem dX2_image_98 : decode cX2_image 98 = .ok (.getfield 22, 3) := dk_180 0 22 (dk_at dksX2_image_4 4 rfl rfl)
theorem dX2_image_101 : decode cX2_image 101 = .ok (.iload_n 3, 1) := dk_29 (dk_at dksX2_image_4 7 rfl rfl)
theorem dX2_image_102 : decode cX2_image 102 = .ok (.iaload, 1) := dk_46 (dk_at dksX2_image_4 8 rfl rfl)
theorem dX2_image_103 : decode cX2_image 103 = .ok (.iastore, 1) := dk_79 (dk_at dksX2_image_4 9 rfl rfl)
theorem dX2_image_104 : decode cX2_image 104 = .ok (.iinc 3 1, 3) := dk_132 3 1 (dk_at dksX2_image_4 10 rfl rfl)
theorem dX2_image_107 : decode cX2_image 107 = .ok (.goto (-60), 3) := dk_167 255 196 (dk_at dksX2_image_4 13 rfl rfl)
theorem dX2_image_110 : decode cX2_image 110 = .ok (.iconst 0, 1) := dk_3 (dk_at dksX2_image_4 16 rfl rfl)
theorem dX2_image_111 : decode cX2_image 111 = .ok (.istore_n 3, 1) := dk_62 (dk_at dksX2_image_4 17 rfl rfl)
theorem dX2_image_112 : decode cX2_image 112 = .ok (.iload_n 3, 1) := dk_29 (dk_at dksX2_image_4 18 rfl rfl)
theorem dX2_image_113 : decode cX2_image 113 = .ok (.bipush 10, 2) := dk_16 10 (dk_at dksX2_image_4 19 rfl rfl)
theorem dX2_image_115 : decode cX2_image 115 = .ok (.if_icmp .ge 43, 3) := dk_162 0 43 (dk_at dksX2_image_4 21 rfl rfl)
theorem dX2_image_118 : decode cX2_image 118 = .ok (.aload_n 0, 1) := dk_42 (dk_at dksX2_image_5 0 rfl rfl)
theorem dX2_image_119 : decode cX2_image 119 = .ok (.getfield 53, 3) := dk_180 0 53 (dk_at dksX2_image_5 1 rfl rfl)
theorem dX2_image_122 : decode cX2_image 122 = .ok (.iload_n 2, 1) := dk_28 (dk_at dksX2_image_5 4 rfl rfl)
theorem dX2_image_123 : decode cX2_image 123 = .ok (.bipush 60, 2) := dk_16 60 (dk_at dksX2_image_5 5 rfl rfl)
theorem dX2_image_125 : decode cX2_image 125 = .ok (.iadd, 1) := dk_96 (dk_at dksX2_image_5 7 rfl rfl)
theorem dX2_image_126 : decode cX2_image 126 = .ok (.iload_n 3, 1) := dk_29 (dk_at dksX2_image_5 8 rfl rfl)
theorem dX2_image_127 : decode cX2_image 127 = .ok (.iadd, 1) := dk_96 (dk_at dksX2_image_5 9 rfl rfl)
theorem dX2_image_128 : decode cX2_image 128 = .ok (.aload_n 0, 1) := dk_42 (dk_at dksX2_image_5 10 rfl rfl)
theorem dX2_image_129 : decode cX2_image 129 = .ok (.getfield 25, 3) := dk_180 0 25 (dk_at dksX2_image_5 11 rfl rfl)
theorem dX2_image_132 : decode cX2_image 132 = .ok (.iload_n 3, 1) := dk_29 (dk_at dksX2_image_5 14 rfl rfl)
theorem dX2_image_133 : decode cX2_image 133 = .ok (.iaload, 1) := dk_46 (dk_at dksX2_image_5 15 rfl rfl)
theorem dX2_image_134 : decode cX2_image 134 = .ok (.iastore, 1) := dk_79 (dk_at dksX2_image_5 16 rfl rfl)
theorem dX2_image_135 : decode cX2_image 135 = .ok (.aload_n 0, 1) := dk_42 (dk_at dksX2_image_5 17 rfl rfl)
theorem dX2_image_136 : decode cX2_image 136 = .ok (.getfield 53, 3) := dk_180 0 53 (dk_at dksX2_image_5 18 rfl rfl)
theorem dX2_image_139 : decode cX2_image 139 = .ok (.iload_n 2, 1) := dk_28 (dk_at dksX2_image_5 21 rfl rfl)
theorem dX2_image_140 : decode cX2_image 140 = .ok (.bipush 70, 2) := dk_16 70 (dk_at dksX2_image_5 22 rfl rfl)
theorem dX2_image_142 : decode cX2_image 142 = .ok (.iadd, 1) := dk_96 (dk_at dksX2_image_6 0 rfl rfl)
theorem dX2_image_143 : decode cX2_image 143 = .ok (.iload_n 3, 1) := dk_29 (dk_at dksX2_image_6 1 rfl rfl)
theorem dX2_image_144 : decode cX2_image 144 = .ok (.iadd, 1) := dk_96 (dk_at dksX2_image_6 2 rfl rfl)
theorem dX2_image_145 : decode cX2_image 145 = .ok (.aload_n 0, 1) := dk_42 (dk_at dksX2_image_6 3 rfl rfl)
theorem dX2_image_146 : decode cX2_image 146 = .ok (.getfield 28, 3) := dk_180 0 28 (dk_at dksX2_image_6 4 rfl rfl)
theorem dX2_image_149 : decode cX2_image 149 = .ok (.iload_n 3, 1) := dk_29 (dk_at dksX2_image_6 7 rfl rfl)
theorem dX2_image_150 : decode cX2_image 150 = .ok (.iaload, 1) := dk_46 (dk_at dksX2_image_6 8 rfl rfl)
theorem dX2_image_151 : decode cX2_image 151 = .ok (.iastore, 1) := dk_79 (dk_at dksX2_image_6 9 rfl rfl)
theorem dX2_image_152 : decode cX2_image 152 = .ok (.iinc 3 1, 3) := dk_132 3 1 (dk_at dksX2_image_6 10 rfl rfl)
theorem dX2_image_155 : decode cX2_image 155 = .ok (.goto (-43), 3) := dk_167 255 213 (dk_at dksX2_image_6 13 rfl rfl)
theorem dX2_image_158 : decode cX2_image 158 = .ok (.iconst 0, 1) := dk_3 (dk_at dksX2_image_6 16 rfl rfl)
theorem dX2_image_159 : decode cX2_image 159 = .ok (.istore_n 3, 1) := dk_62 (dk_at dksX2_image_6 17 rfl rfl)
theorem dX2_image_160 : decode cX2_image 160 = .ok (.iload_n 3, 1) := dk_29 (dk_at dksX2_image_6 18 rfl rfl)
theorem dX2_image_161 : decode cX2_image 161 = .ok (.bipush 16, 2) := dk_16 16 (dk_at dksX2_image_6 19 rfl rfl)
theorem dX2_image_163 : decode cX2_image 163 = .ok (.if_icmp .ge 26, 3) := dk_162 0 26 (dk_at dksX2_image_6 21 rfl rfl)
theorem dX2_image_166 : decode cX2_image 166 = .ok (.aload_n 0, 1) := dk_42 (dk_at dksX2_image_7 0 rfl rfl)
theorem dX2_image_167 : decode cX2_image 167 = .ok (.getfield 53, 3) := dk_180 0 53 (dk_at dksX2_image_7 1 rfl rfl)
theorem dX2_image_170 : decode cX2_image 170 = .ok (.iload_n 2, 1) := dk_28 (dk_at dksX2_image_7 4 rfl rfl)
theorem dX2_image_171 : decode cX2_image 171 = .ok (.bipush 80, 2) := dk_16 80 (dk_at dksX2_image_7 5 rfl rfl)
theorem dX2_image_173 : decode cX2_image 173 = .ok (.iadd, 1) := dk_96 (dk_at dksX2_image_7 7 rfl rfl)
theorem dX2_image_174 : decode cX2_image 174 = .ok (.iload_n 3, 1) := dk_29 (dk_at dksX2_image_7 8 rfl rfl)
theorem dX2_image_175 : decode cX2_image 175 = .ok (.iadd, 1) := dk_96 (dk_at dksX2_image_7 9 rfl rfl)
theorem dX2_image_176 : decode cX2_image 176 = .ok (.aload_n 0, 1) := dk_42 (dk_at dksX2_image_7 10 rfl rfl)
theorem dX2_image_177 : decode cX2_image 177 = .ok (.getfield 31, 3) := dk_180 0 31 (dk_at dksX2_image_7 11 rfl rfl)
theorem dX2_image_180 : decode cX2_image 180 = .ok (.iload_n 3, 1) := dk_29 (dk_at dksX2_image_7 14 rfl rfl)
theorem dX2_image_181 : decode cX2_image 181 = .ok (.iaload, 1) := dk_46 (dk_at dksX2_image_7 15 rfl rfl)
theorem dX2_image_182 : decode cX2_image 182 = .ok (.iastore, 1) := dk_79 (dk_at dksX2_image_7 16 rfl rfl)
theorem dX2_image_183 : decode cX2_image 183 = .ok (.iinc 3 1, 3) := dk_132 3 1 (dk_at dksX2_image_7 17 rfl rfl)
theorem dX2_image_186 : decode cX2_image 186 = .ok (.goto (-26), 3) := dk_167 255 230 (dk_at dksX2_image_7 20 rfl rfl)
theorem dX2_image_189 : decode cX2_image 189 = .ok (.aload_n 0, 1) := dk_42 (dk_at dksX2_image_7 23 rfl rfl)
theorem dX2_image_190 : decode cX2_image 190 = .ok (.getfield 53, 3) := dk_180 0 53 (dk_at dksX2_image_8 0 rfl rfl)
theorem dX2_image_193 : decode cX2_image 193 = .ok (.iload_n 2, 1) := dk_28 (dk_at dksX2_image_8 3 rfl rfl)
theorem dX2_image_194 : decode cX2_image 194 = .ok (.bipush 100, 2) := dk_16 100 (dk_at dksX2_image_8 4 rfl rfl)
theorem dX2_image_196 : decode cX2_image 196 = .ok (.iadd, 1) := dk_96 (dk_at dksX2_image_8 6 rfl rfl)
theorem dX2_image_197 : decode cX2_image 197 = .ok (.aload_n 0, 1) := dk_42 (dk_at dksX2_image_8 7 rfl rfl)
theorem dX2_image_198 : decode cX2_image 198 = .ok (.getfield 63, 3) := dk_180 0 63 (dk_at dksX2_image_8 8 rfl rfl)
theorem dX2_image_201 : decode cX2_image 201 = .ok (.iastore, 1) := dk_79 (dk_at dksX2_image_8 11 rfl rfl)
theorem dX2_image_202 : decode cX2_image 202 = .ok (.aload_n 0, 1) := dk_42 (dk_at dksX2_image_8 12 rfl rfl)
theorem dX2_image_203 : decode cX2_image 203 = .ok (.getfield 53, 3) := dk_180 0 53 (dk_at dksX2_image_8 13 rfl rfl)
theorem dX2_image_206 : decode cX2_image 206 = .ok (.iload_n 2, 1) := dk_28 (dk_at dksX2_image_8 16 rfl rfl)
theorem dX2_image_207 : decode cX2_image 207 = .ok (.bipush 101, 2) := dk_16 101 (dk_at dksX2_image_8 17 rfl rfl)
theorem dX2_image_209 : decode cX2_image 209 = .ok (.iadd, 1) := dk_96 (dk_at dksX2_image_8 19 rfl rfl)
theorem dX2_image_210 : decode cX2_image 210 = .ok (.aload_n 0, 1) := dk_42 (dk_at dksX2_image_8 20 rfl rfl)
theorem dX2_image_211 : decode cX2_image 211 = .ok (.getfield 79, 3) := dk_180 0 79 (dk_at dksX2_image_8 21 rfl rfl)
theorem dX2_image_214 : decode cX2_image 214 = .ok (.iastore, 1) := dk_79 (dk_at dksX2_image_9 0 rfl rfl)
theorem dX2_image_215 : decode cX2_image 215 = .ok (.aload_n 0, 1) := dk_42 (dk_at dksX2_image_9 1 rfl rfl)
theorem dX2_image_216 : decode cX2_image 216 = .ok (.getfield 53, 3) := dk_180 0 53 (dk_at dksX2_image_9 2 rfl rfl)
theorem dX2_image_219 : decode cX2_image 219 = .ok (.iload_n 2, 1) := dk_28 (dk_at dksX2_image_9 5 rfl rfl)
theorem dX2_image_220 : decode cX2_image 220 = .ok (.bipush 102, 2) := dk_16 102 (dk_at dksX2_image_9 6 rfl rfl)
theorem dX2_image_222 : decode cX2_image 222 = .ok (.iadd, 1) := dk_96 (dk_at dksX2_image_9 8 rfl rfl)
theorem dX2_image_223 : decode cX2_image 223 = .ok (.aload_n 0, 1) := dk_42 (dk_at dksX2_image_9 9 rfl rfl)
theorem dX2_image_224 : decode cX2_image 224 = .ok (.getfield 160, 3) := dk_180 0 160 (dk_at dksX2_image_9 10 rfl rfl)
theorem dX2_image_227 : decode cX2_image 227 = .ok (.iastore, 1) := dk_79 (dk_at dksX2_image_9 13 rfl rfl)
theorem dX2_image_228 : decode cX2_image 228 = .ok (.aload_n 0, 1) := dk_42 (dk_at dksX2_image_9 14 rfl rfl)
theorem dX2_image_229 : decode cX2_image 229 = .ok (.getfield 56, 3) := dk_180 0 56 (dk_at dksX2_image_9 15 rfl rfl)
theorem dX2_image_232 : decode cX2_image 232 = .ok (.iload_n 1, 1) := dk_27 (dk_at dksX2_image_9 18 rfl rfl)
theorem dX2_image_233 : decode cX2_image 233 = .ok (.iconst 1, 1) := dk_4 (dk_at dksX2_image_9 19 rfl rfl)
theorem dX2_image_234 : decode cX2_image 234 = .ok (.bastore, 1) := dk_84 (dk_at dksX2_image_9 20 rfl rfl)
theorem dX2_image_235 : decode cX2_image 235 = .ok (.iconst 1, 1) := dk_4 (dk_at dksX2_image_9 21 rfl rfl)
theorem dX2_image_236 : decode cX2_image 236 = .ok (.ireturn, 1) := dk_172 (dk_at dksX2_image_9 22 rfl rfl)
abbrev cX2_restore : ByteArray := prog_4_method_57_code
def yX2_restore : MethodName := ⟨RX2, "restore", "(I)I"⟩
def dkwX2_restore_10 : List UInt8 := [181, 0, 160, 4, 172]
abbrev dktX2_restore_10 : List UInt8 := dkwX2_restore_10 ++ []
def dkwX2_restore_9 : List UInt8 := [42, 180, 0, 53, 28, 16, 101, 96, 46, 181, 0, 79, 42, 42, 180, 0, 53, 28, 16, 102, 96, 46]
abbrev dktX2_restore_9 : List UInt8 := dkwX2_restore_9 ++ dktX2_restore_10
def dkwX2_restore_8 : List UInt8 := [29, 96, 46, 79, 132, 3, 1, 167, 255, 230, 42, 42, 180, 0, 53, 28, 16, 100, 96, 46, 181, 0, 63, 42]
abbrev dktX2_restore_8 : List UInt8 := dkwX2_restore_8 ++ dktX2_restore_9
def dkwX2_restore_7 : List UInt8 := [167, 255, 213, 3, 62, 29, 16, 16, 162, 0, 26, 42, 180, 0, 31, 29, 42, 180, 0, 53, 28, 16, 80, 96]
abbrev dktX2_restore_7 : List UInt8 := dkwX2_restore_7 ++ dktX2_restore_8
def dkwX2_restore_6 : List UInt8 := [29, 96, 46, 79, 42, 180, 0, 28, 29, 42, 180, 0, 53, 28, 16, 70, 96, 29, 96, 46, 79, 132, 3, 1]
abbrev dktX2_restore_6 : List UInt8 := dkwX2_restore_6 ++ dktX2_restore_7
def dkwX2_restore_5 : List UInt8 := [167, 255, 196, 3, 62, 29, 16, 10, 162, 0, 43, 42, 180, 0, 25, 29, 42, 180, 0, 53, 28, 16, 60, 96]
abbrev dktX2_restore_5 : List UInt8 := dkwX2_restore_5 ++ dktX2_restore_6
def dkwX2_restore_4 : List UInt8 := [29, 96, 46, 79, 42, 180, 0, 22, 29, 42, 180, 0, 53, 28, 16, 52, 96, 29, 96, 46, 79, 132, 3, 1]
abbrev dktX2_restore_4 : List UInt8 := dkwX2_restore_4 ++ dktX2_restore_5
def dkwX2_restore_3 : List UInt8 := [180, 0, 53, 28, 16, 36, 96, 29, 96, 46, 79, 42, 180, 0, 19, 29, 42, 180, 0, 53, 28, 16, 44, 96]
abbrev dktX2_restore_3 : List UInt8 := dkwX2_restore_3 ++ dktX2_restore_4
def dkwX2_restore_2 : List UInt8 := [96, 46, 79, 132, 3, 1, 167, 255, 233, 3, 62, 29, 16, 8, 162, 0, 60, 42, 180, 0, 16, 29, 42]
abbrev dktX2_restore_2 : List UInt8 := dkwX2_restore_2 ++ dktX2_restore_3
def dkwX2_restore_1 : List UInt8 := [16, 110, 27, 104, 61, 3, 62, 29, 16, 36, 162, 0, 23, 42, 180, 0, 7, 29, 42, 180, 0, 53, 28, 29]
abbrev dktX2_restore_1 : List UInt8 := dkwX2_restore_1 ++ dktX2_restore_2
def dkwX2_restore_0 : List UInt8 := [27, 3, 4, 184, 0, 59, 154, 0, 6, 16, 254, 172, 42, 180, 0, 56, 27, 51, 154, 0, 6, 16, 253, 172]
abbrev dktX2_restore_0 : List UInt8 := dkwX2_restore_0 ++ dktX2_restore_1
theorem dksX2_restore_0 : cX2_restore.data.toList.drop 0 = dktX2_restore_0 := by decide +kernel
theorem dksX2_restore_1 : cX2_restore.data.toList.drop 24 = dktX2_restore_1 := dk_seg dksX2_restore_0 24 rfl rfl
theorem dksX2_restore_2 : cX2_restore.data.toList.drop 48 = dktX2_restore_2 := dk_seg dksX2_restore_1 24 rfl rfl
theorem dksX2_restore_3 : cX2_restore.data.toList.drop 71 = dktX2_restore_3 := dk_seg dksX2_restore_2 23 rfl rfl
theorem dksX2_restore_4 : cX2_restore.data.toList.drop 95 = dktX2_restore_4 := dk_seg dksX2_restore_3 24 rfl rfl
theorem dksX2_restore_5 : cX2_restore.data.toList.drop 119 = dktX2_restore_5 := dk_seg dksX2_restore_4 24 rfl rfl
theorem dksX2_restore_6 : cX2_restore.data.toList.drop 143 = dktX2_restore_6 := dk_seg dksX2_restore_5 24 rfl rfl
theorem dksX2_restore_7 : cX2_restore.data.toList.drop 167 = dktX2_restore_7 := dk_seg dksX2_restore_6 24 rfl rfl
theorem dksX2_restore_8 : cX2_restore.data.toList.drop 191 = dktX2_restore_8 := dk_seg dksX2_restore_7 24 rfl rfl
theorem dksX2_restore_9 : cX2_restore.data.toList.drop 215 = dktX2_restore_9 := dk_seg dksX2_restore_8 24 rfl rfl
theorem dksX2_restore_10 : cX2_restore.data.toList.drop 237 = dktX2_restore_10 := dk_seg dksX2_restore_9 22 rfl rfl
theorem dX2_restore_0 : decode cX2_restore 0 = .ok (.iload_n 1, 1) := dk_27 (dk_at dksX2_restore_0 0 rfl rfl)
theorem dX2_restore_1 : decode cX2_restore 1 = .ok (.iconst 0, 1) := dk_3 (dk_at dksX2_restore_0 1 rfl rfl)
theorem dX2_restore_2 : decode cX2_restore 2 = .ok (.iconst 1, 1) := dk_4 (dk_at dksX2_restore_0 2 rfl rfl)
theorem dX2_restore_3 : decode cX2_restore 3 = .ok (.invokestatic 59, 3) := dk_184 0 59 (dk_at dksX2_restore_0 3 rfl rfl)
theorem dX2_restore_6 : decode cX2_restore 6 = .ok (.ifCond .ne 6, 3) := dk_154 0 6 (dk_at dksX2_restore_0 6 rfl rfl)
theorem dX2_restore_9 : decode cX2_restore 9 = .ok (.bipush (-2), 2) := dk_16 254 (dk_at dksX2_restore_0 9 rfl rfl)
theorem dX2_restore_11 : decode cX2_restore 11 = .ok (.ireturn, 1) := dk_172 (dk_at dksX2_restore_0 11 rfl rfl)
theorem dX2_restore_12 : decode cX2_restore 12 = .ok (.aload_n 0, 1) := dk_42 (dk_at dksX2_restore_0 12 rfl rfl)
theorem dX2_restore_13 : decode cX2_restore 13 = .ok (.getfield 56, 3) := dk_180 0 56 (dk_at dksX2_restore_0 13 rfl rfl)
theorem dX2_restore_16 : decode cX2_restore 16 = .ok (.iload_n 1, 1) := dk_27 (dk_at dksX2_restore_0 16 rfl rfl)
theorem dX2_restore_17 : decode cX2_restore 17 = .ok (.baload, 1) := dk_51 (dk_at dksX2_restore_0 17 rfl rfl)
theorem dX2_restore_18 : decode cX2_restore 18 = .ok (.ifCond .ne 6, 3) := dk_154 0 6 (dk_at dksX2_restore_0 18 rfl rfl)
theorem dX2_restore_21 : decode cX2_restore 21 = .ok (.bipush (-3), 2) := dk_16 253 (dk_at dksX2_restore_0 21 rfl rfl)
theorem dX2_restore_23 : decode cX2_restore 23 = .ok (.ireturn, 1) := dk_172 (dk_at dksX2_restore_0 23 rfl rfl)
theorem dX2_restore_24 : decode cX2_restore 24 = .ok (.bipush 110, 2) := dk_16 110 (dk_at dksX2_restore_1 0 rfl rfl)
theorem dX2_restore_26 : decode cX2_restore 26 = .ok (.iload_n 1, 1) := dk_27 (dk_at dksX2_restore_1 2 rfl rfl)
theorem dX2_restore_27 : decode cX2_restore 27 = .ok (.imul, 1) := dk_104 (dk_at dksX2_restore_1 3 rfl rfl)
theorem dX2_restore_28 : decode cX2_restore 28 = .ok (.istore_n 2, 1) := dk_61 (dk_at dksX2_restore_1 4 rfl rfl)
theorem dX2_restore_29 : decode cX2_restore 29 = .ok (.iconst 0, 1) := dk_3 (dk_at dksX2_restore_1 5 rfl rfl)
theorem dX2_restore_30 : decode cX2_restore 30 = .ok (.istore_n 3, 1) := dk_62 (dk_at dksX2_restore_1 6 rfl rfl)
theorem dX2_restore_31 : decode cX2_restore 31 = .ok (.iload_n 3, 1) := dk_29 (dk_at dksX2_restore_1 7 rfl rfl)
theorem dX2_restore_32 : decode cX2_restore 32 = .ok (.bipush 36, 2) := dk_16 36 (dk_at dksX2_restore_1 8 rfl rfl)
theorem dX2_restore_34 : decode cX2_restore 34 = .ok (.if_icmp .ge 23, 3) := dk_162 0 23 (dk_at dksX2_restore_1 10 rfl rfl)
theorem dX2_restore_37 : decode cX2_restore 37 = .ok (.aload_n 0, 1) := dk_42 (dk_at dksX2_restore_1 13 rfl rfl)
theorem dX2_restore_38 : decode cX2_restore 38 = .ok (.getfield 7, 3) := dk_180 0 7 (dk_at dksX2_restore_1 14 rfl rfl)
theorem dX2_restore_41 : decode cX2_restore 41 = .ok (.iload_n 3, 1) := dk_29 (dk_at dksX2_restore_1 17 rfl rfl)
theorem dX2_restore_42 : decode cX2_restore 42 = .ok (.aload_n 0, 1) := dk_42 (dk_at dksX2_restore_1 18 rfl rfl)
theorem dX2_restore_43 : decode cX2_restore 43 = .ok (.getfield 53, 3) := dk_180 0 53 (dk_at dksX2_restore_1 19 rfl rfl)
theorem dX2_restore_46 : decode cX2_restore 46 = .ok (.iload_n 2, 1) := dk_28 (dk_at dksX2_restore_1 22 rfl rfl)
theorem dX2_restore_47 : decode cX2_restore 47 = .ok (.iload_n 3, 1) := dk_29 (dk_at dksX2_restore_1 23 rfl rfl)
theorem dX2_restore_48 : decode cX2_restore 48 = .ok (.iadd, 1) := dk_96 (dk_at dksX2_restore_2 0 rfl rfl)
theorem dX2_restore_49 : decode cX2_restore 49 = .ok (.iaload, 1) := dk_46 (dk_at dksX2_restore_2 1 rfl rfl)
theorem dX2_restore_50 : decode cX2_restore 50 = .ok (.iastore, 1) := dk_79 (dk_at dksX2_restore_2 2 rfl rfl)
theorem dX2_restore_51 : decode cX2_restore 51 = .ok (.iinc 3 1, 3) := dk_132 3 1 (dk_at dksX2_restore_2 3 rfl rfl)
theorem dX2_restore_54 : decode cX2_restore 54 = .ok (.goto (-23), 3) := dk_167 255 233 (dk_at dksX2_restore_2 6 rfl rfl)
theorem dX2_restore_57 : decode cX2_restore 57 = .ok (.iconst 0, 1) := dk_3 (dk_at dksX2_restore_2 9 rfl rfl)
theorem dX2_restore_58 : decode cX2_restore 58 = .ok (.istore_n 3, 1) := dk_62 (dk_at dksX2_restore_2 10 rfl rfl)
theorem dX2_restore_59 : decode cX2_restore 59 = .ok (.iload_n 3, 1) := dk_29 (dk_at dksX2_restore_2 11 rfl rfl)
theorem dX2_restore_60 : decode cX2_restore 60 = .ok (.bipush 8, 2) := dk_16 8 (dk_at dksX2_restore_2 12 rfl rfl)
theorem dX2_restore_62 : decode cX2_restore 62 = .ok (.if_icmp .ge 60, 3) := dk_162 0 60 (dk_at dksX2_restore_2 14 rfl rfl)
theorem dX2_restore_65 : decode cX2_restore 65 = .ok (.aload_n 0, 1) := dk_42 (dk_at dksX2_restore_2 17 rfl rfl)
theorem dX2_restore_66 : decode cX2_restore 66 = .ok (.getfield 16, 3) := dk_180 0 16 (dk_at dksX2_restore_2 18 rfl rfl)
theorem dX2_restore_69 : decode cX2_restore 69 = .ok (.iload_n 3, 1) := dk_29 (dk_at dksX2_restore_2 21 rfl rfl)
theorem dX2_restore_70 : decode cX2_restore 70 = .ok (.aload_n 0, 1) := dk_42 (dk_at dksX2_restore_2 22 rfl rfl)
theorem dX2_restore_71 : decode cX2_restore 71 = .ok (.getfield 53, 3) := dk_180 0 53 (dk_at dksX2_restore_3 0 rfl rfl)
theorem dX2_restore_74 : decode cX2_restore 74 = .ok (.iload_n 2, 1) := dk_28 (dk_at dksX2_restore_3 3 rfl rfl)
theorem dX2_restore_75 : decode cX2_restore 75 = .ok (.bipush 36, 2) := dk_16 36 (dk_at dksX2_restore_3 4 rfl rfl)
theorem dX2_restore_77 : decode cX2_restore 77 = .ok (.iadd, 1) := dk_96 (dk_at dksX2_restore_3 6 rfl rfl)
theorem dX2_restore_78 : decode cX2_restore 78 = .ok (.iload_n 3, 1) := dk_29 (dk_at dksX2_restore_3 7 rfl rfl)
theorem dX2_restore_79 : decode cX2_restore 79 = .ok (.iadd, 1) := dk_96 (dk_at dksX2_restore_3 8 rfl rfl)
theorem dX2_restore_80 : decode cX2_restore 80 = .ok (.iaload, 1) := dk_46 (dk_at dksX2_restore_3 9 rfl rfl)
theorem dX2_restore_81 : decode cX2_restore 81 = .ok (.iastore, 1) := dk_79 (dk_at dksX2_restore_3 10 rfl rfl)
theorem dX2_restore_82 : decode cX2_restore 82 = .ok (.aload_n 0, 1) := dk_42 (dk_at dksX2_restore_3 11 rfl rfl)
theorem dX2_restore_83 : decode cX2_restore 83 = .ok (.getfield 19, 3) := dk_180 0 19 (dk_at dksX2_restore_3 12 rfl rfl)
theorem dX2_restore_86 : decode cX2_restore 86 = .ok (.iload_n 3, 1) := dk_29 (dk_at dksX2_restore_3 15 rfl rfl)
theorem dX2_restore_87 : decode cX2_restore 87 = .ok (.aload_n 0, 1) := dk_42 (dk_at dksX2_restore_3 16 rfl rfl)
theorem dX2_restore_88 : decode cX2_restore 88 = .ok (.getfield 53, 3) := dk_180 0 53 (dk_at dksX2_restore_3 17 rfl rfl)
theorem dX2_restore_91 : decode cX2_restore 91 = .ok (.iload_n 2, 1) := dk_28 (dk_at dksX2_restore_3 20 rfl rfl)
theorem dX2_restore_92 : decode cX2_restore 92 = .ok (.bipush 44, 2) := dk_16 44 (dk_at dksX2_restore_3 21 rfl rfl)
theorem dX2_restore_94 : decode cX2_restore 94 = .ok (.iadd, 1) := dk_96 (dk_at dksX2_restore_3 23 rfl rfl)
theorem dX2_restore_95 : decode cX2_restore 95 = .ok (.iload_n 3, 1) := dk_29 (dk_at dksX2_restore_4 0 rfl rfl)
theorem dX2_restore_96 : decode cX2_restore 96 = .ok (.iadd, 1) := dk_96 (dk_at dksX2_restore_4 1 rfl rfl)
theorem dX2_restore_97 : decode cX2_restore 97 = .ok (.iaload, 1) := dk_46 (dk_at dksX2_restore_4 2 rfl rfl)
theorem dX2_restore_98 : decode cX2_restore 98 = .ok (.iastore, 1) := dk_79 (dk_at dksX2_restore_4 3 rfl rfl)
theorem dX2_restore_99 : decode cX2_restore 99 = .ok (.aload_n 0, 1) := dk_42 (dk_at dksX2_restore_4 4 rfl rfl)
theorem dX2_restore_100 : decode cX2_restore 100 = .ok (.getfield 22, 3) := dk_180 0 22 (dk_at dksX2_restore_4 5 rfl rfl)
theorem dX2_restore_103 : decode cX2_restore 103 = .ok (.iload_n 3, 1) := dk_29 (dk_at dksX2_restore_4 8 rfl rfl)
theorem dX2_restore_104 : decode cX2_restore 104 = .ok (.aload_n 0, 1) := dk_42 (dk_at dksX2_restore_4 9 rfl rfl)
theorem dX2_restore_105 : decode cX2_restore 105 = .ok (.getfield 53, 3) := dk_180 0 53 (dk_at dksX2_restore_4 10 rfl rfl)
theorem dX2_restore_108 : decode cX2_restore 108 = .ok (.iload_n 2, 1) := dk_28 (dk_at dksX2_restore_4 13 rfl rfl)
theorem dX2_restore_109 : decode cX2_restore 109 = .ok (.bipush 52, 2) := dk_16 52 (dk_at dksX2_restore_4 14 rfl rfl)
theorem dX2_restore_111 : decode cX2_restore 111 = .ok (.iadd, 1) := dk_96 (dk_at dksX2_restore_4 16 rfl rfl)
theorem dX2_restore_112 : decode cX2_restore 112 = .ok (.iload_n 3, 1) := dk_29 (dk_at dksX2_restore_4 17 rfl rfl)
theorem dX2_restore_113 : decode cX2_restore 113 = .ok (.iadd, 1) := dk_96 (dk_at dksX2_restore_4 18 rfl rfl)
theorem dX2_restore_114 : decode cX2_restore 114 = .ok (.iaload, 1) := dk_46 (dk_at dksX2_restore_4 19 rfl rfl)
theorem dX2_restore_115 : decode cX2_restore 115 = .ok (.iastore, 1) := dk_79 (dk_at dksX2_restore_4 20 rfl rfl)
theorem dX2_restore_116 : decode cX2_restore 116 = .ok (.iinc 3 1, 3) := dk_132 3 1 (dk_at dksX2_restore_4 21 rfl rfl)
theorem dX2_restore_119 : decode cX2_restore 119 = .ok (.goto (-60), 3) := dk_167 255 196 (dk_at dksX2_restore_5 0 rfl rfl)
theorem dX2_restore_122 : decode cX2_restore 122 = .ok (.iconst 0, 1) := dk_3 (dk_at dksX2_restore_5 3 rfl rfl)
theorem dX2_restore_123 : decode cX2_restore 123 = .ok (.istore_n 3, 1) := dk_62 (dk_at dksX2_restore_5 4 rfl rfl)
theorem dX2_restore_124 : decode cX2_restore 124 = .ok (.iload_n 3, 1) := dk_29 (dk_at dksX2_restore_5 5 rfl rfl)
theorem dX2_restore_125 : decode cX2_restore 125 = .ok (.bipush 10, 2) := dk_16 10 (dk_at dksX2_restore_5 6 rfl rfl)
theorem dX2_restore_127 : decode cX2_restore 127 = .ok (.if_icmp .ge 43, 3) := dk_162 0 43 (dk_at dksX2_restore_5 8 rfl rfl)
theorem dX2_restore_130 : decode cX2_restore 130 = .ok (.aload_n 0, 1) := dk_42 (dk_at dksX2_restore_5 11 rfl rfl)
theorem dX2_restore_131 : decode cX2_restore 131 = .ok (.getfield 25, 3) := dk_180 0 25 (dk_at dksX2_restore_5 12 rfl rfl)
theorem dX2_restore_134 : decode cX2_restore 134 = .ok (.iload_n 3, 1) := dk_29 (dk_at dksX2_restore_5 15 rfl rfl)
theorem dX2_restore_135 : decode cX2_restore 135 = .ok (.aload_n 0, 1) := dk_42 (dk_at dksX2_restore_5 16 rfl rfl)
theorem dX2_restore_136 : decode cX2_restore 136 = .ok (.getfield 53, 3) := dk_180 0 53 (dk_at dksX2_restore_5 17 rfl rfl)
theorem dX2_restore_139 : decode cX2_restore 139 = .ok (.iload_n 2, 1) := dk_28 (dk_at dksX2_restore_5 20 rfl rfl)
theorem dX2_restore_140 : decode cX2_restore 140 = .ok (.bipush 60, 2) := dk_16 60 (dk_at dksX2_restore_5 21 rfl rfl)
theorem dX2_restore_142 : decode cX2_restore 142 = .ok (.iadd, 1) := dk_96 (dk_at dksX2_restore_5 23 rfl rfl)
theorem dX2_restore_143 : decode cX2_restore 143 = .ok (.iload_n 3, 1) := dk_29 (dk_at dksX2_restore_6 0 rfl rfl)
theorem dX2_restore_144 : decode cX2_restore 144 = .ok (.iadd, 1) := dk_96 (dk_at dksX2_restore_6 1 rfl rfl)
theorem dX2_restore_145 : decode cX2_restore 145 = .ok (.iaload, 1) := dk_46 (dk_at dksX2_restore_6 2 rfl rfl)
theorem dX2_restore_146 : decode cX2_restore 146 = .ok (.iastore, 1) := dk_79 (dk_at dksX2_restore_6 3 rfl rfl)
theorem dX2_restore_147 : decode cX2_restore 147 = .ok (.aload_n 0, 1) := dk_42 (dk_at dksX2_restore_6 4 rfl rfl)
theorem dX2_restore_148 : decode cX2_restore 148 = .ok (.getfield 28, 3) := dk_180 0 28 (dk_at dksX2_restore_6 5 rfl rfl)
theorem dX2_restore_151 : decode cX2_restore 151 = .ok (.iload_n 3, 1) := dk_29 (dk_at dksX2_restore_6 8 rfl rfl)
theorem dX2_restore_152 : decode cX2_restore 152 = .ok (.aload_n 0, 1) := dk_42 (dk_at dksX2_restore_6 9 rfl rfl)
theorem dX2_restore_153 : decode cX2_restore 153 = .ok (.getfield 53, 3) := dk_180 0 53 (dk_at dksX2_restore_6 10 rfl rfl)
theorem dX2_restore_156 : decode cX2_restore 156 = .ok (.iload_n 2, 1) := dk_28 (dk_at dksX2_restore_6 13 rfl rfl)
theorem dX2_restore_157 : decode cX2_restore 157 = .ok (.bipush 70, 2) := dk_16 70 (dk_at dksX2_restore_6 14 rfl rfl)
theorem dX2_restore_159 : decode cX2_restore 159 = .ok (.iadd, 1) := dk_96 (dk_at dksX2_restore_6 16 rfl rfl)
theorem dX2_restore_160 : decode cX2_restore 160 = .ok (.iload_n 3, 1) := dk_29 (dk_at dksX2_restore_6 17 rfl rfl)
theorem dX2_restore_161 : decode cX2_restore 161 = .ok (.iadd, 1) := dk_96 (dk_at dksX2_restore_6 18 rfl rfl)
theorem dX2_restore_162 : decode cX2_restore 162 = .ok (.iaload, 1) := dk_46 (dk_at dksX2_restore_6 19 rfl rfl)
theorem dX2_restore_163 : decode cX2_restore 163 = .ok (.iastore, 1) := dk_79 (dk_at dksX2_restore_6 20 rfl rfl)
theorem dX2_restore_164 : decode cX2_restore 164 = .ok (.iinc 3 1, 3) := dk_132 3 1 (dk_at dksX2_restore_6 21 rfl rfl)
theorem dX2_restore_167 : decode cX2_restore 167 = .ok (.goto (-43), 3) := dk_167 255 213 (dk_at dksX2_restore_7 0 rfl rfl)
theorem dX2_restore_170 : decode cX2_restore 170 = .ok (.iconst 0, 1) := dk_3 (dk_at dksX2_restore_7 3 rfl rfl)
theorem dX2_restore_171 : decode cX2_restore 171 = .ok (.istore_n 3, 1) := dk_62 (dk_at dksX2_restore_7 4 rfl rfl)
theorem dX2_restore_172 : decode cX2_restore 172 = .ok (.iload_n 3, 1) := dk_29 (dk_at dksX2_restore_7 5 rfl rfl)
theorem dX2_restore_173 : decode cX2_restore 173 = .ok (.bipush 16, 2) := dk_16 16 (dk_at dksX2_restore_7 6 rfl rfl)
theorem dX2_restore_175 : decode cX2_restore 175 = .ok (.if_icmp .ge 26, 3) := dk_162 0 26 (dk_at dksX2_restore_7 8 rfl rfl)
theorem dX2_restore_178 : decode cX2_restore 178 = .ok (.aload_n 0, 1) := dk_42 (dk_at dksX2_restore_7 11 rfl rfl)
theorem dX2_restore_179 : decode cX2_restore 179 = .ok (.getfield 31, 3) := dk_180 0 31 (dk_at dksX2_restore_7 12 rfl rfl)
theorem dX2_restore_182 : decode cX2_restore 182 = .ok (.iload_n 3, 1) := dk_29 (dk_at dksX2_restore_7 15 rfl rfl)
theorem dX2_restore_183 : decode cX2_restore 183 = .ok (.aload_n 0, 1) := dk_42 (dk_at dksX2_restore_7 16 rfl rfl)
theorem dX2_restore_184 : decode cX2_restore 184 = .ok (.getfield 53, 3) := dk_180 0 53 (dk_at dksX2_restore_7 17 rfl rfl)
theorem dX2_restore_187 : decode cX2_restore 187 = .ok (.iload_n 2, 1) := dk_28 (dk_at dksX2_restore_7 20 rfl rfl)
theorem dX2_restore_188 : decode cX2_restore 188 = .ok (.bipush 80, 2) := dk_16 80 (dk_at dksX2_restore_7 21 rfl rfl)
theorem dX2_restore_190 : decode cX2_restore 190 = .ok (.iadd, 1) := dk_96 (dk_at dksX2_restore_7 23 rfl rfl)
theorem dX2_restore_191 : decode cX2_restore 191 = .ok (.iload_n 3, 1) := dk_29 (dk_at dksX2_restore_8 0 rfl rfl)
theorem dX2_restore_192 : decode cX2_restore 192 = .ok (.iadd, 1) := dk_96 (dk_at dksX2_restore_8 1 rfl rfl)
theorem dX2_restore_193 : decode cX2_restore 193 = .ok (.iaload, 1) := dk_46 (dk_at dksX2_restore_8 2 rfl rfl)
theorem dX2_restore_194 : decode cX2_restore 194 = .ok (.iastore, 1) := dk_79 (dk_at dksX2_restore_8 3 rfl rfl)
theorem dX2_restore_195 : decode cX2_restore 195 = .ok (.iinc 3 1, 3) := dk_132 3 1 (dk_at dksX2_restore_8 4 rfl rfl)
theorem dX2_restore_198 : decode cX2_restore 198 = .ok (.goto (-26), 3) := dk_167 255 230 (dk_at dksX2_restore_8 7 rfl rfl)
theorem dX2_restore_201 : decode cX2_restore 201 = .ok (.aload_n 0, 1) := dk_42 (dk_at dksX2_restore_8 10 rfl rfl)
theorem dX2_restore_202 : decode cX2_restore 202 = .ok (.aload_n 0, 1) := dk_42 (dk_at dksX2_restore_8 11 rfl rfl)
theorem dX2_restore_203 : decode cX2_restore 203 = .ok (.getfield 53, 3) := dk_180 0 53 (dk_at dksX2_restore_8 12 rfl rfl)
theorem dX2_restore_206 : decode cX2_restore 206 = .ok (.iload_n 2, 1) := dk_28 (dk_at dksX2_restore_8 15 rfl rfl)
theorem dX2_restore_207 : decode cX2_restore 207 = .ok (.bipush 100, 2) := dk_16 100 (dk_at dksX2_restore_8 16 rfl rfl)
theorem dX2_restore_209 : decode cX2_restore 209 = .ok (.iadd, 1) := dk_96 (dk_at dksX2_restore_8 18 rfl rfl)
theorem dX2_restore_210 : decode cX2_restore 210 = .ok (.iaload, 1) := dk_46 (dk_at dksX2_restore_8 19 rfl rfl)
theorem dX2_restore_211 : decode cX2_restore 211 = .ok (.putfield 63, 3) := dk_181 0 63 (dk_at dksX2_restore_8 20 rfl rfl)
theorem dX2_restore_214 : decode cX2_restore 214 = .ok (.aload_n 0, 1) := dk_42 (dk_at dksX2_restore_8 23 rfl rfl)
theorem dX2_restore_215 : decode cX2_restore 215 = .ok (.aload_n 0, 1) := dk_42 (dk_at dksX2_restore_9 0 rfl rfl)
theorem dX2_restore_216 : decode cX2_restore 216 = .ok (.getfield 53, 3) := dk_180 0 53 (dk_at dksX2_restore_9 1 rfl rfl)
theorem dX2_restore_219 : decode cX2_restore 219 = .ok (.iload_n 2, 1) := dk_28 (dk_at dksX2_restore_9 4 rfl rfl)
theorem dX2_restore_220 : decode cX2_restore 220 = .ok (.bipush 101, 2) := dk_16 101 (dk_at dksX2_restore_9 5 rfl rfl)
theorem dX2_restore_222 : decode cX2_restore 222 = .ok (.iadd, 1) := dk_96 (dk_at dksX2_restore_9 7 rfl rfl)
theorem dX2_restore_223 : decode cX2_restore 223 = .ok (.iaload, 1) := dk_46 (dk_at dksX2_restore_9 8 rfl rfl)
theorem dX2_restore_224 : decode cX2_restore 224 = .ok (.putfield 79, 3) := dk_181 0 79 (dk_at dksX2_restore_9 9 rfl rfl)
theorem dX2_restore_227 : decode cX2_restore 227 = .ok (.aload_n 0, 1) := dk_42 (dk_at dksX2_restore_9 12 rfl rfl)
theorem dX2_restore_228 : decode cX2_restore 228 = .ok (.aload_n 0, 1) := dk_42 (dk_at dksX2_restore_9 13 rfl rfl)
theorem dX2_restore_229 : decode cX2_restore 229 = .ok (.getfield 53, 3) := dk_180 0 53 (dk_at dksX2_restore_9 14 rfl rfl)
theorem dX2_restore_232 : decode cX2_restore 232 = .ok (.iload_n 2, 1) := dk_28 (dk_at dksX2_restore_9 17 rfl rfl)
theorem dX2_restore_233 : decode cX2_restore 233 = .ok (.bipush 102, 2) := dk_16 102 (dk_at dksX2_restore_9 18 rfl rfl)
theorem dX2_restore_235 : decode cX2_restore 235 = .ok (.iadd, 1) := dk_96 (dk_at dksX2_restore_9 20 rfl rfl)
theorem dX2_restore_236 : decode cX2_restore 236 = .ok (.iaload, 1) := dk_46 (dk_at dksX2_restore_9 21 rfl rfl)
theorem dX2_restore_237 : decode cX2_restore 237 = .ok (.putfield 160, 3) := dk_181 0 160 (dk_at dksX2_restore_10 0 rfl rfl)
theorem dX2_restore_240 : decode cX2_restore 240 = .ok (.iconst 1, 1) := dk_4 (dk_at dksX2_restore_10 3 rfl rfl)
theorem dX2_restore_241 : decode cX2_restore 241 = .ok (.ireturn, 1) := dk_172 (dk_at dksX2_restore_10 4 rfl rfl)
abbrev cX2_told : ByteArray := prog_4_method_59_code
def yX2_told : MethodName := ⟨RX2, "told", "(I)I"⟩
def dkwX2_told_8 : List UInt8 := [180, 0, 160, 167, 0, 5, 16, 254, 172]
abbrev dktX2_told_8 : List UInt8 := dkwX2_told_8 ++ []
def dkwX2_told_7 : List UInt8 := [16, 35, 46, 172, 42, 180, 0, 7, 16, 34, 46, 172, 42, 180, 0, 79, 172, 27, 16, 6, 160, 0, 10, 42]
abbrev dktX2_told_7 : List UInt8 := dkwX2_told_7 ++ dktX2_told_8
def dkwX2_told_6 : List UInt8 := [42, 180, 0, 85, 172, 42, 180, 0, 63, 172, 42, 182, 0, 110, 42, 182, 0, 116, 172, 42, 180, 0, 7]
abbrev dktX2_told_6 : List UInt8 := dkwX2_told_6 ++ dktX2_told_7
def dkwX2_told_5 : List UInt8 := [170, 0, 0, 0, 0, 0, 79, 0, 0, 0, 0, 0, 0, 0, 5, 0, 0, 0, 39, 0, 0, 0, 44, 0, 0, 0, 49, 0, 0, 0, 58, 0, 0, 0, 66, 0, 0, 0, 74]
abbrev dktX2_told_5 : List UInt8 := dkwX2_told_5 ++ dktX2_told_6
def dkwX2_told_4 : List UInt8 := [27]
abbrev dktX2_told_4 : List UInt8 := dkwX2_told_4 ++ dktX2_told_5
def dkwX2_told_3 : List UInt8 := [28, 46, 172, 27, 16, 10, 161, 0, 18, 42, 27, 16, 10, 108, 4, 100, 27, 16, 10, 112, 182, 0, 185, 172]
abbrev dktX2_told_3 : List UInt8 := dkwX2_told_3 ++ dktX2_told_4
def dkwX2_told_2 : List UInt8 := [27, 16, 10, 112, 4, 160, 0, 15, 42, 180, 0, 7, 16, 24, 28, 96, 46, 167, 0, 9, 42, 180, 0, 25]
abbrev dktX2_told_2 : List UInt8 := dkwX2_told_2 ++ dktX2_told_3
def dkwX2_told_1 : List UInt8 := [112, 5, 164, 0, 6, 16, 254, 172, 27, 16, 10, 112, 154, 0, 12, 42, 180, 0, 28, 28, 46, 167, 0, 29]
abbrev dktX2_told_1 : List UInt8 := dkwX2_told_1 ++ dktX2_told_2
def dkwX2_told_0 : List UInt8 := [27, 16, 100, 161, 0, 72, 27, 16, 10, 108, 16, 10, 100, 61, 28, 184, 0, 71, 153, 0, 11, 27, 16, 10]
abbrev dktX2_told_0 : List UInt8 := dkwX2_told_0 ++ dktX2_told_1
theorem dksX2_told_0 : cX2_told.data.toList.drop 0 = dktX2_told_0 := by decide +kernel
theorem dksX2_told_1 : cX2_told.data.toList.drop 24 = dktX2_told_1 := dk_seg dksX2_told_0 24 rfl rfl
theorem dksX2_told_2 : cX2_told.data.toList.drop 48 = dktX2_told_2 := dk_seg dksX2_told_1 24 rfl rfl
theorem dksX2_told_3 : cX2_told.data.toList.drop 72 = dktX2_told_3 := dk_seg dksX2_told_2 24 rfl rfl
theorem dksX2_told_4 : cX2_told.data.toList.drop 96 = dktX2_told_4 := dk_seg dksX2_told_3 24 rfl rfl
theorem dksX2_told_5 : cX2_told.data.toList.drop 97 = dktX2_told_5 := dk_seg dksX2_told_4 1 rfl rfl
theorem dksX2_told_6 : cX2_told.data.toList.drop 136 = dktX2_told_6 := dk_seg dksX2_told_5 39 rfl rfl
theorem dksX2_told_7 : cX2_told.data.toList.drop 159 = dktX2_told_7 := dk_seg dksX2_told_6 23 rfl rfl
theorem dksX2_told_8 : cX2_told.data.toList.drop 183 = dktX2_told_8 := dk_seg dksX2_told_7 24 rfl rfl
theorem dX2_told_0 : decode cX2_told 0 = .ok (.iload_n 1, 1) := dk_27 (dk_at dksX2_told_0 0 rfl rfl)
theorem dX2_told_1 : decode cX2_told 1 = .ok (.bipush 100, 2) := dk_16 100 (dk_at dksX2_told_0 1 rfl rfl)
theorem dX2_told_3 : decode cX2_told 3 = .ok (.if_icmp .lt 72, 3) := dk_161 0 72 (dk_at dksX2_told_0 3 rfl rfl)
theorem dX2_told_6 : decode cX2_told 6 = .ok (.iload_n 1, 1) := dk_27 (dk_at dksX2_told_0 6 rfl rfl)
theorem dX2_told_7 : decode cX2_told 7 = .ok (.bipush 10, 2) := dk_16 10 (dk_at dksX2_told_0 7 rfl rfl)
theorem dX2_told_9 : decode cX2_told 9 = .ok (.idiv, 1) := dk_108 (dk_at dksX2_told_0 9 rfl rfl)
theorem dX2_told_10 : decode cX2_told 10 = .ok (.bipush 10, 2) := dk_16 10 (dk_at dksX2_told_0 10 rfl rfl)
theorem dX2_told_12 : decode cX2_told 12 = .ok (.isub, 1) := dk_100 (dk_at dksX2_told_0 12 rfl rfl)
theorem dX2_told_13 : decode cX2_told 13 = .ok (.istore_n 2, 1) := dk_61 (dk_at dksX2_told_0 13 rfl rfl)
theorem dX2_told_14 : decode cX2_told 14 = .ok (.iload_n 2, 1) := dk_28 (dk_at dksX2_told_0 14 rfl rfl)
theorem dX2_told_15 : decode cX2_told 15 = .ok (.invokestatic 71, 3) := dk_184 0 71 (dk_at dksX2_told_0 15 rfl rfl)
theorem dX2_told_18 : decode cX2_told 18 = .ok (.ifCond .eq 11, 3) := dk_153 0 11 (dk_at dksX2_told_0 18 rfl rfl)
theorem dX2_told_21 : decode cX2_told 21 = .ok (.iload_n 1, 1) := dk_27 (dk_at dksX2_told_0 21 rfl rfl)
theorem dX2_told_22 : decode cX2_told 22 = .ok (.bipush 10, 2) := dk_16 10 (dk_at dksX2_told_0 22 rfl rfl)
theorem dX2_told_24 : decode cX2_told 24 = .ok (.irem, 1) := dk_112 (dk_at dksX2_told_1 0 rfl rfl)
theorem dX2_told_25 : decode cX2_told 25 = .ok (.iconst 2, 1) := dk_5 (dk_at dksX2_told_1 1 rfl rfl)
theorem dX2_told_26 : decode cX2_told 26 = .ok (.if_icmp .le 6, 3) := dk_164 0 6 (dk_at dksX2_told_1 2 rfl rfl)
theorem dX2_told_29 : decode cX2_told 29 = .ok (.bipush (-2), 2) := dk_16 254 (dk_at dksX2_told_1 5 rfl rfl)
theorem dX2_told_31 : decode cX2_told 31 = .ok (.ireturn, 1) := dk_172 (dk_at dksX2_told_1 7 rfl rfl)
theorem dX2_told_32 : decode cX2_told 32 = .ok (.iload_n 1, 1) := dk_27 (dk_at dksX2_told_1 8 rfl rfl)
theorem dX2_told_33 : decode cX2_told 33 = .ok (.bipush 10, 2) := dk_16 10 (dk_at dksX2_told_1 9 rfl rfl)
theorem dX2_told_35 : decode cX2_told 35 = .ok (.irem, 1) := dk_112 (dk_at dksX2_told_1 11 rfl rfl)
theorem dX2_told_36 : decode cX2_told 36 = .ok (.ifCond .ne 12, 3) := dk_154 0 12 (dk_at dksX2_told_1 12 rfl rfl)
theorem dX2_told_39 : decode cX2_told 39 = .ok (.aload_n 0, 1) := dk_42 (dk_at dksX2_told_1 15 rfl rfl)
theorem dX2_told_40 : decode cX2_told 40 = .ok (.getfield 28, 3) := dk_180 0 28 (dk_at dksX2_told_1 16 rfl rfl)
theorem dX2_told_43 : decode cX2_told 43 = .ok (.iload_n 2, 1) := dk_28 (dk_at dksX2_told_1 19 rfl rfl)
theorem dX2_told_44 : decode cX2_told 44 = .ok (.iaload, 1) := dk_46 (dk_at dksX2_told_1 20 rfl rfl)
theorem dX2_told_45 : decode cX2_told 45 = .ok (.goto 29, 3) := dk_167 0 29 (dk_at dksX2_told_1 21 rfl rfl)
theorem dX2_told_48 : decode cX2_told 48 = .ok (.iload_n 1, 1) := dk_27 (dk_at dksX2_told_2 0 rfl rfl)
theorem dX2_told_49 : decode cX2_told 49 = .ok (.bipush 10, 2) := dk_16 10 (dk_at dksX2_told_2 1 rfl rfl)
theorem dX2_told_51 : decode cX2_told 51 = .ok (.irem, 1) := dk_112 (dk_at dksX2_told_2 3 rfl rfl)
theorem dX2_told_52 : decode cX2_told 52 = .ok (.iconst 1, 1) := dk_4 (dk_at dksX2_told_2 4 rfl rfl)
theorem dX2_told_53 : decode cX2_told 53 = .ok (.if_icmp .ne 15, 3) := dk_160 0 15 (dk_at dksX2_told_2 5 rfl rfl)
theorem dX2_told_56 : decode cX2_told 56 = .ok (.aload_n 0, 1) := dk_42 (dk_at dksX2_told_2 8 rfl rfl)
theorem dX2_told_57 : decode cX2_told 57 = .ok (.getfield 7, 3) := dk_180 0 7 (dk_at dksX2_told_2 9 rfl rfl)
theorem dX2_told_60 : decode cX2_told 60 = .ok (.bipush 24, 2) := dk_16 24 (dk_at dksX2_told_2 12 rfl rfl)
theorem dX2_told_62 : decode cX2_told 62 = .ok (.iload_n 2, 1) := dk_28 (dk_at dksX2_told_2 14 rfl rfl)
theorem dX2_told_63 : decode cX2_told 63 = .ok (.iadd, 1) := dk_96 (dk_at dksX2_told_2 15 rfl rfl)
theorem dX2_told_64 : decode cX2_told 64 = .ok (.iaload, 1) := dk_46 (dk_at dksX2_told_2 16 rfl rfl)
theorem dX2_told_65 : decode cX2_told 65 = .ok (.goto 9, 3) := dk_167 0 9 (dk_at dksX2_told_2 17 rfl rfl)
theorem dX2_told_68 : decode cX2_told 68 = .ok (.aload_n 0, 1) := dk_42 (dk_at dksX2_told_2 20 rfl rfl)
theorem dX2_told_69 : decode cX2_told 69 = .ok (.getfield 25, 3) := dk_180 0 25 (dk_at dksX2_told_2 21 rfl rfl)
theorem dX2_told_72 : decode cX2_told 72 = .ok (.iload_n 2, 1) := dk_28 (dk_at dksX2_told_3 0 rfl rfl)
theorem dX2_told_73 : decode cX2_told 73 = .ok (.iaload, 1) := dk_46 (dk_at dksX2_told_3 1 rfl rfl)
theorem dX2_told_74 : decode cX2_told 74 = .ok (.ireturn, 1) := dk_172 (dk_at dksX2_told_3 2 rfl rfl)
theorem dX2_told_75 : decode cX2_told 75 = .ok (.iload_n 1, 1) := dk_27 (dk_at dksX2_told_3 3 rfl rfl)
theorem dX2_told_76 : decode cX2_told 76 = .ok (.bipush 10, 2) := dk_16 10 (dk_at dksX2_told_3 4 rfl rfl)
theorem dX2_told_78 : decode cX2_told 78 = .ok (.if_icmp .lt 18, 3) := dk_161 0 18 (dk_at dksX2_told_3 6 rfl rfl)
theorem dX2_told_81 : decode cX2_told 81 = .ok (.aload_n 0, 1) := dk_42 (dk_at dksX2_told_3 9 rfl rfl)
theorem dX2_told_82 : decode cX2_told 82 = .ok (.iload_n 1, 1) := dk_27 (dk_at dksX2_told_3 10 rfl rfl)
theorem dX2_told_83 : decode cX2_told 83 = .ok (.bipush 10, 2) := dk_16 10 (dk_at dksX2_told_3 11 rfl rfl)
theorem dX2_told_85 : decode cX2_told 85 = .ok (.idiv, 1) := dk_108 (dk_at dksX2_told_3 13 rfl rfl)
theorem dX2_told_86 : decode cX2_told 86 = .ok (.iconst 1, 1) := dk_4 (dk_at dksX2_told_3 14 rfl rfl)
theorem dX2_told_87 : decode cX2_told 87 = .ok (.isub, 1) := dk_100 (dk_at dksX2_told_3 15 rfl rfl)
theorem dX2_told_88 : decode cX2_told 88 = .ok (.iload_n 1, 1) := dk_27 (dk_at dksX2_told_3 16 rfl rfl)
theorem dX2_told_89 : decode cX2_told 89 = .ok (.bipush 10, 2) := dk_16 10 (dk_at dksX2_told_3 17 rfl rfl)
theorem dX2_told_91 : decode cX2_told 91 = .ok (.irem, 1) := dk_112 (dk_at dksX2_told_3 19 rfl rfl)
theorem dX2_told_92 : decode cX2_told 92 = .ok (.invokevirtual 185, 3) := dk_182 0 185 (dk_at dksX2_told_3 20 rfl rfl)
theorem dX2_told_95 : decode cX2_told 95 = .ok (.ireturn, 1) := dk_172 (dk_at dksX2_told_3 23 rfl rfl)
theorem dX2_told_96 : decode cX2_told 96 = .ok (.iload_n 1, 1) := dk_27 (dk_at dksX2_told_4 0 rfl rfl)
theorem dX2_told_97 : decode cX2_told 97 = .ok (.tableswitch 79 0 5 #[39, 44, 49, 58, 66, 74], 39) := by decide +kernel
theorem dX2_told_136 : decode cX2_told 136 = .ok (.aload_n 0, 1) := dk_42 (dk_at dksX2_told_6 0 rfl rfl)
theorem dX2_told_137 : decode cX2_told 137 = .ok (.getfield 85, 3) := dk_180 0 85 (dk_at dksX2_told_6 1 rfl rfl)
theorem dX2_told_140 : decode cX2_told 140 = .ok (.ireturn, 1) := dk_172 (dk_at dksX2_told_6 4 rfl rfl)
theorem dX2_told_141 : decode cX2_told 141 = .ok (.aload_n 0, 1) := dk_42 (dk_at dksX2_told_6 5 rfl rfl)
theorem dX2_told_142 : decode cX2_told 142 = .ok (.getfield 63, 3) := dk_180 0 63 (dk_at dksX2_told_6 6 rfl rfl)
theorem dX2_told_145 : decode cX2_told 145 = .ok (.ireturn, 1) := dk_172 (dk_at dksX2_told_6 9 rfl rfl)
theorem dX2_told_146 : decode cX2_told 146 = .ok (.aload_n 0, 1) := dk_42 (dk_at dksX2_told_6 10 rfl rfl)
theorem dX2_told_147 : decode cX2_told 147 = .ok (.invokevirtual 110, 3) := dk_182 0 110 (dk_at dksX2_told_6 11 rfl rfl)
theorem dX2_told_150 : decode cX2_told 150 = .ok (.aload_n 0, 1) := dk_42 (dk_at dksX2_told_6 14 rfl rfl)
theorem dX2_told_151 : decode cX2_told 151 = .ok (.invokevirtual 116, 3) := dk_182 0 116 (dk_at dksX2_told_6 15 rfl rfl)
theorem dX2_told_154 : decode cX2_told 154 = .ok (.ireturn, 1) := dk_172 (dk_at dksX2_told_6 18 rfl rfl)
theorem dX2_told_155 : decode cX2_told 155 = .ok (.aload_n 0, 1) := dk_42 (dk_at dksX2_told_6 19 rfl rfl)
theorem dX2_told_156 : decode cX2_told 156 = .ok (.getfield 7, 3) := dk_180 0 7 (dk_at dksX2_told_6 20 rfl rfl)
theorem dX2_told_159 : decode cX2_told 159 = .ok (.bipush 35, 2) := dk_16 35 (dk_at dksX2_told_7 0 rfl rfl)
theorem dX2_told_161 : decode cX2_told 161 = .ok (.iaload, 1) := dk_46 (dk_at dksX2_told_7 2 rfl rfl)
theorem dX2_told_162 : decode cX2_told 162 = .ok (.ireturn, 1) := dk_172 (dk_at dksX2_told_7 3 rfl rfl)
theorem dX2_told_163 : decode cX2_told 163 = .ok (.aload_n 0, 1) := dk_42 (dk_at dksX2_told_7 4 rfl rfl)
theorem dX2_told_164 : decode cX2_told 164 = .ok (.getfield 7, 3) := dk_180 0 7 (dk_at dksX2_told_7 5 rfl rfl)
theorem dX2_told_167 : decode cX2_told 167 = .ok (.bipush 34, 2) := dk_16 34 (dk_at dksX2_told_7 8 rfl rfl)
theorem dX2_told_169 : decode cX2_told 169 = .ok (.iaload, 1) := dk_46 (dk_at dksX2_told_7 10 rfl rfl)
theorem dX2_told_170 : decode cX2_told 170 = .ok (.ireturn, 1) := dk_172 (dk_at dksX2_told_7 11 rfl rfl)
theorem dX2_told_171 : decode cX2_told 171 = .ok (.aload_n 0, 1) := dk_42 (dk_at dksX2_told_7 12 rfl rfl)
theorem dX2_told_172 : decode cX2_told 172 = .ok (.getfield 79, 3) := dk_180 0 79 (dk_at dksX2_told_7 13 rfl rfl)
theorem dX2_told_175 : decode cX2_told 175 = .ok (.ireturn, 1) := dk_172 (dk_at dksX2_told_7 16 rfl rfl)
theorem dX2_told_176 : decode cX2_told 176 = .ok (.iload_n 1, 1) := dk_27 (dk_at dksX2_told_7 17 rfl rfl)
theorem dX2_told_177 : decode cX2_told 177 = .ok (.bipush 6, 2) := dk_16 6 (dk_at dksX2_told_7 18 rfl rfl)
theorem dX2_told_179 : decode cX2_told 179 = .ok (.if_icmp .ne 10, 3) := dk_160 0 10 (dk_at dksX2_told_7 20 rfl rfl)
theorem dX2_told_182 : decode cX2_told 182 = .ok (.aload_n 0, 1) := dk_42 (dk_at dksX2_told_7 23 rfl rfl)
theorem dX2_told_183 : decode cX2_told 183 = .ok (.getfield 160, 3) := dk_180 0 160 (dk_at dksX2_told_8 0 rfl rfl)
theorem dX2_told_186 : decode cX2_told 186 = .ok (.goto 5, 3) := dk_167 0 5 (dk_at dksX2_told_8 3 rfl rfl)
theorem dX2_told_189 : decode cX2_told 189 = .ok (.bipush (-2), 2) := dk_16 254 (dk_at dksX2_told_8 6 rfl rfl)
theorem dX2_told_191 : decode cX2_told 191 = .ok (.ireturn, 1) := dk_172 (dk_at dksX2_told_8 8 rfl rfl)
abbrev cX2_toldVoice : ByteArray := prog_4_method_58_code
def yX2_toldVoice : MethodName := ⟨RX2, "toldVoice", "(II)I"⟩
def dkwX2_toldVoice_4 : List UInt8 := [180, 0, 7, 27, 46, 167, 0, 5, 16, 254, 172]
abbrev dktX2_toldVoice_4 : List UInt8 := dkwX2_toldVoice_4 ++ []
def dkwX2_toldVoice_3 : List UInt8 := [42, 180, 0, 22, 27, 46, 172, 42, 180, 0, 7, 16, 16, 27, 96, 46, 172, 28, 8, 160, 0, 12, 42]
abbrev dktX2_toldVoice_3 : List UInt8 := dkwX2_toldVoice_3 ++ dktX2_toldVoice_4
def dkwX2_toldVoice_2 : List UInt8 := [42, 180, 0, 16, 27, 46, 172, 42, 180, 0, 19, 27, 46, 172, 42, 180, 0, 7, 16, 8, 27, 96, 46, 172]
abbrev dktX2_toldVoice_2 : List UInt8 := dkwX2_toldVoice_2 ++ dktX2_toldVoice_3
def dkwX2_toldVoice_1 : List UInt8 := [170, 0, 0, 0, 0, 0, 0, 77, 0, 0, 0, 0, 0, 0, 0, 4, 0, 0, 0, 36, 0, 0, 0, 43, 0, 0, 0, 50, 0, 0, 0, 60, 0, 0, 0, 67]
abbrev dktX2_toldVoice_1 : List UInt8 := dkwX2_toldVoice_1 ++ dktX2_toldVoice_2
def dkwX2_toldVoice_0 : List UInt8 := [42, 27, 182, 0, 82, 154, 0, 6, 16, 254, 172, 28]
abbrev dktX2_toldVoice_0 : List UInt8 := dkwX2_toldVoice_0 ++ dktX2_toldVoice_1
theorem dksX2_toldVoice_0 : cX2_toldVoice.data.toList.drop 0 = dktX2_toldVoice_0 := by decide +kernel
theorem dksX2_toldVoice_1 : cX2_toldVoice.data.toList.drop 12 = dktX2_toldVoice_1 := dk_seg dksX2_toldVoice_0 12 rfl rfl
theorem dksX2_toldVoice_2 : cX2_toldVoice.data.toList.drop 48 = dktX2_toldVoice_2 := dk_seg dksX2_toldVoice_1 36 rfl rfl
theorem dksX2_toldVoice_3 : cX2_toldVoice.data.toList.drop 72 = dktX2_toldVoice_3 := dk_seg dksX2_toldVoice_2 24 rfl rfl
theorem dksX2_toldVoice_4 : cX2_toldVoice.data.toList.drop 95 = dktX2_toldVoice_4 := dk_seg dksX2_toldVoice_3 23 rfl rfl
theorem dX2_toldVoice_0 : decode cX2_toldVoice 0 = .ok (.aload_n 0, 1) := dk_42 (dk_at dksX2_toldVoice_0 0 rfl rfl)
theorem dX2_toldVoice_1 : decode cX2_toldVoice 1 = .ok (.iload_n 1, 1) := dk_27 (dk_at dksX2_toldVoice_0 1 rfl rfl)
theorem dX2_toldVoice_2 : decode cX2_toldVoice 2 = .ok (.invokevirtual 82, 3) := dk_182 0 82 (dk_at dksX2_toldVoice_0 2 rfl rfl)
theorem dX2_toldVoice_5 : decode cX2_toldVoice 5 = .ok (.ifCond .ne 6, 3) := dk_154 0 6 (dk_at dksX2_toldVoice_0 5 rfl rfl)
theorem dX2_toldVoice_8 : decode cX2_toldVoice 8 = .ok (.bipush (-2), 2) := dk_16 254 (dk_at dksX2_toldVoice_0 8 rfl rfl)
theorem dX2_toldVoice_10 : decode cX2_toldVoice 10 = .ok (.ireturn, 1) := dk_172 (dk_at dksX2_toldVoice_0 10 rfl rfl)
theorem dX2_toldVoice_11 : decode cX2_toldVoice 11 = .ok (.iload_n 2, 1) := dk_28 (dk_at dksX2_toldVoice_0 11 rfl rfl)
theorem dX2_toldVoice_12 : decode cX2_toldVoice 12 = .ok (.tableswitch 77 0 4 #[36, 43, 50, 60, 67], 36) := by decide +kernel
theorem dX2_toldVoice_48 : decode cX2_toldVoice 48 = .ok (.aload_n 0, 1) := dk_42 (dk_at dksX2_toldVoice_2 0 rfl rfl)
theorem dX2_toldVoice_49 : decode cX2_toldVoice 49 = .ok (.getfield 16, 3) := dk_180 0 16 (dk_at dksX2_toldVoice_2 1 rfl rfl)
theorem dX2_toldVoice_52 : decode cX2_toldVoice 52 = .ok (.iload_n 1, 1) := dk_27 (dk_at dksX2_toldVoice_2 4 rfl rfl)
theorem dX2_toldVoice_53 : decode cX2_toldVoice 53 = .ok (.iaload, 1) := dk_46 (dk_at dksX2_toldVoice_2 5 rfl rfl)
theorem dX2_toldVoice_54 : decode cX2_toldVoice 54 = .ok (.ireturn, 1) := dk_172 (dk_at dksX2_toldVoice_2 6 rfl rfl)
theorem dX2_toldVoice_55 : decode cX2_toldVoice 55 = .ok (.aload_n 0, 1) := dk_42 (dk_at dksX2_toldVoice_2 7 rfl rfl)
theorem dX2_toldVoice_56 : decode cX2_toldVoice 56 = .ok (.getfield 19, 3) := dk_180 0 19 (dk_at dksX2_toldVoice_2 8 rfl rfl)
theorem dX2_toldVoice_59 : decode cX2_toldVoice 59 = .ok (.iload_n 1, 1) := dk_27 (dk_at dksX2_toldVoice_2 11 rfl rfl)
theorem dX2_toldVoice_60 : decode cX2_toldVoice 60 = .ok (.iaload, 1) := dk_46 (dk_at dksX2_toldVoice_2 12 rfl rfl)
theorem dX2_toldVoice_61 : decode cX2_toldVoice 61 = .ok (.ireturn, 1) := dk_172 (dk_at dksX2_toldVoice_2 13 rfl rfl)
theorem dX2_toldVoice_62 : decode cX2_toldVoice 62 = .ok (.aload_n 0, 1) := dk_42 (dk_at dksX2_toldVoice_2 14 rfl rfl)
theorem dX2_toldVoice_63 : decode cX2_toldVoice 63 = .ok (.getfield 7, 3) := dk_180 0 7 (dk_at dksX2_toldVoice_2 15 rfl rfl)
theorem dX2_toldVoice_66 : decode cX2_toldVoice 66 = .ok (.bipush 8, 2) := dk_16 8 (dk_at dksX2_toldVoice_2 18 rfl rfl)
theorem dX2_toldVoice_68 : decode cX2_toldVoice 68 = .ok (.iload_n 1, 1) := dk_27 (dk_at dksX2_toldVoice_2 20 rfl rfl)
theorem dX2_toldVoice_69 : decode cX2_toldVoice 69 = .ok (.iadd, 1) := dk_96 (dk_at dksX2_toldVoice_2 21 rfl rfl)
theorem dX2_toldVoice_70 : decode cX2_toldVoice 70 = .ok (.iaload, 1) := dk_46 (dk_at dksX2_toldVoice_2 22 rfl rfl)
theorem dX2_toldVoice_71 : decode cX2_toldVoice 71 = .ok (.ireturn, 1) := dk_172 (dk_at dksX2_toldVoice_2 23 rfl rfl)
theorem dX2_toldVoice_72 : decode cX2_toldVoice 72 = .ok (.aload_n 0, 1) := dk_42 (dk_at dksX2_toldVoice_3 0 rfl rfl)
theorem dX2_toldVoice_73 : decode cX2_toldVoice 73 = .ok (.getfield 22, 3) := dk_180 0 22 (dk_at dksX2_toldVoice_3 1 rfl rfl)
theorem dX2_toldVoice_76 : decode cX2_toldVoice 76 = .ok (.iload_n 1, 1) := dk_27 (dk_at dksX2_toldVoice_3 4 rfl rfl)
theorem dX2_toldVoice_77 : decode cX2_toldVoice 77 = .ok (.iaload, 1) := dk_46 (dk_at dksX2_toldVoice_3 5 rfl rfl)
theorem dX2_toldVoice_78 : decode cX2_toldVoice 78 = .ok (.ireturn, 1) := dk_172 (dk_at dksX2_toldVoice_3 6 rfl rfl)
theorem dX2_toldVoice_79 : decode cX2_toldVoice 79 = .ok (.aload_n 0, 1) := dk_42 (dk_at dksX2_toldVoice_3 7 rfl rfl)
theorem dX2_toldVoice_80 : decode cX2_toldVoice 80 = .ok (.getfield 7, 3) := dk_180 0 7 (dk_at dksX2_toldVoice_3 8 rfl rfl)
theorem dX2_toldVoice_83 : decode cX2_toldVoice 83 = .ok (.bipush 16, 2) := dk_16 16 (dk_at dksX2_toldVoice_3 11 rfl rfl)
theorem dX2_toldVoice_85 : decode cX2_toldVoice 85 = .ok (.iload_n 1, 1) := dk_27 (dk_at dksX2_toldVoice_3 13 rfl rfl)
theorem dX2_toldVoice_86 : decode cX2_toldVoice 86 = .ok (.iadd, 1) := dk_96 (dk_at dksX2_toldVoice_3 14 rfl rfl)
theorem dX2_toldVoice_87 : decode cX2_toldVoice 87 = .ok (.iaload, 1) := dk_46 (dk_at dksX2_toldVoice_3 15 rfl rfl)
theorem dX2_toldVoice_88 : decode cX2_toldVoice 88 = .ok (.ireturn, 1) := dk_172 (dk_at dksX2_toldVoice_3 16 rfl rfl)
theorem dX2_toldVoice_89 : decode cX2_toldVoice 89 = .ok (.iload_n 2, 1) := dk_28 (dk_at dksX2_toldVoice_3 17 rfl rfl)
theorem dX2_toldVoice_90 : decode cX2_toldVoice 90 = .ok (.iconst 5, 1) := dk_8 (dk_at dksX2_toldVoice_3 18 rfl rfl)
theorem dX2_toldVoice_91 : decode cX2_toldVoice 91 = .ok (.if_icmp .ne 12, 3) := dk_160 0 12 (dk_at dksX2_toldVoice_3 19 rfl rfl)
theorem dX2_toldVoice_94 : decode cX2_toldVoice 94 = .ok (.aload_n 0, 1) := dk_42 (dk_at dksX2_toldVoice_3 22 rfl rfl)
theorem dX2_toldVoice_95 : decode cX2_toldVoice 95 = .ok (.getfield 7, 3) := dk_180 0 7 (dk_at dksX2_toldVoice_4 0 rfl rfl)
theorem dX2_toldVoice_98 : decode cX2_toldVoice 98 = .ok (.iload_n 1, 1) := dk_27 (dk_at dksX2_toldVoice_4 3 rfl rfl)
theorem dX2_toldVoice_99 : decode cX2_toldVoice 99 = .ok (.iaload, 1) := dk_46 (dk_at dksX2_toldVoice_4 4 rfl rfl)
theorem dX2_toldVoice_100 : decode cX2_toldVoice 100 = .ok (.goto 5, 3) := dk_167 0 5 (dk_at dksX2_toldVoice_4 5 rfl rfl)
theorem dX2_toldVoice_103 : decode cX2_toldVoice 103 = .ok (.bipush (-2), 2) := dk_16 254 (dk_at dksX2_toldVoice_4 8 rfl rfl)
theorem dX2_toldVoice_105 : decode cX2_toldVoice 105 = .ok (.ireturn, 1) := dk_172 (dk_at dksX2_toldVoice_4 10 rfl rfl)
theorem q53 : (Jvm.Cond.initialized "SongLampsModel") ∈ lw_all := lw_g (lw_at lw_m1 3 rfl) rfl
theorem q568 : (Jvm.Cond.instantiable "SongLampsModel" (24 : Nat)) ∈ lw_all := lw_g (lw_at lw_m3 38 rfl) rfl
theorem q570 : (Jvm.Cond.instanceMethod ({ cls := "SongLampsModel", name := "<init>", desc := "()V" } : Jvm.MethodName)) ∈ lw_all := lw_g (lw_at lw_m3 40 rfl) rfl
theorem q571 : (Jvm.Cond.code ({ cls := "SongLampsModel", name := "<init>", desc := "()V" } : Jvm.MethodName) prog_4_method_1_code (2 : Nat) (Option.none : Option Jvm.ClassFile.FieldType)) ∈ lw_all := lw_g (lw_at lw_m3 41 rfl) rfl
theorem q572 : (Jvm.Cond.methodLink "SongLampsModel" (1 : Nat) ({ cls := "java/lang/Object", name := "<init>", desc := "()V" } : Jvm.MethodName)) ∈ lw_all := lw_g (lw_at lw_m3 42 rfl) rfl
theorem q573 : (Jvm.Cond.fieldLink "SongLampsModel" (7 : Nat) "SongLampsModel" "book" "[I") ∈ lw_all := lw_g (lw_at lw_m3 43 rfl) rfl
theorem q574 : (Jvm.Cond.fieldLink "SongLampsModel" (13 : Nat) "SongLampsModel" "now" "[I") ∈ lw_all := lw_g (lw_at lw_m3 44 rfl) rfl
theorem q575 : (Jvm.Cond.fieldLink "SongLampsModel" (63 : Nat) "SongLampsModel" "there" "I") ∈ lw_all := lw_g (lw_at lw_m3 45 rfl) rfl
theorem q576 : (Jvm.Cond.fieldLink "SongLampsModel" (16 : Nat) "SongLampsModel" "low" "[I") ∈ lw_all := lw_g (lw_at lw_m3 46 rfl) rfl
theorem q577 : (Jvm.Cond.fieldLink "SongLampsModel" (19 : Nat) "SongLampsModel" "high" "[I") ∈ lw_all := lw_g (lw_at lw_m3 47 rfl) rfl
theorem q578 : (Jvm.Cond.fieldLink "SongLampsModel" (22 : Nat) "SongLampsModel" "lungs" "[I") ∈ lw_all := lw_g (lw_at lw_m3 48 rfl) rfl
theorem q579 : (Jvm.Cond.fieldLink "SongLampsModel" (25 : Nat) "SongLampsModel" "passages" "[I") ∈ lw_all := lw_g (lw_at lw_m3 49 rfl) rfl
theorem q580 : (Jvm.Cond.fieldLink "SongLampsModel" (28 : Nat) "SongLampsModel" "echo" "[I") ∈ lw_all := lw_g (lw_at lw_m3 50 rfl) rfl
theorem q581 : (Jvm.Cond.fieldLink "SongLampsModel" (79 : Nat) "SongLampsModel" "gas" "I") ∈ lw_all := lw_g (lw_at lw_m3 51 rfl) rfl
theorem q582 : (Jvm.Cond.fieldLink "SongLampsModel" (160 : Nat) "SongLampsModel" "sights" "I") ∈ lw_all := lw_g (lw_at lw_m3 52 rfl) rfl
theorem q583 : (Jvm.Cond.fieldLink "SongLampsModel" (31 : Nat) "SongLampsModel" "sight" "[I") ∈ lw_all := lw_g (lw_at lw_m3 53 rfl) rfl
theorem q584 : (Jvm.Cond.fieldLink "SongLampsModel" (85 : Nat) "SongLampsModel" "signs" "I") ∈ lw_all := lw_g (lw_at lw_m3 54 rfl) rfl
theorem q585 : (Jvm.Cond.fieldLink "SongLampsModel" (34 : Nat) "SongLampsModel" "pad" "[I") ∈ lw_all := lw_g (lw_at lw_m3 55 rfl) rfl
theorem q586 : (Jvm.Cond.fieldLink "SongLampsModel" (104 : Nat) "SongLampsModel" "darkAt" "I") ∈ lw_all := lw_g (lw_at lw_m3 56 rfl) rfl
theorem q587 : (Jvm.Cond.fieldLink "SongLampsModel" (107 : Nat) "SongLampsModel" "darkWho" "I") ∈ lw_all := lw_g (lw_at lw_m3 57 rfl) rfl
theorem q588 : (Jvm.Cond.fieldLink "SongLampsModel" (37 : Nat) "SongLampsModel" "bright" "[I") ∈ lw_all := lw_g (lw_at lw_m3 58 rfl) rfl
theorem q589 : (Jvm.Cond.fieldLink "SongLampsModel" (119 : Nat) "SongLampsModel" "reason" "I") ∈ lw_all := lw_g (lw_at lw_m3 59 rfl) rfl
theorem q590 : (Jvm.Cond.fieldLink "SongLampsModel" (113 : Nat) "SongLampsModel" "acts" "I") ∈ lw_all := lw_g (lw_at lw_m3 60 rfl) rfl
theorem q591 : (Jvm.Cond.fieldLink "SongLampsModel" (40 : Nat) "SongLampsModel" "far" "[I") ∈ lw_all := lw_g (lw_at lw_m3 61 rfl) rfl
theorem q592 : (Jvm.Cond.fieldLink "SongLampsModel" (43 : Nat) "SongLampsModel" "comes" "[Z") ∈ lw_all := lw_g (lw_at lw_m3 62 rfl) rfl
theorem q593 : (Jvm.Cond.fieldLink "SongLampsModel" (47 : Nat) "SongLampsModel" "apart" "[I") ∈ lw_all := lw_g (lw_at lw_m3 63 rfl) rfl
theorem q594 : (Jvm.Cond.fieldLink "SongLampsModel" (50 : Nat) "SongLampsModel" "counts" "[I") ∈ lw_all := lw_g (lw_at lw_m3 64 rfl) rfl
theorem q595 : (Jvm.Cond.fieldLink "SongLampsModel" (53 : Nat) "SongLampsModel" "image" "[I") ∈ lw_all := lw_g (lw_at lw_m3 65 rfl) rfl
theorem q596 : (Jvm.Cond.fieldLink "SongLampsModel" (56 : Nat) "SongLampsModel" "isKept" "[Z") ∈ lw_all := lw_g (lw_at lw_m3 66 rfl) rfl
theorem q597 : (Jvm.Cond.laysFinal "SongLampsModel" "SongLampsModel" "book" "[I") ∈ lw_all := lw_g (lw_at lw_m3 67 rfl) rfl
theorem q598 : (Jvm.Cond.soleField "SongLampsModel" "book") ∈ lw_all := lw_g (lw_at lw_m3 68 rfl) rfl
theorem q599 : (Jvm.Cond.laysFinal "SongLampsModel" "SongLampsModel" "now" "[I") ∈ lw_all := lw_g (lw_at lw_m3 69 rfl) rfl
theorem q600 : (Jvm.Cond.soleField "SongLampsModel" "now") ∈ lw_all := lw_g (lw_at lw_m3 70 rfl) rfl
theorem q601 : (Jvm.Cond.lays "SongLampsModel" "SongLampsModel" "there" "I") ∈ lw_all := lw_g (lw_at lw_m3 71 rfl) rfl
theorem q602 : (Jvm.Cond.soleField "SongLampsModel" "there") ∈ lw_all := lw_g (lw_at lw_m3 72 rfl) rfl
theorem q603 : (Jvm.Cond.laysFinal "SongLampsModel" "SongLampsModel" "low" "[I") ∈ lw_all := lw_g (lw_at lw_m3 73 rfl) rfl
theorem q604 : (Jvm.Cond.soleField "SongLampsModel" "low") ∈ lw_all := lw_g (lw_at lw_m3 74 rfl) rfl
theorem q605 : (Jvm.Cond.laysFinal "SongLampsModel" "SongLampsModel" "high" "[I") ∈ lw_all := lw_g (lw_at lw_m3 75 rfl) rfl
theorem q606 : (Jvm.Cond.soleField "SongLampsModel" "high") ∈ lw_all := lw_g (lw_at lw_m3 76 rfl) rfl
theorem q607 : (Jvm.Cond.laysFinal "SongLampsModel" "SongLampsModel" "lungs" "[I") ∈ lw_all := lw_g (lw_at lw_m3 77 rfl) rfl
theorem q608 : (Jvm.Cond.soleField "SongLampsModel" "lungs") ∈ lw_all := lw_g (lw_at lw_m3 78 rfl) rfl
theorem q609 : (Jvm.Cond.laysFinal "SongLampsModel" "SongLampsModel" "passages" "[I") ∈ lw_all := lw_g (lw_at lw_m3 79 rfl) rfl
theorem q610 : (Jvm.Cond.soleField "SongLampsModel" "passages") ∈ lw_all := lw_g (lw_at lw_m3 80 rfl) rfl
theorem q611 : (Jvm.Cond.laysFinal "SongLampsModel" "SongLampsModel" "echo" "[I") ∈ lw_all := lw_g (lw_at lw_m3 81 rfl) rfl
theorem q612 : (Jvm.Cond.soleField "SongLampsModel" "echo") ∈ lw_all := lw_g (lw_at lw_m3 82 rfl) rfl
theorem q613 : (Jvm.Cond.lays "SongLampsModel" "SongLampsModel" "gas" "I") ∈ lw_all := lw_g (lw_at lw_m3 83 rfl) rfl
theorem q614 : (Jvm.Cond.soleField "SongLampsModel" "gas") ∈ lw_all := lw_g (lw_at lw_m3 84 rfl) rfl
theorem q615 : (Jvm.Cond.lays "SongLampsModel" "SongLampsModel" "sights" "I") ∈ lw_all := lw_g (lw_at lw_m3 85 rfl) rfl
theorem q616 : (Jvm.Cond.soleField "SongLampsModel" "sights") ∈ lw_all := lw_g (lw_at lw_m3 86 rfl) rfl
theorem q617 : (Jvm.Cond.laysFinal "SongLampsModel" "SongLampsModel" "sight" "[I") ∈ lw_all := lw_g (lw_at lw_m3 87 rfl) rfl
theorem q618 : (Jvm.Cond.soleField "SongLampsModel" "sight") ∈ lw_all := lw_g (lw_at lw_m3 88 rfl) rfl
theorem q619 : (Jvm.Cond.lays "SongLampsModel" "SongLampsModel" "signs" "I") ∈ lw_all := lw_g (lw_at lw_m3 89 rfl) rfl
theorem q620 : (Jvm.Cond.soleField "SongLampsModel" "signs") ∈ lw_all := lw_g (lw_at lw_m3 90 rfl) rfl
theorem q621 : (Jvm.Cond.laysFinal "SongLampsModel" "SongLampsModel" "pad" "[I") ∈ lw_all := lw_g (lw_at lw_m3 91 rfl) rfl
theorem q622 : (Jvm.Cond.soleField "SongLampsModel" "pad") ∈ lw_all := lw_g (lw_at lw_m3 92 rfl) rfl
theorem q623 : (Jvm.Cond.lays "SongLampsModel" "SongLampsModel" "darkAt" "I") ∈ lw_all := lw_g (lw_at lw_m3 93 rfl) rfl
theorem q624 : (Jvm.Cond.soleField "SongLampsModel" "darkAt") ∈ lw_all := lw_g (lw_at lw_m3 94 rfl) rfl
theorem q625 : (Jvm.Cond.lays "SongLampsModel" "SongLampsModel" "darkWho" "I") ∈ lw_all := lw_g (lw_at lw_m3 95 rfl) rfl
theorem q626 : (Jvm.Cond.soleField "SongLampsModel" "darkWho") ∈ lw_all := lw_g (lw_at lw_m3 96 rfl) rfl
theorem q627 : (Jvm.Cond.laysFinal "SongLampsModel" "SongLampsModel" "bright" "[I") ∈ lw_all := lw_g (lw_at lw_m3 97 rfl) rfl
theorem q628 : (Jvm.Cond.soleField "SongLampsModel" "bright") ∈ lw_all := lw_g (lw_at lw_m3 98 rfl) rfl
theorem q629 : (Jvm.Cond.lays "SongLampsModel" "SongLampsModel" "reason" "I") ∈ lw_all := lw_g (lw_at lw_m3 99 rfl) rfl
theorem q630 : (Jvm.Cond.soleField "SongLampsModel" "reason") ∈ lw_all := lw_g (lw_at lw_m3 100 rfl) rfl
theorem q631 : (Jvm.Cond.lays "SongLampsModel" "SongLampsModel" "acts" "I") ∈ lw_all := lw_g (lw_at lw_m3 101 rfl) rfl
theorem q632 : (Jvm.Cond.soleField "SongLampsModel" "acts") ∈ lw_all := lw_g (lw_at lw_m3 102 rfl) rfl
theorem q633 : (Jvm.Cond.laysFinal "SongLampsModel" "SongLampsModel" "far" "[I") ∈ lw_all := lw_g (lw_at lw_m3 103 rfl) rfl
theorem q634 : (Jvm.Cond.soleField "SongLampsModel" "far") ∈ lw_all := lw_g (lw_at lw_m3 104 rfl) rfl
theorem q635 : (Jvm.Cond.laysFinal "SongLampsModel" "SongLampsModel" "comes" "[Z") ∈ lw_all := lw_g (lw_at lw_m3 105 rfl) rfl
theorem q636 : (Jvm.Cond.soleField "SongLampsModel" "comes") ∈ lw_all := lw_g (lw_at lw_m3 106 rfl) rfl
theorem q637 : (Jvm.Cond.laysFinal "SongLampsModel" "SongLampsModel" "apart" "[I") ∈ lw_all := lw_g (lw_at lw_m3 107 rfl) rfl
theorem q638 : (Jvm.Cond.soleField "SongLampsModel" "apart") ∈ lw_all := lw_g (lw_at lw_m3 108 rfl) rfl
theorem q639 : (Jvm.Cond.laysFinal "SongLampsModel" "SongLampsModel" "counts" "[I") ∈ lw_all := lw_g (lw_at lw_m3 109 rfl) rfl
theorem q640 : (Jvm.Cond.soleField "SongLampsModel" "counts") ∈ lw_all := lw_g (lw_at lw_m3 110 rfl) rfl
theorem q641 : (Jvm.Cond.laysFinal "SongLampsModel" "SongLampsModel" "image" "[I") ∈ lw_all := lw_g (lw_at lw_m3 111 rfl) rfl
theorem q642 : (Jvm.Cond.soleField "SongLampsModel" "image") ∈ lw_all := lw_g (lw_at lw_m3 112 rfl) rfl
theorem q643 : (Jvm.Cond.laysFinal "SongLampsModel" "SongLampsModel" "isKept" "[Z") ∈ lw_all := lw_g (lw_at lw_m3 113 rfl) rfl
theorem q644 : (Jvm.Cond.soleField "SongLampsModel" "isKept") ∈ lw_all := lw_g (lw_at lw_m3 114 rfl) rfl
theorem q645 : (Jvm.Cond.superclass "SongLampsModel" "java/lang/Object") ∈ lw_all := lw_g (lw_at lw_m3 115 rfl) rfl
theorem q648 : (Jvm.Cond.instanceMethod ({ cls := "SongLampsModel", name := "passage", desc := "(IIZ)I" } : Jvm.MethodName)) ∈ lw_all := lw_g (lw_at lw_m3 118 rfl) rfl
theorem q649 : (Jvm.Cond.selects "SongLampsModel" ({ cls := "SongLampsModel", name := "passage", desc := "(IIZ)I" } : Jvm.MethodName) ({ cls := "SongLampsModel", name := "passage", desc := "(IIZ)I" } : Jvm.MethodName)) ∈ lw_all := lw_g (lw_at lw_m3 119 rfl) rfl
theorem q650 : (Jvm.Cond.code ({ cls := "SongLampsModel", name := "passage", desc := "(IIZ)I" } : Jvm.MethodName) prog_4_method_7_code (6 : Nat) (Option.some Jvm.ClassFile.FieldType.int)) ∈ lw_all := lw_g (lw_at lw_m3 120 rfl) rfl
theorem q651 : (Jvm.Cond.methodLink "SongLampsModel" (71 : Nat) ({ cls := "SongLampsModel", name := "isGallery", desc := "(I)Z" } : Jvm.MethodName)) ∈ lw_all := lw_g (lw_at lw_m3 121 rfl) rfl
theorem q652 : (Jvm.Cond.static ({ cls := "SongLampsModel", name := "isGallery", desc := "(I)Z" } : Jvm.MethodName)) ∈ lw_all := lw_g (lw_at lw_m3 122 rfl) rfl
theorem q653 : (Jvm.Cond.code ({ cls := "SongLampsModel", name := "isGallery", desc := "(I)Z" } : Jvm.MethodName) prog_4_method_5_code (1 : Nat) (Option.some Jvm.ClassFile.FieldType.boolean)) ∈ lw_all := lw_g (lw_at lw_m3 123 rfl) rfl
theorem q654 : (Jvm.Cond.methodLink "SongLampsModel" (59 : Nat) ({ cls := "SongLampsModel", name := "in", desc := "(III)Z" } : Jvm.MethodName)) ∈ lw_all := lw_g (lw_at lw_m3 124 rfl) rfl
theorem q655 : (Jvm.Cond.static ({ cls := "SongLampsModel", name := "in", desc := "(III)Z" } : Jvm.MethodName)) ∈ lw_all := lw_g (lw_at lw_m3 125 rfl) rfl
theorem q656 : (Jvm.Cond.code ({ cls := "SongLampsModel", name := "in", desc := "(III)Z" } : Jvm.MethodName) prog_4_method_2_code (3 : Nat) (Option.some Jvm.ClassFile.FieldType.boolean)) ∈ lw_all := lw_g (lw_at lw_m3 126 rfl) rfl
theorem q657 : (Jvm.Cond.methodLink "SongLampsModel" (75 : Nat) ({ cls := "SongLampsModel", name := "bits", desc := "(I)I" } : Jvm.MethodName)) ∈ lw_all := lw_g (lw_at lw_m3 127 rfl) rfl
theorem q658 : (Jvm.Cond.static ({ cls := "SongLampsModel", name := "bits", desc := "(I)I" } : Jvm.MethodName)) ∈ lw_all := lw_g (lw_at lw_m3 128 rfl) rfl
theorem q659 : (Jvm.Cond.code ({ cls := "SongLampsModel", name := "bits", desc := "(I)I" } : Jvm.MethodName) prog_4_method_4_code (3 : Nat) (Option.some Jvm.ClassFile.FieldType.int)) ∈ lw_all := lw_g (lw_at lw_m3 129 rfl) rfl
theorem q661 : (Jvm.Cond.instanceMethod ({ cls := "SongLampsModel", name := "gallery", desc := "(IIZ)I" } : Jvm.MethodName)) ∈ lw_all := lw_g (lw_at lw_m3 131 rfl) rfl
theorem q662 : (Jvm.Cond.selects "SongLampsModel" ({ cls := "SongLampsModel", name := "gallery", desc := "(IIZ)I" } : Jvm.MethodName) ({ cls := "SongLampsModel", name := "gallery", desc := "(IIZ)I" } : Jvm.MethodName)) ∈ lw_all := lw_g (lw_at lw_m3 132 rfl) rfl
theorem q663 : (Jvm.Cond.code ({ cls := "SongLampsModel", name := "gallery", desc := "(IIZ)I" } : Jvm.MethodName) prog_4_method_8_code (5 : Nat) (Option.some Jvm.ClassFile.FieldType.int)) ∈ lw_all := lw_g (lw_at lw_m3 133 rfl) rfl
theorem q665 : (Jvm.Cond.instanceMethod ({ cls := "SongLampsModel", name := "voice", desc := "(IIIII)I" } : Jvm.MethodName)) ∈ lw_all := lw_g (lw_at lw_m3 135 rfl) rfl
theorem q666 : (Jvm.Cond.selects "SongLampsModel" ({ cls := "SongLampsModel", name := "voice", desc := "(IIIII)I" } : Jvm.MethodName) ({ cls := "SongLampsModel", name := "voice", desc := "(IIIII)I" } : Jvm.MethodName)) ∈ lw_all := lw_g (lw_at lw_m3 136 rfl) rfl
theorem q667 : (Jvm.Cond.code ({ cls := "SongLampsModel", name := "voice", desc := "(IIIII)I" } : Jvm.MethodName) prog_4_method_9_code (6 : Nat) (Option.some Jvm.ClassFile.FieldType.int)) ∈ lw_all := lw_g (lw_at lw_m3 137 rfl) rfl
theorem q669 : (Jvm.Cond.instanceMethod ({ cls := "SongLampsModel", name := "breath", desc := "(II)I" } : Jvm.MethodName)) ∈ lw_all := lw_g (lw_at lw_m3 139 rfl) rfl
theorem q670 : (Jvm.Cond.selects "SongLampsModel" ({ cls := "SongLampsModel", name := "breath", desc := "(II)I" } : Jvm.MethodName) ({ cls := "SongLampsModel", name := "breath", desc := "(II)I" } : Jvm.MethodName)) ∈ lw_all := lw_g (lw_at lw_m3 140 rfl) rfl
theorem q671 : (Jvm.Cond.code ({ cls := "SongLampsModel", name := "breath", desc := "(II)I" } : Jvm.MethodName) prog_4_method_10_code (4 : Nat) (Option.some Jvm.ClassFile.FieldType.int)) ∈ lw_all := lw_g (lw_at lw_m3 141 rfl) rfl
theorem q672 : (Jvm.Cond.methodLink "SongLampsModel" (82 : Nat) ({ cls := "SongLampsModel", name := "isThere", desc := "(I)Z" } : Jvm.MethodName)) ∈ lw_all := lw_g (lw_at lw_m3 142 rfl) rfl
theorem q673 : (Jvm.Cond.privateMethod ({ cls := "SongLampsModel", name := "isThere", desc := "(I)Z" } : Jvm.MethodName)) ∈ lw_tbl := lw_at lw_m3 143 rfl
theorem q674 : (Jvm.Cond.instanceMethod ({ cls := "SongLampsModel", name := "isThere", desc := "(I)Z" } : Jvm.MethodName)) ∈ lw_all := lw_g (lw_at lw_m3 144 rfl) rfl
theorem q675 : (Jvm.Cond.code ({ cls := "SongLampsModel", name := "isThere", desc := "(I)Z" } : Jvm.MethodName) prog_4_method_6_code (2 : Nat) (Option.some Jvm.ClassFile.FieldType.boolean)) ∈ lw_all := lw_g (lw_at lw_m3 145 rfl) rfl
theorem q676 : (Jvm.Cond.methodLink "SongLampsModel" (67 : Nat) ({ cls := "SongLampsModel", name := "has", desc := "(II)Z" } : Jvm.MethodName)) ∈ lw_all := lw_g (lw_at lw_m3 146 rfl) rfl
theorem q677 : (Jvm.Cond.static ({ cls := "SongLampsModel", name := "has", desc := "(II)Z" } : Jvm.MethodName)) ∈ lw_all := lw_g (lw_at lw_m3 147 rfl) rfl
theorem q678 : (Jvm.Cond.code ({ cls := "SongLampsModel", name := "has", desc := "(II)Z" } : Jvm.MethodName) prog_4_method_3_code (2 : Nat) (Option.some Jvm.ClassFile.FieldType.boolean)) ∈ lw_all := lw_g (lw_at lw_m3 148 rfl) rfl
theorem q680 : (Jvm.Cond.instanceMethod ({ cls := "SongLampsModel", name := "leave", desc := "(I)I" } : Jvm.MethodName)) ∈ lw_all := lw_g (lw_at lw_m3 150 rfl) rfl
theorem q681 : (Jvm.Cond.selects "SongLampsModel" ({ cls := "SongLampsModel", name := "leave", desc := "(I)I" } : Jvm.MethodName) ({ cls := "SongLampsModel", name := "leave", desc := "(I)I" } : Jvm.MethodName)) ∈ lw_all := lw_g (lw_at lw_m3 151 rfl) rfl
theorem q682 : (Jvm.Cond.code ({ cls := "SongLampsModel", name := "leave", desc := "(I)I" } : Jvm.MethodName) prog_4_method_11_code (2 : Nat) (Option.some Jvm.ClassFile.FieldType.int)) ∈ lw_all := lw_g (lw_at lw_m3 152 rfl) rfl
theorem q684 : (Jvm.Cond.instanceMethod ({ cls := "SongLampsModel", name := "say", desc := "(I)I" } : Jvm.MethodName)) ∈ lw_all := lw_g (lw_at lw_m3 154 rfl) rfl
theorem q685 : (Jvm.Cond.selects "SongLampsModel" ({ cls := "SongLampsModel", name := "say", desc := "(I)I" } : Jvm.MethodName) ({ cls := "SongLampsModel", name := "say", desc := "(I)I" } : Jvm.MethodName)) ∈ lw_all := lw_g (lw_at lw_m3 155 rfl) rfl
theorem q686 : (Jvm.Cond.code ({ cls := "SongLampsModel", name := "say", desc := "(I)I" } : Jvm.MethodName) prog_4_method_12_code (2 : Nat) (Option.some Jvm.ClassFile.FieldType.int)) ∈ lw_all := lw_g (lw_at lw_m3 156 rfl) rfl
theorem q688 : (Jvm.Cond.instanceMethod ({ cls := "SongLampsModel", name := "wipe", desc := "()I" } : Jvm.MethodName)) ∈ lw_all := lw_g (lw_at lw_m3 158 rfl) rfl
theorem q689 : (Jvm.Cond.selects "SongLampsModel" ({ cls := "SongLampsModel", name := "wipe", desc := "()I" } : Jvm.MethodName) ({ cls := "SongLampsModel", name := "wipe", desc := "()I" } : Jvm.MethodName)) ∈ lw_all := lw_g (lw_at lw_m3 159 rfl) rfl
theorem q690 : (Jvm.Cond.code ({ cls := "SongLampsModel", name := "wipe", desc := "()I" } : Jvm.MethodName) prog_4_method_13_code (2 : Nat) (Option.some Jvm.ClassFile.FieldType.int)) ∈ lw_all := lw_g (lw_at lw_m3 160 rfl) rfl
theorem q692 : (Jvm.Cond.instanceMethod ({ cls := "SongLampsModel", name := "fault", desc := "()I" } : Jvm.MethodName)) ∈ lw_all := lw_g (lw_at lw_m3 162 rfl) rfl
theorem q693 : (Jvm.Cond.selects "SongLampsModel" ({ cls := "SongLampsModel", name := "fault", desc := "()I" } : Jvm.MethodName) ({ cls := "SongLampsModel", name := "fault", desc := "()I" } : Jvm.MethodName)) ∈ lw_all := lw_g (lw_at lw_m3 163 rfl) rfl
theorem q694 : (Jvm.Cond.code ({ cls := "SongLampsModel", name := "fault", desc := "()I" } : Jvm.MethodName) prog_4_method_15_code (1 : Nat) (Option.some Jvm.ClassFile.FieldType.int)) ∈ lw_all := lw_g (lw_at lw_m3 164 rfl) rfl
theorem q695 : (Jvm.Cond.methodLink "SongLampsModel" (88 : Nat) ({ cls := "SongLampsModel", name := "faultOf", desc := "()I" } : Jvm.MethodName)) ∈ lw_all := lw_g (lw_at lw_m3 165 rfl) rfl
theorem q696 : (Jvm.Cond.privateMethod ({ cls := "SongLampsModel", name := "faultOf", desc := "()I" } : Jvm.MethodName)) ∈ lw_tbl := lw_at lw_m3 166 rfl
theorem q697 : (Jvm.Cond.instanceMethod ({ cls := "SongLampsModel", name := "faultOf", desc := "()I" } : Jvm.MethodName)) ∈ lw_all := lw_g (lw_at lw_m3 167 rfl) rfl
theorem q698 : (Jvm.Cond.code ({ cls := "SongLampsModel", name := "faultOf", desc := "()I" } : Jvm.MethodName) prog_4_method_14_code (5 : Nat) (Option.some Jvm.ClassFile.FieldType.int)) ∈ lw_all := lw_g (lw_at lw_m3 168 rfl) rfl
theorem q700 : (Jvm.Cond.instanceMethod ({ cls := "SongLampsModel", name := "judge", desc := "(I)I" } : Jvm.MethodName)) ∈ lw_all := lw_g (lw_at lw_m3 170 rfl) rfl
theorem q701 : (Jvm.Cond.selects "SongLampsModel" ({ cls := "SongLampsModel", name := "judge", desc := "(I)I" } : Jvm.MethodName) ({ cls := "SongLampsModel", name := "judge", desc := "(I)I" } : Jvm.MethodName)) ∈ lw_all := lw_g (lw_at lw_m3 171 rfl) rfl
theorem q702 : (Jvm.Cond.code ({ cls := "SongLampsModel", name := "judge", desc := "(I)I" } : Jvm.MethodName) prog_4_method_27_code (3 : Nat) (Option.some Jvm.ClassFile.FieldType.int)) ∈ lw_all := lw_g (lw_at lw_m3 172 rfl) rfl
theorem q703 : (Jvm.Cond.methodLink "SongLampsModel" (135 : Nat) ({ cls := "SongLampsModel", name := "goShifts", desc := "()I" } : Jvm.MethodName)) ∈ lw_all := lw_g (lw_at lw_m3 173 rfl) rfl
theorem q704 : (Jvm.Cond.privateMethod ({ cls := "SongLampsModel", name := "goShifts", desc := "()I" } : Jvm.MethodName)) ∈ lw_tbl := lw_at lw_m3 174 rfl
theorem q705 : (Jvm.Cond.instanceMethod ({ cls := "SongLampsModel", name := "goShifts", desc := "()I" } : Jvm.MethodName)) ∈ lw_all := lw_g (lw_at lw_m3 175 rfl) rfl
theorem q706 : (Jvm.Cond.code ({ cls := "SongLampsModel", name := "goShifts", desc := "()I" } : Jvm.MethodName) prog_4_method_26_code (6 : Nat) (Option.some Jvm.ClassFile.FieldType.int)) ∈ lw_all := lw_g (lw_at lw_m3 176 rfl) rfl
theorem q707 : (Jvm.Cond.methodLink "SongLampsModel" (110 : Nat) ({ cls := "SongLampsModel", name := "asNow", desc := "()V" } : Jvm.MethodName)) ∈ lw_all := lw_g (lw_at lw_m3 177 rfl) rfl
theorem q708 : (Jvm.Cond.privateMethod ({ cls := "SongLampsModel", name := "asNow", desc := "()V" } : Jvm.MethodName)) ∈ lw_tbl := lw_at lw_m3 178 rfl
theorem q709 : (Jvm.Cond.instanceMethod ({ cls := "SongLampsModel", name := "asNow", desc := "()V" } : Jvm.MethodName)) ∈ lw_all := lw_g (lw_at lw_m3 179 rfl) rfl
theorem q710 : (Jvm.Cond.code ({ cls := "SongLampsModel", name := "asNow", desc := "()V" } : Jvm.MethodName) prog_4_method_21_code (2 : Nat) (Option.none : Option Jvm.ClassFile.FieldType)) ∈ lw_all := lw_g (lw_at lw_m3 180 rfl) rfl
theorem q711 : (Jvm.Cond.methodLink "SongLampsModel" (116 : Nat) ({ cls := "SongLampsModel", name := "lamps", desc := "()I" } : Jvm.MethodName)) ∈ lw_all := lw_g (lw_at lw_m3 181 rfl) rfl
theorem q712 : (Jvm.Cond.privateMethod ({ cls := "SongLampsModel", name := "lamps", desc := "()I" } : Jvm.MethodName)) ∈ lw_tbl := lw_at lw_m3 182 rfl
theorem q713 : (Jvm.Cond.instanceMethod ({ cls := "SongLampsModel", name := "lamps", desc := "()I" } : Jvm.MethodName)) ∈ lw_all := lw_g (lw_at lw_m3 183 rfl) rfl
theorem q714 : (Jvm.Cond.code ({ cls := "SongLampsModel", name := "lamps", desc := "()I" } : Jvm.MethodName) prog_4_method_20_code (3 : Nat) (Option.some Jvm.ClassFile.FieldType.int)) ∈ lw_all := lw_g (lw_at lw_m3 184 rfl) rfl
theorem q715 : (Jvm.Cond.methodLink "SongLampsModel" (101 : Nat) ({ cls := "SongLampsModel", name := "lightOf", desc := "(I)I" } : Jvm.MethodName)) ∈ lw_all := lw_g (lw_at lw_m3 185 rfl) rfl
theorem q716 : (Jvm.Cond.privateMethod ({ cls := "SongLampsModel", name := "lightOf", desc := "(I)I" } : Jvm.MethodName)) ∈ lw_tbl := lw_at lw_m3 186 rfl
theorem q717 : (Jvm.Cond.instanceMethod ({ cls := "SongLampsModel", name := "lightOf", desc := "(I)I" } : Jvm.MethodName)) ∈ lw_all := lw_g (lw_at lw_m3 187 rfl) rfl
theorem q718 : (Jvm.Cond.code ({ cls := "SongLampsModel", name := "lightOf", desc := "(I)I" } : Jvm.MethodName) prog_4_method_19_code (5 : Nat) (Option.some Jvm.ClassFile.FieldType.int)) ∈ lw_all := lw_g (lw_at lw_m3 188 rfl) rfl
theorem q719 : (Jvm.Cond.methodLink "SongLampsModel" (98 : Nat) ({ cls := "SongLampsModel", name := "ownLight", desc := "(I)I" } : Jvm.MethodName)) ∈ lw_all := lw_g (lw_at lw_m3 189 rfl) rfl
theorem q720 : (Jvm.Cond.privateMethod ({ cls := "SongLampsModel", name := "ownLight", desc := "(I)I" } : Jvm.MethodName)) ∈ lw_tbl := lw_at lw_m3 190 rfl
theorem q721 : (Jvm.Cond.instanceMethod ({ cls := "SongLampsModel", name := "ownLight", desc := "(I)I" } : Jvm.MethodName)) ∈ lw_all := lw_g (lw_at lw_m3 191 rfl) rfl
theorem q722 : (Jvm.Cond.code ({ cls := "SongLampsModel", name := "ownLight", desc := "(I)I" } : Jvm.MethodName) prog_4_method_18_code (6 : Nat) (Option.some Jvm.ClassFile.FieldType.int)) ∈ lw_all := lw_g (lw_at lw_m3 192 rfl) rfl
theorem q723 : (Jvm.Cond.methodLink "SongLampsModel" (92 : Nat) ({ cls := "SongLampsModel", name := "sings", desc := "(II)Z" } : Jvm.MethodName)) ∈ lw_all := lw_g (lw_at lw_m3 193 rfl) rfl
theorem q724 : (Jvm.Cond.privateMethod ({ cls := "SongLampsModel", name := "sings", desc := "(II)Z" } : Jvm.MethodName)) ∈ lw_tbl := lw_at lw_m3 194 rfl
theorem q725 : (Jvm.Cond.instanceMethod ({ cls := "SongLampsModel", name := "sings", desc := "(II)Z" } : Jvm.MethodName)) ∈ lw_all := lw_g (lw_at lw_m3 195 rfl) rfl
theorem q726 : (Jvm.Cond.code ({ cls := "SongLampsModel", name := "sings", desc := "(II)Z" } : Jvm.MethodName) prog_4_method_16_code (3 : Nat) (Option.some Jvm.ClassFile.FieldType.boolean)) ∈ lw_all := lw_g (lw_at lw_m3 196 rfl) rfl
theorem q727 : (Jvm.Cond.methodLink "SongLampsModel" (95 : Nat) ({ cls := "SongLampsModel", name := "areHushed", desc := "(II)Z" } : Jvm.MethodName)) ∈ lw_all := lw_g (lw_at lw_m3 197 rfl) rfl
theorem q728 : (Jvm.Cond.privateMethod ({ cls := "SongLampsModel", name := "areHushed", desc := "(II)Z" } : Jvm.MethodName)) ∈ lw_tbl := lw_at lw_m3 198 rfl
theorem q729 : (Jvm.Cond.instanceMethod ({ cls := "SongLampsModel", name := "areHushed", desc := "(II)Z" } : Jvm.MethodName)) ∈ lw_all := lw_g (lw_at lw_m3 199 rfl) rfl
theorem q730 : (Jvm.Cond.code ({ cls := "SongLampsModel", name := "areHushed", desc := "(II)Z" } : Jvm.MethodName) prog_4_method_17_code (4 : Nat) (Option.some Jvm.ClassFile.FieldType.boolean)) ∈ lw_all := lw_g (lw_at lw_m3 200 rfl) rfl
theorem q731 : (Jvm.Cond.methodLink "SongLampsModel" (122 : Nat) ({ cls := "SongLampsModel", name := "beat", desc := "()I" } : Jvm.MethodName)) ∈ lw_all := lw_g (lw_at lw_m3 201 rfl) rfl
theorem q732 : (Jvm.Cond.privateMethod ({ cls := "SongLampsModel", name := "beat", desc := "()I" } : Jvm.MethodName)) ∈ lw_tbl := lw_at lw_m3 202 rfl
theorem q733 : (Jvm.Cond.instanceMethod ({ cls := "SongLampsModel", name := "beat", desc := "()I" } : Jvm.MethodName)) ∈ lw_all := lw_g (lw_at lw_m3 203 rfl) rfl
theorem q734 : (Jvm.Cond.code ({ cls := "SongLampsModel", name := "beat", desc := "()I" } : Jvm.MethodName) prog_4_method_25_code (3 : Nat) (Option.some Jvm.ClassFile.FieldType.int)) ∈ lw_all := lw_g (lw_at lw_m3 204 rfl) rfl
theorem q735 : (Jvm.Cond.methodLink "SongLampsModel" (125 : Nat) ({ cls := "SongLampsModel", name := "hush", desc := "(I)I" } : Jvm.MethodName)) ∈ lw_all := lw_g (lw_at lw_m3 205 rfl) rfl
theorem q736 : (Jvm.Cond.privateMethod ({ cls := "SongLampsModel", name := "hush", desc := "(I)I" } : Jvm.MethodName)) ∈ lw_tbl := lw_at lw_m3 206 rfl
theorem q737 : (Jvm.Cond.instanceMethod ({ cls := "SongLampsModel", name := "hush", desc := "(I)I" } : Jvm.MethodName)) ∈ lw_all := lw_g (lw_at lw_m3 207 rfl) rfl
theorem q738 : (Jvm.Cond.code ({ cls := "SongLampsModel", name := "hush", desc := "(I)I" } : Jvm.MethodName) prog_4_method_23_code (2 : Nat) (Option.some Jvm.ClassFile.FieldType.int)) ∈ lw_all := lw_g (lw_at lw_m3 208 rfl) rfl
theorem q739 : (Jvm.Cond.methodLink "SongLampsModel" (128 : Nat) ({ cls := "SongLampsModel", name := "go", desc := "(II)I" } : Jvm.MethodName)) ∈ lw_all := lw_g (lw_at lw_m3 209 rfl) rfl
theorem q740 : (Jvm.Cond.privateMethod ({ cls := "SongLampsModel", name := "go", desc := "(II)I" } : Jvm.MethodName)) ∈ lw_tbl := lw_at lw_m3 210 rfl
theorem q741 : (Jvm.Cond.instanceMethod ({ cls := "SongLampsModel", name := "go", desc := "(II)I" } : Jvm.MethodName)) ∈ lw_all := lw_g (lw_at lw_m3 211 rfl) rfl
theorem q742 : (Jvm.Cond.code ({ cls := "SongLampsModel", name := "go", desc := "(II)I" } : Jvm.MethodName) prog_4_method_24_code (4 : Nat) (Option.some Jvm.ClassFile.FieldType.int)) ∈ lw_all := lw_g (lw_at lw_m3 212 rfl) rfl
theorem q743 : (Jvm.Cond.methodLink "SongLampsModel" (132 : Nat) ({ cls := "SongLampsModel", name := "sing", desc := "(II)I" } : Jvm.MethodName)) ∈ lw_all := lw_g (lw_at lw_m3 213 rfl) rfl
theorem q744 : (Jvm.Cond.privateMethod ({ cls := "SongLampsModel", name := "sing", desc := "(II)I" } : Jvm.MethodName)) ∈ lw_tbl := lw_at lw_m3 214 rfl
theorem q745 : (Jvm.Cond.instanceMethod ({ cls := "SongLampsModel", name := "sing", desc := "(II)I" } : Jvm.MethodName)) ∈ lw_all := lw_g (lw_at lw_m3 215 rfl) rfl
theorem q746 : (Jvm.Cond.code ({ cls := "SongLampsModel", name := "sing", desc := "(II)I" } : Jvm.MethodName) prog_4_method_22_code (3 : Nat) (Option.some Jvm.ClassFile.FieldType.int)) ∈ lw_all := lw_g (lw_at lw_m3 216 rfl) rfl
theorem q748 : (Jvm.Cond.instanceMethod ({ cls := "SongLampsModel", name := "done", desc := "()I" } : Jvm.MethodName)) ∈ lw_all := lw_g (lw_at lw_m3 218 rfl) rfl
theorem q749 : (Jvm.Cond.selects "SongLampsModel" ({ cls := "SongLampsModel", name := "done", desc := "()I" } : Jvm.MethodName) ({ cls := "SongLampsModel", name := "done", desc := "()I" } : Jvm.MethodName)) ∈ lw_all := lw_g (lw_at lw_m3 219 rfl) rfl
theorem q750 : (Jvm.Cond.code ({ cls := "SongLampsModel", name := "done", desc := "()I" } : Jvm.MethodName) prog_4_method_29_code (2 : Nat) (Option.some Jvm.ClassFile.FieldType.int)) ∈ lw_all := lw_g (lw_at lw_m3 220 rfl) rfl
theorem q751 : (Jvm.Cond.methodLink "SongLampsModel" (138 : Nat) ({ cls := "SongLampsModel", name := "barOfShifts", desc := "()I" } : Jvm.MethodName)) ∈ lw_all := lw_g (lw_at lw_m3 221 rfl) rfl
theorem q752 : (Jvm.Cond.privateMethod ({ cls := "SongLampsModel", name := "barOfShifts", desc := "()I" } : Jvm.MethodName)) ∈ lw_tbl := lw_at lw_m3 222 rfl
theorem q753 : (Jvm.Cond.instanceMethod ({ cls := "SongLampsModel", name := "barOfShifts", desc := "()I" } : Jvm.MethodName)) ∈ lw_all := lw_g (lw_at lw_m3 223 rfl) rfl
theorem q754 : (Jvm.Cond.code ({ cls := "SongLampsModel", name := "barOfShifts", desc := "()I" } : Jvm.MethodName) prog_4_method_28_code (1 : Nat) (Option.some Jvm.ClassFile.FieldType.int)) ∈ lw_all := lw_g (lw_at lw_m3 224 rfl) rfl
theorem q756 : (Jvm.Cond.instanceMethod ({ cls := "SongLampsModel", name := "behind", desc := "(II)I" } : Jvm.MethodName)) ∈ lw_all := lw_g (lw_at lw_m3 226 rfl) rfl
theorem q757 : (Jvm.Cond.selects "SongLampsModel" ({ cls := "SongLampsModel", name := "behind", desc := "(II)I" } : Jvm.MethodName) ({ cls := "SongLampsModel", name := "behind", desc := "(II)I" } : Jvm.MethodName)) ∈ lw_all := lw_g (lw_at lw_m3 227 rfl) rfl
theorem q758 : (Jvm.Cond.code ({ cls := "SongLampsModel", name := "behind", desc := "(II)I" } : Jvm.MethodName) prog_4_method_30_code (3 : Nat) (Option.some Jvm.ClassFile.FieldType.int)) ∈ lw_all := lw_g (lw_at lw_m3 228 rfl) rfl
theorem q760 : (Jvm.Cond.instanceMethod ({ cls := "SongLampsModel", name := "seam", desc := "(II)I" } : Jvm.MethodName)) ∈ lw_all := lw_g (lw_at lw_m3 230 rfl) rfl
theorem q761 : (Jvm.Cond.selects "SongLampsModel" ({ cls := "SongLampsModel", name := "seam", desc := "(II)I" } : Jvm.MethodName) ({ cls := "SongLampsModel", name := "seam", desc := "(II)I" } : Jvm.MethodName)) ∈ lw_all := lw_g (lw_at lw_m3 231 rfl) rfl
theorem q762 : (Jvm.Cond.code ({ cls := "SongLampsModel", name := "seam", desc := "(II)I" } : Jvm.MethodName) prog_4_method_31_code (3 : Nat) (Option.some Jvm.ClassFile.FieldType.int)) ∈ lw_all := lw_g (lw_at lw_m3 232 rfl) rfl
theorem q764 : (Jvm.Cond.instanceMethod ({ cls := "SongLampsModel", name := "then", desc := "(I)I" } : Jvm.MethodName)) ∈ lw_all := lw_g (lw_at lw_m3 234 rfl) rfl
theorem q765 : (Jvm.Cond.selects "SongLampsModel" ({ cls := "SongLampsModel", name := "then", desc := "(I)I" } : Jvm.MethodName) ({ cls := "SongLampsModel", name := "then", desc := "(I)I" } : Jvm.MethodName)) ∈ lw_all := lw_g (lw_at lw_m3 235 rfl) rfl
theorem q766 : (Jvm.Cond.code ({ cls := "SongLampsModel", name := "then", desc := "(I)I" } : Jvm.MethodName) prog_4_method_33_code (2 : Nat) (Option.some Jvm.ClassFile.FieldType.int)) ∈ lw_all := lw_g (lw_at lw_m3 236 rfl) rfl
theorem q767 : (Jvm.Cond.methodLink "SongLampsModel" (141 : Nat) ({ cls := "SongLampsModel", name := "coal", desc := "()I" } : Jvm.MethodName)) ∈ lw_all := lw_g (lw_at lw_m3 237 rfl) rfl
theorem q768 : (Jvm.Cond.privateMethod ({ cls := "SongLampsModel", name := "coal", desc := "()I" } : Jvm.MethodName)) ∈ lw_tbl := lw_at lw_m3 238 rfl
theorem q769 : (Jvm.Cond.instanceMethod ({ cls := "SongLampsModel", name := "coal", desc := "()I" } : Jvm.MethodName)) ∈ lw_all := lw_g (lw_at lw_m3 239 rfl) rfl
theorem q770 : (Jvm.Cond.code ({ cls := "SongLampsModel", name := "coal", desc := "()I" } : Jvm.MethodName) prog_4_method_32_code (3 : Nat) (Option.some Jvm.ClassFile.FieldType.int)) ∈ lw_all := lw_g (lw_at lw_m4 0 rfl) rfl
theorem q772 : (Jvm.Cond.instanceMethod ({ cls := "SongLampsModel", name := "light", desc := "(I)I" } : Jvm.MethodName)) ∈ lw_all := lw_g (lw_at lw_m4 2 rfl) rfl
theorem q773 : (Jvm.Cond.selects "SongLampsModel" ({ cls := "SongLampsModel", name := "light", desc := "(I)I" } : Jvm.MethodName) ({ cls := "SongLampsModel", name := "light", desc := "(I)I" } : Jvm.MethodName)) ∈ lw_all := lw_g (lw_at lw_m4 3 rfl) rfl
theorem q774 : (Jvm.Cond.code ({ cls := "SongLampsModel", name := "light", desc := "(I)I" } : Jvm.MethodName) prog_4_method_34_code (2 : Nat) (Option.some Jvm.ClassFile.FieldType.int)) ∈ lw_all := lw_g (lw_at lw_m4 4 rfl) rfl
theorem q776 : (Jvm.Cond.instanceMethod ({ cls := "SongLampsModel", name := "shakes", desc := "()I" } : Jvm.MethodName)) ∈ lw_all := lw_g (lw_at lw_m4 6 rfl) rfl
theorem q777 : (Jvm.Cond.selects "SongLampsModel" ({ cls := "SongLampsModel", name := "shakes", desc := "()I" } : Jvm.MethodName) ({ cls := "SongLampsModel", name := "shakes", desc := "()I" } : Jvm.MethodName)) ∈ lw_all := lw_g (lw_at lw_m4 7 rfl) rfl
theorem q778 : (Jvm.Cond.code ({ cls := "SongLampsModel", name := "shakes", desc := "()I" } : Jvm.MethodName) prog_4_method_35_code (5 : Nat) (Option.some Jvm.ClassFile.FieldType.int)) ∈ lw_all := lw_g (lw_at lw_m4 8 rfl) rfl
theorem q780 : (Jvm.Cond.instanceMethod ({ cls := "SongLampsModel", name := "way", desc := "(III)I" } : Jvm.MethodName)) ∈ lw_all := lw_g (lw_at lw_m4 10 rfl) rfl
theorem q781 : (Jvm.Cond.selects "SongLampsModel" ({ cls := "SongLampsModel", name := "way", desc := "(III)I" } : Jvm.MethodName) ({ cls := "SongLampsModel", name := "way", desc := "(III)I" } : Jvm.MethodName)) ∈ lw_all := lw_g (lw_at lw_m4 11 rfl) rfl
theorem q782 : (Jvm.Cond.code ({ cls := "SongLampsModel", name := "way", desc := "(III)I" } : Jvm.MethodName) prog_4_method_37_code (6 : Nat) (Option.some Jvm.ClassFile.FieldType.int)) ∈ lw_all := lw_g (lw_at lw_m4 12 rfl) rfl
theorem q783 : (Jvm.Cond.methodLink "SongLampsModel" (145 : Nat) ({ cls := "SongLampsModel", name := "layFar", desc := "(II)V" } : Jvm.MethodName)) ∈ lw_all := lw_g (lw_at lw_m4 13 rfl) rfl
theorem q784 : (Jvm.Cond.privateMethod ({ cls := "SongLampsModel", name := "layFar", desc := "(II)V" } : Jvm.MethodName)) ∈ lw_tbl := lw_at lw_m4 14 rfl
theorem q785 : (Jvm.Cond.instanceMethod ({ cls := "SongLampsModel", name := "layFar", desc := "(II)V" } : Jvm.MethodName)) ∈ lw_all := lw_g (lw_at lw_m4 15 rfl) rfl
theorem q786 : (Jvm.Cond.code ({ cls := "SongLampsModel", name := "layFar", desc := "(II)V" } : Jvm.MethodName) prog_4_method_36_code (6 : Nat) (Option.none : Option Jvm.ClassFile.FieldType)) ∈ lw_all := lw_g (lw_at lw_m4 16 rfl) rfl
theorem q787 : (Jvm.Cond.constant "SongLampsModel" (144 : Nat) (1000000 : Int32)) ∈ lw_all := lw_g (lw_at lw_m4 17 rfl) rfl
theorem q789 : (Jvm.Cond.instanceMethod ({ cls := "SongLampsModel", name := "fewest", desc := "(II)I" } : Jvm.MethodName)) ∈ lw_all := lw_g (lw_at lw_m4 19 rfl) rfl
theorem q790 : (Jvm.Cond.selects "SongLampsModel" ({ cls := "SongLampsModel", name := "fewest", desc := "(II)I" } : Jvm.MethodName) ({ cls := "SongLampsModel", name := "fewest", desc := "(II)I" } : Jvm.MethodName)) ∈ lw_all := lw_g (lw_at lw_m4 20 rfl) rfl
theorem q791 : (Jvm.Cond.code ({ cls := "SongLampsModel", name := "fewest", desc := "(II)I" } : Jvm.MethodName) prog_4_method_38_code (7 : Nat) (Option.some Jvm.ClassFile.FieldType.int)) ∈ lw_all := lw_g (lw_at lw_m4 21 rfl) rfl
theorem q793 : (Jvm.Cond.instanceMethod ({ cls := "SongLampsModel", name := "keep", desc := "(I)I" } : Jvm.MethodName)) ∈ lw_all := lw_g (lw_at lw_m4 23 rfl) rfl
theorem q794 : (Jvm.Cond.selects "SongLampsModel" ({ cls := "SongLampsModel", name := "keep", desc := "(I)I" } : Jvm.MethodName) ({ cls := "SongLampsModel", name := "keep", desc := "(I)I" } : Jvm.MethodName)) ∈ lw_all := lw_g (lw_at lw_m4 24 rfl) rfl
theorem q795 : (Jvm.Cond.code ({ cls := "SongLampsModel", name := "keep", desc := "(I)I" } : Jvm.MethodName) prog_4_method_39_code (8 : Nat) (Option.some Jvm.ClassFile.FieldType.int)) ∈ lw_all := lw_g (lw_at lw_m4 25 rfl) rfl
theorem q797 : (Jvm.Cond.instanceMethod ({ cls := "SongLampsModel", name := "cut", desc := "()I" } : Jvm.MethodName)) ∈ lw_all := lw_g (lw_at lw_m4 27 rfl) rfl
theorem q798 : (Jvm.Cond.selects "SongLampsModel" ({ cls := "SongLampsModel", name := "cut", desc := "()I" } : Jvm.MethodName) ({ cls := "SongLampsModel", name := "cut", desc := "()I" } : Jvm.MethodName)) ∈ lw_all := lw_g (lw_at lw_m4 28 rfl) rfl
theorem q799 : (Jvm.Cond.code ({ cls := "SongLampsModel", name := "cut", desc := "()I" } : Jvm.MethodName) prog_4_method_40_code (3 : Nat) (Option.some Jvm.ClassFile.FieldType.int)) ∈ lw_all := lw_g (lw_at lw_m4 29 rfl) rfl
theorem q801 : (Jvm.Cond.instanceMethod ({ cls := "SongLampsModel", name := "hold", desc := "(III)I" } : Jvm.MethodName)) ∈ lw_all := lw_g (lw_at lw_m4 31 rfl) rfl
theorem q802 : (Jvm.Cond.selects "SongLampsModel" ({ cls := "SongLampsModel", name := "hold", desc := "(III)I" } : Jvm.MethodName) ({ cls := "SongLampsModel", name := "hold", desc := "(III)I" } : Jvm.MethodName)) ∈ lw_all := lw_g (lw_at lw_m4 32 rfl) rfl
theorem q803 : (Jvm.Cond.code ({ cls := "SongLampsModel", name := "hold", desc := "(III)I" } : Jvm.MethodName) prog_4_method_44_code (8 : Nat) (Option.some Jvm.ClassFile.FieldType.int)) ∈ lw_all := lw_g (lw_at lw_m4 33 rfl) rfl
theorem q804 : (Jvm.Cond.methodLink "SongLampsModel" (156 : Nat) ({ cls := "SongLampsModel", name := "heldBy", desc := "(III)I" } : Jvm.MethodName)) ∈ lw_all := lw_g (lw_at lw_m4 34 rfl) rfl
theorem q805 : (Jvm.Cond.privateMethod ({ cls := "SongLampsModel", name := "heldBy", desc := "(III)I" } : Jvm.MethodName)) ∈ lw_tbl := lw_at lw_m4 35 rfl
theorem q806 : (Jvm.Cond.instanceMethod ({ cls := "SongLampsModel", name := "heldBy", desc := "(III)I" } : Jvm.MethodName)) ∈ lw_all := lw_g (lw_at lw_m4 36 rfl) rfl
theorem q807 : (Jvm.Cond.code ({ cls := "SongLampsModel", name := "heldBy", desc := "(III)I" } : Jvm.MethodName) prog_4_method_43_code (10 : Nat) (Option.some Jvm.ClassFile.FieldType.int)) ∈ lw_all := lw_g (lw_at lw_m4 37 rfl) rfl
theorem q808 : (Jvm.Cond.methodLink "SongLampsModel" (149 : Nat) ({ cls := "SongLampsModel", name := "digit", desc := "(II)I" } : Jvm.MethodName)) ∈ lw_all := lw_g (lw_at lw_m4 38 rfl) rfl
theorem q809 : (Jvm.Cond.static ({ cls := "SongLampsModel", name := "digit", desc := "(II)I" } : Jvm.MethodName)) ∈ lw_all := lw_g (lw_at lw_m4 39 rfl) rfl
theorem q810 : (Jvm.Cond.code ({ cls := "SongLampsModel", name := "digit", desc := "(II)I" } : Jvm.MethodName) prog_4_method_41_code (2 : Nat) (Option.some Jvm.ClassFile.FieldType.int)) ∈ lw_all := lw_g (lw_at lw_m4 40 rfl) rfl
theorem q811 : (Jvm.Cond.methodLink "SongLampsModel" (152 : Nat) ({ cls := "SongLampsModel", name := "rested", desc := "(IIII)I" } : Jvm.MethodName)) ∈ lw_all := lw_g (lw_at lw_m4 41 rfl) rfl
theorem q812 : (Jvm.Cond.static ({ cls := "SongLampsModel", name := "rested", desc := "(IIII)I" } : Jvm.MethodName)) ∈ lw_all := lw_g (lw_at lw_m4 42 rfl) rfl
theorem q813 : (Jvm.Cond.code ({ cls := "SongLampsModel", name := "rested", desc := "(IIII)I" } : Jvm.MethodName) prog_4_method_42_code (7 : Nat) (Option.some Jvm.ClassFile.FieldType.int)) ∈ lw_all := lw_g (lw_at lw_m4 43 rfl) rfl
theorem q815 : (Jvm.Cond.instanceMethod ({ cls := "SongLampsModel", name := "round", desc := "(IIII)I" } : Jvm.MethodName)) ∈ lw_all := lw_g (lw_at lw_m4 45 rfl) rfl
theorem q816 : (Jvm.Cond.selects "SongLampsModel" ({ cls := "SongLampsModel", name := "round", desc := "(IIII)I" } : Jvm.MethodName) ({ cls := "SongLampsModel", name := "round", desc := "(IIII)I" } : Jvm.MethodName)) ∈ lw_all := lw_g (lw_at lw_m4 46 rfl) rfl
theorem q817 : (Jvm.Cond.code ({ cls := "SongLampsModel", name := "round", desc := "(IIII)I" } : Jvm.MethodName) prog_4_method_45_code (6 : Nat) (Option.some Jvm.ClassFile.FieldType.int)) ∈ lw_all := lw_g (lw_at lw_m4 47 rfl) rfl
theorem q819 : (Jvm.Cond.instanceMethod ({ cls := "SongLampsModel", name := "heard", desc := "(II)I" } : Jvm.MethodName)) ∈ lw_all := lw_g (lw_at lw_m4 49 rfl) rfl
theorem q820 : (Jvm.Cond.selects "SongLampsModel" ({ cls := "SongLampsModel", name := "heard", desc := "(II)I" } : Jvm.MethodName) ({ cls := "SongLampsModel", name := "heard", desc := "(II)I" } : Jvm.MethodName)) ∈ lw_all := lw_g (lw_at lw_m4 50 rfl) rfl
theorem q821 : (Jvm.Cond.code ({ cls := "SongLampsModel", name := "heard", desc := "(II)I" } : Jvm.MethodName) prog_4_method_47_code (3 : Nat) (Option.some Jvm.ClassFile.FieldType.int)) ∈ lw_all := lw_g (lw_at lw_m4 51 rfl) rfl
theorem q823 : (Jvm.Cond.instanceMethod ({ cls := "SongLampsModel", name := "forget", desc := "()I" } : Jvm.MethodName)) ∈ lw_all := lw_g (lw_at lw_m4 53 rfl) rfl
theorem q824 : (Jvm.Cond.selects "SongLampsModel" ({ cls := "SongLampsModel", name := "forget", desc := "()I" } : Jvm.MethodName) ({ cls := "SongLampsModel", name := "forget", desc := "()I" } : Jvm.MethodName)) ∈ lw_all := lw_g (lw_at lw_m4 54 rfl) rfl
theorem q825 : (Jvm.Cond.code ({ cls := "SongLampsModel", name := "forget", desc := "()I" } : Jvm.MethodName) prog_4_method_48_code (2 : Nat) (Option.some Jvm.ClassFile.FieldType.int)) ∈ lw_all := lw_g (lw_at lw_m4 55 rfl) rfl
theorem q827 : (Jvm.Cond.instanceMethod ({ cls := "SongLampsModel", name := "losts", desc := "(I)I" } : Jvm.MethodName)) ∈ lw_all := lw_g (lw_at lw_m4 57 rfl) rfl
theorem q828 : (Jvm.Cond.selects "SongLampsModel" ({ cls := "SongLampsModel", name := "losts", desc := "(I)I" } : Jvm.MethodName) ({ cls := "SongLampsModel", name := "losts", desc := "(I)I" } : Jvm.MethodName)) ∈ lw_all := lw_g (lw_at lw_m4 58 rfl) rfl
theorem q829 : (Jvm.Cond.code ({ cls := "SongLampsModel", name := "losts", desc := "(I)I" } : Jvm.MethodName) prog_4_method_51_code (4 : Nat) (Option.some Jvm.ClassFile.FieldType.int)) ∈ lw_all := lw_g (lw_at lw_m4 59 rfl) rfl
theorem q830 : (Jvm.Cond.methodLink "SongLampsModel" (166 : Nat) ({ cls := "SongLampsModel", name := "layApart", desc := "()V" } : Jvm.MethodName)) ∈ lw_all := lw_g (lw_at lw_m4 60 rfl) rfl
theorem q831 : (Jvm.Cond.privateMethod ({ cls := "SongLampsModel", name := "layApart", desc := "()V" } : Jvm.MethodName)) ∈ lw_tbl := lw_at lw_m4 61 rfl
theorem q832 : (Jvm.Cond.instanceMethod ({ cls := "SongLampsModel", name := "layApart", desc := "()V" } : Jvm.MethodName)) ∈ lw_all := lw_g (lw_at lw_m4 62 rfl) rfl
theorem q833 : (Jvm.Cond.code ({ cls := "SongLampsModel", name := "layApart", desc := "()V" } : Jvm.MethodName) prog_4_method_46_code (3 : Nat) (Option.none : Option Jvm.ClassFile.FieldType)) ∈ lw_all := lw_g (lw_at lw_m4 63 rfl) rfl
theorem q834 : (Jvm.Cond.methodLink "SongLampsModel" (169 : Nat) ({ cls := "SongLampsModel", name := "isLost", desc := "(I)Z" } : Jvm.MethodName)) ∈ lw_all := lw_g (lw_at lw_m4 64 rfl) rfl
theorem q835 : (Jvm.Cond.privateMethod ({ cls := "SongLampsModel", name := "isLost", desc := "(I)Z" } : Jvm.MethodName)) ∈ lw_tbl := lw_at lw_m4 65 rfl
theorem q836 : (Jvm.Cond.instanceMethod ({ cls := "SongLampsModel", name := "isLost", desc := "(I)Z" } : Jvm.MethodName)) ∈ lw_all := lw_g (lw_at lw_m4 66 rfl) rfl
theorem q837 : (Jvm.Cond.code ({ cls := "SongLampsModel", name := "isLost", desc := "(I)Z" } : Jvm.MethodName) prog_4_method_50_code (4 : Nat) (Option.some Jvm.ClassFile.FieldType.boolean)) ∈ lw_all := lw_g (lw_at lw_m4 67 rfl) rfl
theorem q838 : (Jvm.Cond.methodLink "SongLampsModel" (163 : Nat) ({ cls := "SongLampsModel", name := "noteIn", desc := "(II)I" } : Jvm.MethodName)) ∈ lw_all := lw_g (lw_at lw_m4 68 rfl) rfl
theorem q839 : (Jvm.Cond.privateMethod ({ cls := "SongLampsModel", name := "noteIn", desc := "(II)I" } : Jvm.MethodName)) ∈ lw_tbl := lw_at lw_m4 69 rfl
theorem q840 : (Jvm.Cond.instanceMethod ({ cls := "SongLampsModel", name := "noteIn", desc := "(II)I" } : Jvm.MethodName)) ∈ lw_all := lw_g (lw_at lw_m4 70 rfl) rfl
theorem q841 : (Jvm.Cond.code ({ cls := "SongLampsModel", name := "noteIn", desc := "(II)I" } : Jvm.MethodName) prog_4_method_49_code (4 : Nat) (Option.some Jvm.ClassFile.FieldType.int)) ∈ lw_all := lw_g (lw_at lw_m4 71 rfl) rfl
theorem q843 : (Jvm.Cond.instanceMethod ({ cls := "SongLampsModel", name := "listen", desc := "(I)I" } : Jvm.MethodName)) ∈ lw_all := lw_g (lw_at lw_m4 73 rfl) rfl
theorem q844 : (Jvm.Cond.selects "SongLampsModel" ({ cls := "SongLampsModel", name := "listen", desc := "(I)I" } : Jvm.MethodName) ({ cls := "SongLampsModel", name := "listen", desc := "(I)I" } : Jvm.MethodName)) ∈ lw_all := lw_g (lw_at lw_m4 74 rfl) rfl
theorem q845 : (Jvm.Cond.code ({ cls := "SongLampsModel", name := "listen", desc := "(I)I" } : Jvm.MethodName) prog_4_method_52_code (8 : Nat) (Option.some Jvm.ClassFile.FieldType.int)) ∈ lw_all := lw_g (lw_at lw_m4 75 rfl) rfl
theorem q847 : (Jvm.Cond.instanceMethod ({ cls := "SongLampsModel", name := "cold", desc := "(IIIII)J" } : Jvm.MethodName)) ∈ lw_all := lw_g (lw_at lw_m4 77 rfl) rfl
theorem q848 : (Jvm.Cond.selects "SongLampsModel" ({ cls := "SongLampsModel", name := "cold", desc := "(IIIII)J" } : Jvm.MethodName) ({ cls := "SongLampsModel", name := "cold", desc := "(IIIII)J" } : Jvm.MethodName)) ∈ lw_all := lw_g (lw_at lw_m4 78 rfl) rfl
theorem q849 : (Jvm.Cond.code ({ cls := "SongLampsModel", name := "cold", desc := "(IIIII)J" } : Jvm.MethodName) prog_4_method_54_code (19 : Nat) (Option.some Jvm.ClassFile.FieldType.long)) ∈ lw_all := lw_g (lw_at lw_m4 79 rfl) rfl
theorem q850 : (Jvm.Cond.constantLong "SongLampsModel" (172 : Nat) (-1000000000000000001 : Int64)) ∈ lw_all := lw_g (lw_at lw_m4 80 rfl) rfl
theorem q851 : (Jvm.Cond.constantLong "SongLampsModel" (174 : Nat) (-1000000000000000002 : Int64)) ∈ lw_all := lw_g (lw_at lw_m4 81 rfl) rfl
theorem q852 : (Jvm.Cond.constantLong "SongLampsModel" (176 : Nat) (-1000000000000000003 : Int64)) ∈ lw_all := lw_g (lw_at lw_m4 82 rfl) rfl
theorem q853 : (Jvm.Cond.constantLong "SongLampsModel" (178 : Nat) (10 : Int64)) ∈ lw_all := lw_g (lw_at lw_m4 83 rfl) rfl
theorem q854 : (Jvm.Cond.methodLink "SongLampsModel" (180 : Nat) ({ cls := "SongLampsModel", name := "power", desc := "(JI)J" } : Jvm.MethodName)) ∈ lw_all := lw_g (lw_at lw_m4 84 rfl) rfl
theorem q855 : (Jvm.Cond.static ({ cls := "SongLampsModel", name := "power", desc := "(JI)J" } : Jvm.MethodName)) ∈ lw_all := lw_g (lw_at lw_m4 85 rfl) rfl
theorem q856 : (Jvm.Cond.code ({ cls := "SongLampsModel", name := "power", desc := "(JI)J" } : Jvm.MethodName) prog_4_method_53_code (6 : Nat) (Option.some Jvm.ClassFile.FieldType.long)) ∈ lw_all := lw_g (lw_at lw_m4 86 rfl) rfl
theorem q858 : (Jvm.Cond.instanceMethod ({ cls := "SongLampsModel", name := "year", desc := "(III)I" } : Jvm.MethodName)) ∈ lw_all := lw_g (lw_at lw_m4 88 rfl) rfl
theorem q859 : (Jvm.Cond.selects "SongLampsModel" ({ cls := "SongLampsModel", name := "year", desc := "(III)I" } : Jvm.MethodName) ({ cls := "SongLampsModel", name := "year", desc := "(III)I" } : Jvm.MethodName)) ∈ lw_all := lw_g (lw_at lw_m4 89 rfl) rfl
theorem q860 : (Jvm.Cond.code ({ cls := "SongLampsModel", name := "year", desc := "(III)I" } : Jvm.MethodName) prog_4_method_55_code (9 : Nat) (Option.some Jvm.ClassFile.FieldType.int)) ∈ lw_all := lw_g (lw_at lw_m4 90 rfl) rfl
theorem q861 : (Jvm.Cond.constant "SongLampsModel" (184 : Nat) (65537 : Int32)) ∈ lw_all := lw_g (lw_at lw_m4 91 rfl) rfl
theorem q863 : (Jvm.Cond.instanceMethod ({ cls := "SongLampsModel", name := "image", desc := "(I)I" } : Jvm.MethodName)) ∈ lw_all := lw_g (lw_at lw_m4 93 rfl) rfl
theorem q864 : (Jvm.Cond.selects "SongLampsModel" ({ cls := "SongLampsModel", name := "image", desc := "(I)I" } : Jvm.MethodName) ({ cls := "SongLampsModel", name := "image", desc := "(I)I" } : Jvm.MethodName)) ∈ lw_all := lw_g (lw_at lw_m4 94 rfl) rfl
theorem q865 : (Jvm.Cond.code ({ cls := "SongLampsModel", name := "image", desc := "(I)I" } : Jvm.MethodName) prog_4_method_56_code (4 : Nat) (Option.some Jvm.ClassFile.FieldType.int)) ∈ lw_all := lw_g (lw_at lw_m4 95 rfl) rfl
theorem q867 : (Jvm.Cond.instanceMethod ({ cls := "SongLampsModel", name := "restore", desc := "(I)I" } : Jvm.MethodName)) ∈ lw_all := lw_g (lw_at lw_m4 97 rfl) rfl
theorem q868 : (Jvm.Cond.selects "SongLampsModel" ({ cls := "SongLampsModel", name := "restore", desc := "(I)I" } : Jvm.MethodName) ({ cls := "SongLampsModel", name := "restore", desc := "(I)I" } : Jvm.MethodName)) ∈ lw_all := lw_g (lw_at lw_m4 98 rfl) rfl
theorem q869 : (Jvm.Cond.code ({ cls := "SongLampsModel", name := "restore", desc := "(I)I" } : Jvm.MethodName) prog_4_method_57_code (4 : Nat) (Option.some Jvm.ClassFile.FieldType.int)) ∈ lw_all := lw_g (lw_at lw_m4 99 rfl) rfl
theorem q871 : (Jvm.Cond.instanceMethod ({ cls := "SongLampsModel", name := "told", desc := "(I)I" } : Jvm.MethodName)) ∈ lw_all := lw_g (lw_at lw_m4 101 rfl) rfl
theorem q872 : (Jvm.Cond.selects "SongLampsModel" ({ cls := "SongLampsModel", name := "told", desc := "(I)I" } : Jvm.MethodName) ({ cls := "SongLampsModel", name := "told", desc := "(I)I" } : Jvm.MethodName)) ∈ lw_all := lw_g (lw_at lw_m4 102 rfl) rfl
theorem q873 : (Jvm.Cond.code ({ cls := "SongLampsModel", name := "told", desc := "(I)I" } : Jvm.MethodName) prog_4_method_59_code (3 : Nat) (Option.some Jvm.ClassFile.FieldType.int)) ∈ lw_all := lw_g (lw_at lw_m4 103 rfl) rfl
theorem q874 : (Jvm.Cond.methodLink "SongLampsModel" (185 : Nat) ({ cls := "SongLampsModel", name := "toldVoice", desc := "(II)I" } : Jvm.MethodName)) ∈ lw_all := lw_g (lw_at lw_m4 104 rfl) rfl
theorem q875 : (Jvm.Cond.privateMethod ({ cls := "SongLampsModel", name := "toldVoice", desc := "(II)I" } : Jvm.MethodName)) ∈ lw_tbl := lw_at lw_m4 105 rfl
theorem q876 : (Jvm.Cond.instanceMethod ({ cls := "SongLampsModel", name := "toldVoice", desc := "(II)I" } : Jvm.MethodName)) ∈ lw_all := lw_g (lw_at lw_m4 106 rfl) rfl
theorem q877 : (Jvm.Cond.code ({ cls := "SongLampsModel", name := "toldVoice", desc := "(II)I" } : Jvm.MethodName) prog_4_method_58_code (3 : Nat) (Option.some Jvm.ClassFile.FieldType.int)) ∈ lw_all := lw_g (lw_at lw_m4 107 rfl) rfl
theorem in_X2 : ∀ w ∈ wsX20, w ∈ lw_all := lw_in wsX20 [597, 599, 601, 603, 605, 607, 609, 611, 613, 615, 617, 619, 621, 623, 625, 627, 629, 631, 633, 635, 637, 639, 641, 643] (by decide +kernel) (by decide +kernel)
