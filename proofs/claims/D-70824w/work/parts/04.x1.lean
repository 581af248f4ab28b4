/-! SongLamps$Mine -/
set_option maxRecDepth 100000
def RX1 : String := "SongLamps$Mine"
def TX1 : u_T := fun k => match k with
  | 0 => ("SongLamps$Mine", "passages", "[I", true)
  | 1 => ("SongLamps$Mine", "echo", "[I", true)
  | 2 => ("SongLamps$Mine", "coal", "[I", true)
  | 3 => ("SongLamps$Mine", "gas", "I", false)
  | 4 => ("SongLamps$Mine", "closed", "I", false)
  | 5 => ("SongLamps$Mine", "present", "I", false)
  | 6 => ("SongLamps$Mine", "low", "[I", true)
  | 7 => ("SongLamps$Mine", "high", "[I", true)
  | 8 => ("SongLamps$Mine", "lungs", "[I", true)
  | 9 => ("SongLamps$Mine", "breath", "[I", true)
  | 10 => ("SongLamps$Mine", "place", "[I", true)
  | 11 => ("SongLamps$Mine", "note", "[I", true)
  | 12 => ("SongLamps$Mine", "beat", "I", false)
  | 13 => ("SongLamps$Mine", "sightGallery", "[I", true)
  | 14 => ("SongLamps$Mine", "sightNote", "[I", true)
  | 15 => ("SongLamps$Mine", "sights", "I", false)
  | _ => ("SongLamps$Mine", "lights", "[I", true)
def tyX1 : Nat → FieldType := fun k => match k with
  | 0 => .array .int
  | 1 => .array .int
  | 2 => .array .int
  | 3 => .int
  | 4 => .int
  | 5 => .int
  | 6 => .array .int
  | 7 => .array .int
  | 8 => .array .int
  | 9 => .array .int
  | 10 => .array .int
  | 11 => .array .int
  | 12 => .int
  | 13 => .array .int
  | 14 => .array .int
  | 15 => .int
  | _ => .array .int
abbrev wsX10 : List Cond := u_ws RX1 TX1 17
set_option maxRecDepth 100000 in
theorem nmX1 : ∀ a, a < 17 → ∀ b, b < 17 → a ≠ b → (TX1 a).2.1 ≠ (TX1 b).2.1 := by decide +kernel
set_option maxRecDepth 100000 in
theorem tyX1_ok : ∀ k, k < 17 → parseFieldDescriptor (TX1 k).2.2.1 = some (tyX1 k) := by decide +kernel
abbrev cX1_init : ByteArray := prog_2_method_1_code
def yX1_init : MethodName := ⟨RX1, "<init>", "()V"⟩
def dkwX1_init_5 : List UInt8 := [167, 255, 240, 42, 180, 0, 36, 16, 250, 184, 0, 48, 177]
abbrev dktX1_init_5 : List UInt8 := dkwX1_init_5 ++ []
def dkwX1_init_4 : List UInt8 := [188, 10, 181, 0, 45, 3, 60, 27, 16, 10, 162, 0, 16, 42, 180, 0, 15, 27, 27, 79, 132, 1, 1]
abbrev dktX1_init_4 : List UInt8 := dkwX1_init_4 ++ dktX1_init_5
def dkwX1_init_3 : List UInt8 := [188, 10, 181, 0, 36, 42, 16, 8, 188, 10, 181, 0, 39, 42, 16, 8, 188, 10, 181, 0, 42, 42, 16, 10]
abbrev dktX1_init_3 : List UInt8 := dkwX1_init_3 ++ dktX1_init_4
def dkwX1_init_2 : List UInt8 := [188, 10, 181, 0, 27, 42, 16, 8, 188, 10, 181, 0, 30, 42, 16, 8, 188, 10, 181, 0, 33, 42, 16, 8]
abbrev dktX1_init_2 : List UInt8 := dkwX1_init_2 ++ dktX1_init_3
def dkwX1_init_1 : List UInt8 := [188, 10, 181, 0, 18, 42, 16, 8, 188, 10, 181, 0, 21, 42, 16, 8, 188, 10, 181, 0, 24, 42, 16, 8]
abbrev dktX1_init_1 : List UInt8 := dkwX1_init_1 ++ dktX1_init_2
def dkwX1_init_0 : List UInt8 := [42, 183, 0, 3, 42, 16, 10, 188, 10, 181, 0, 9, 42, 16, 10, 188, 10, 181, 0, 15, 42, 16, 10]
abbrev dktX1_init_0 : List UInt8 := dkwX1_init_0 ++ dktX1_init_1
theorem dksX1_init_0 : cX1_init.data.toList.drop 0 = dktX1_init_0 := by decide +kernel
theorem dksX1_init_1 : cX1_init.data.toList.drop 23 = dktX1_init_1 := dk_seg dksX1_init_0 23 rfl rfl
theorem dksX1_init_2 : cX1_init.data.toList.drop 47 = dktX1_init_2 := dk_seg dksX1_init_1 24 rfl rfl
theorem dksX1_init_3 : cX1_init.data.toList.drop 71 = dktX1_init_3 := dk_seg dksX1_init_2 24 rfl rfl
theorem dksX1_init_4 : cX1_init.data.toList.drop 95 = dktX1_init_4 := dk_seg dksX1_init_3 24 rfl rfl
theorem dksX1_init_5 : cX1_init.data.toList.drop 118 = dktX1_init_5 := dk_seg dksX1_init_4 23 rfl rfl
theorem dX1_init_0 : decode cX1_init 0 = .ok (.aload_n 0, 1) := dk_42 (dk_at dksX1_init_0 0 rfl rfl)
theorem dX1_init_1 : decode cX1_init 1 = .ok (.invokespecial 3, 3) := dk_183 0 3 (dk_at dksX1_init_0 1 rfl rfl)
theorem dX1_init_4 : decode cX1_init 4 = .ok (.aload_n 0, 1) := dk_42 (dk_at dksX1_init_0 4 rfl rfl)
theorem dX1_init_5 : decode cX1_init 5 = .ok (.bipush 10, 2) := dk_16 10 (dk_at dksX1_init_0 5 rfl rfl)
theorem dX1_init_7 : decode cX1_init 7 = .ok (.newarray .int, 2) := dk_188_10 (dk_at dksX1_init_0 7 rfl rfl)
theorem dX1_init_9 : decode cX1_init 9 = .ok (.putfield 9, 3) := dk_181 0 9 (dk_at dksX1_init_0 9 rfl rfl)
theorem dX1_init_12 : decode cX1_init 12 = .ok (.aload_n 0, 1) := dk_42 (dk_at dksX1_init_0 12 rfl rfl)
theorem dX1_init_13 : decode cX1_init 13 = .ok (.bipush 10, 2) := dk_16 10 (dk_at dksX1_init_0 13 rfl rfl)
theorem dX1_init_15 : decode cX1_init 15 = .ok (.newarray .int, 2) := dk_188_10 (dk_at dksX1_init_0 15 rfl rfl)
theorem dX1_init_17 : decode cX1_init 17 = .ok (.putfield 15, 3) := dk_181 0 15 (dk_at dksX1_init_0 17 rfl rfl)
theorem dX1_init_20 : decode cX1_init 20 = .ok (.aload_n 0, 1) := dk_42 (dk_at dksX1_init_0 20 rfl rfl)
theorem dX1_init_21 : decode cX1_init 21 = .ok (.bipush 10, 2) := dk_16 10 (dk_at dksX1_init_0 21 rfl rfl)
theorem dX1_init_23 : decode cX1_init 23 = .ok (.newarray .int, 2) := dk_188_10 (dk_at dksX1_init_1 0 rfl rfl)
theorem dX1_init_25 : decode cX1_init 25 = .ok (.putfield 18, 3) := dk_181 0 18 (dk_at dksX1_init_1 2 rfl rfl)
theorem dX1_init_28 : decode cX1_init 28 = .ok (.aload_n 0, 1) := dk_42 (dk_at dksX1_init_1 5 rfl rfl)
theorem dX1_init_29 : decode cX1_init 29 = .ok (.bipush 8, 2) := dk_16 8 (dk_at dksX1_init_1 6 rfl rfl)
theorem dX1_init_31 : decode cX1_init 31 = .ok (.newarray .int, 2) := dk_188_10 (dk_at dksX1_init_1 8 rfl rfl)
theorem dX1_init_33 : decode cX1_init 33 = .ok (.putfield 21, 3) := dk_181 0 21 (dk_at dksX1_init_1 10 rfl rfl)
theorem dX1_init_36 : decode cX1_init 36 = .ok (.aload_n 0, 1) := dk_42 (dk_at dksX1_init_1 13 rfl rfl)
theorem dX1_init_37 : decode cX1_init 37 = .ok (.bipush 8, 2) := dk_16 8 (dk_at dksX1_init_1 14 rfl rfl)
theorem dX1_init_39 : decode cX1_init 39 = .ok (.newarray .int, 2) := dk_188_10 (dk_at dksX1_init_1 16 rfl rfl)
theorem dX1_init_41 : decode cX1_init 41 = .ok (.putfield 24, 3) := dk_181 0 24 (dk_at dksX1_init_1 18 rfl rfl)
theorem dX1_init_44 : decode cX1_init 44 = .ok (.aload_n 0, 1) := dk_42 (dk_at dksX1_init_1 21 rfl rfl)
theorem dX1_init_45 : decode cX1_init 45 = .ok (.bipush 8, 2) := dk_16 8 (dk_at dksX1_init_1 22 rfl rfl)
theorem dX1_init_47 : decode cX1_init 47 = .ok (.newarray .int, 2) := dk_188_10 (dk_at dksX1_init_2 0 rfl rfl)
theorem dX1_init_49 : decode cX1_init 49 = .ok (.putfield 27, 3) := dk_181 0 27 (dk_at dksX1_init_2 2 rfl rfl)
theorem dX1_init_52 : decode cX1_init 52 = .ok (.aload_n 0, 1) := dk_42 (dk_at dksX1_init_2 5 rfl rfl)
theorem dX1_init_53 : decode cX1_init 53 = .ok (.bipush 8, 2) := dk_16 8 (dk_at dksX1_init_2 6 rfl rfl)
theorem dX1_init_55 : decode cX1_init 55 = .ok (.newarray .int, 2) := dk_188_10 (dk_at dksX1_init_2 8 rfl rfl)
theorem dX1_init_57 : decode cX1_init 57 = .ok (.putfield 30, 3) := dk_181 0 30 (dk_at dksX1_init_2 10 rfl rfl)
theorem dX1_init_60 : decode cX1_init 60 = .ok (.aload_n 0, 1) := dk_42 (dk_at dksX1_init_2 13 rfl rfl)
theorem dX1_init_61 : decode cX1_init 61 = .ok (.bipush 8, 2) := dk_16 8 (dk_at dksX1_init_2 14 rfl rfl)
theorem dX1_init_63 : decode cX1_init 63 = .ok (.newarray .int, 2) := dk_188_10 (dk_at dksX1_init_2 16 rfl rfl)
theorem dX1_init_65 : decode cX1_init 65 = .ok (.putfield 33, 3) := dk_181 0 33 (dk_at dksX1_init_2 18 rfl rfl)
theorem dX1_init_68 : decode cX1_init 68 = .ok (.aload_n 0, 1) := dk_42 (dk_at dksX1_init_2 21 rfl rfl)
theorem dX1_init_69 : decode cX1_init 69 = .ok (.bipush 8, 2) := dk_16 8 (dk_at dksX1_init_2 22 rfl rfl)
theorem dX1_init_71 : decode cX1_init 71 = .ok (.newarray .int, 2) := dk_188_10 (dk_at dksX1_init_3 0 rfl rfl)
theorem dX1_init_73 : decode cX1_init 73 = .ok (.putfield 36, 3) := dk_181 0 36 (dk_at dksX1_init_3 2 rfl rfl)
theorem dX1_init_76 : decode cX1_init 76 = .ok (.aload_n 0, 1) := dk_42 (dk_at dksX1_init_3 5 rfl rfl)
theorem dX1_init_77 : decode cX1_init 77 = .ok (.bipush 8, 2) := dk_16 8 (dk_at dksX1_init_3 6 rfl rfl)
theorem dX1_init_79 : decode cX1_init 79 = .ok (.newarray .int, 2) := dk_188_10 (dk_at dksX1_init_3 8 rfl rfl)
theorem dX1_init_81 : decode cX1_init 81 = .ok (.putfield 39, 3) := dk_181 0 39 (dk_at dksX1_init_3 10 rfl rfl)
theorem dX1_init_84 : decode cX1_init 84 = .ok (.aload_n 0, 1) := dk_42 (dk_at dksX1_init_3 13 rfl rfl)
theorem dX1_init_85 : decode cX1_init 85 = .ok (.bipush 8, 2) := dk_16 8 (dk_at dksX1_init_3 14 rfl rfl)
theorem dX1_init_87 : decode cX1_init 87 = .ok (.newarray .int, 2) := dk_188_10 (dk_at dksX1_init_3 16 rfl rfl)
theorem dX1_init_89 : decode cX1_init 89 = .ok (.putfield 42, 3) := dk_181 0 42 (dk_at dksX1_init_3 18 rfl rfl)
theorem dX1_init_92 : decode cX1_init 92 = .ok (.aload_n 0, 1) := dk_42 (dk_at dksX1_init_3 21 rfl rfl)
theorem dX1_init_93 : decode cX1_init 93 = .ok (.bipush 10, 2) := dk_16 10 (dk_at dksX1_init_3 22 rfl rfl)
theorem dX1_init_95 : decode cX1_init 95 = .ok (.newarray .int, 2) := dk_188_10 (dk_at dksX1_init_4 0 rfl rfl)
theorem dX1_init_97 : decode cX1_init 97 = .ok (.putfield 45, 3) := dk_181 0 45 (dk_at dksX1_init_4 2 rfl rfl)
theorem dX1_init_100 : decode cX1_init 100 = .ok (.iconst 0, 1) := dk_3 (dk_at dksX1_init_4 5 rfl rfl)
theorem dX1_init_101 : decode cX1_init 101 = .ok (.istore_n 1, 1) := dk_60 (dk_at dksX1_init_4 6 rfl rfl)
theorem dX1_init_102 : decode cX1_init 102 = .ok (.iload_n 1, 1) := dk_27 (dk_at dksX1_init_4 7 rfl rfl)
theorem dX1_init_103 : decode cX1_init 103 = .ok (.bipush 10, 2) := dk_16 10 (dk_at dksX1_init_4 8 rfl rfl)
theorem dX1_init_105 : decode cX1_init 105 = .ok (.if_icmp .ge 16, 3) := dk_162 0 16 (dk_at dksX1_init_4 10 rfl rfl)
theorem dX1_init_108 : decode cX1_init 108 = .ok (.aload_n 0, 1) := dk_42 (dk_at dksX1_init_4 13 rfl rfl)
theorem dX1_init_109 : decode cX1_init 109 = .ok (.getfield 15, 3) := dk_180 0 15 (dk_at dksX1_init_4 14 rfl rfl)
theorem dX1_init_112 : decode cX1_init 112 = .ok (.iload_n 1, 1) := dk_27 (dk_at dksX1_init_4 17 rfl rfl)
theorem dX1_init_113 : decode cX1_init 113 = .ok (.iload_n 1, 1) := dk_27 (dk_at dksX1_init_4 18 rfl rfl)
theorem dX1_init_114 : decode cX1_init 114 = .ok (.iastore, 1) := dk_79 (dk_at dksX1_init_4 19 rfl rfl)
theorem dX1_init_115 : decode cX1_init 115 = .ok (.iinc 1 1, 3) := dk_132 1 1 (dk_at dksX1_init_4 20 rfl rfl)
theorem dX1_init_118 : decode cX1_init 118 = .ok (.goto (-16), 3) := dk_167 255 240 (dk_at dksX1_init_5 0 rfl rfl)
theorem dX1_init_121 : decode cX1_init 121 = .ok (.aload_n 0, 1) := dk_42 (dk_at dksX1_init_5 3 rfl rfl)
theorem dX1_init_122 : decode cX1_init 122 = .ok (.getfield 36, 3) := dk_180 0 36 (dk_at dksX1_init_5 4 rfl rfl)
theorem dX1_init_125 : decode cX1_init 125 = .ok (.bipush (-6), 2) := dk_16 250 (dk_at dksX1_init_5 7 rfl rfl)
theorem dX1_init_127 : decode cX1_init 127 = .ok (.invokestatic 48, 3) := dk_184 0 48 (dk_at dksX1_init_5 9 rfl rfl)
theorem dX1_init_130 : decode cX1_init 130 = .ok (.return_, 1) := dk_177 (dk_at dksX1_init_5 12 rfl rfl)
abbrev cX1_isThere : ByteArray := prog_2_method_3_code
def yX1_isThere : MethodName := ⟨RX1, "isThere", "(I)Z"⟩
def dkwX1_isThere_0 : List UInt8 := [42, 180, 0, 63, 27, 184, 0, 72, 172]
abbrev dktX1_isThere_0 : List UInt8 := dkwX1_isThere_0 ++ []
theorem dksX1_isThere_0 : cX1_isThere.data.toList.drop 0 = dktX1_isThere_0 := by decide +kernel
theorem dX1_isThere_0 : decode cX1_isThere 0 = .ok (.aload_n 0, 1) := dk_42 (dk_at dksX1_isThere_0 0 rfl rfl)
theorem dX1_isThere_1 : decode cX1_isThere 1 = .ok (.getfield 63, 3) := dk_180 0 63 (dk_at dksX1_isThere_0 1 rfl rfl)
theorem dX1_isThere_4 : decode cX1_isThere 4 = .ok (.iload_n 1, 1) := dk_27 (dk_at dksX1_isThere_0 4 rfl rfl)
theorem dX1_isThere_5 : decode cX1_isThere 5 = .ok (.invokestatic 72, 3) := dk_184 0 72 (dk_at dksX1_isThere_0 5 rfl rfl)
theorem dX1_isThere_8 : decode cX1_isThere 8 = .ok (.ireturn, 1) := dk_172 (dk_at dksX1_isThere_0 8 rfl rfl)
abbrev cX1_take : ByteArray := prog_2_method_2_code
def yX1_take : MethodName := ⟨RX1, "take", "(LSongLamps$Mine;)V"⟩
def dkwX1_take_7 : List UInt8 := [181, 0, 69, 177]
abbrev dktX1_take_7 : List UInt8 := dkwX1_take_7 ++ []
def dkwX1_take_6 : List UInt8 := [180, 0, 39, 184, 0, 52, 43, 180, 0, 42, 42, 180, 0, 42, 184, 0, 52, 42, 43, 180, 0, 69]
abbrev dktX1_take_6 : List UInt8 := dkwX1_take_6 ++ dktX1_take_7
def dkwX1_take_5 : List UInt8 := [180, 0, 36, 42, 180, 0, 36, 184, 0, 52, 42, 43, 180, 0, 66, 181, 0, 66, 43, 180, 0, 39, 42]
abbrev dktX1_take_5 : List UInt8 := dkwX1_take_5 ++ dktX1_take_6
def dkwX1_take_4 : List UInt8 := [180, 0, 30, 42, 180, 0, 30, 184, 0, 52, 43, 180, 0, 33, 42, 180, 0, 33, 184, 0, 52, 43]
abbrev dktX1_take_4 : List UInt8 := dkwX1_take_4 ++ dktX1_take_5
def dkwX1_take_3 : List UInt8 := [180, 0, 24, 42, 180, 0, 24, 184, 0, 52, 43, 180, 0, 27, 42, 180, 0, 27, 184, 0, 52, 43]
abbrev dktX1_take_3 : List UInt8 := dkwX1_take_3 ++ dktX1_take_4
def dkwX1_take_2 : List UInt8 := [181, 0, 60, 42, 43, 180, 0, 63, 181, 0, 63, 43, 180, 0, 21, 42, 180, 0, 21, 184, 0, 52, 43]
abbrev dktX1_take_2 : List UInt8 := dkwX1_take_2 ++ dktX1_take_3
def dkwX1_take_1 : List UInt8 := [180, 0, 18, 42, 180, 0, 18, 184, 0, 52, 42, 43, 180, 0, 56, 181, 0, 56, 42, 43, 180, 0, 60]
abbrev dktX1_take_1 : List UInt8 := dkwX1_take_1 ++ dktX1_take_2
def dkwX1_take_0 : List UInt8 := [43, 180, 0, 9, 42, 180, 0, 9, 184, 0, 52, 43, 180, 0, 15, 42, 180, 0, 15, 184, 0, 52, 43]
abbrev dktX1_take_0 : List UInt8 := dkwX1_take_0 ++ dktX1_take_1
theorem dksX1_take_0 : cX1_take.data.toList.drop 0 = dktX1_take_0 := by decide +kernel
theorem dksX1_take_1 : cX1_take.data.toList.drop 23 = dktX1_take_1 := dk_seg dksX1_take_0 23 rfl rfl
theorem dksX1_take_2 : cX1_take.data.toList.drop 46 = dktX1_take_2 := dk_seg dksX1_take_1 23 rfl rfl
theorem dksX1_take_3 : cX1_take.data.toList.drop 69 = dktX1_take_3 := dk_seg dksX1_take_2 23 rfl rfl
theorem dksX1_take_4 : cX1_take.data.toList.drop 91 = dktX1_take_4 := dk_seg dksX1_take_3 22 rfl rfl
theorem dksX1_take_5 : cX1_take.data.toList.drop 113 = dktX1_take_5 := dk_seg dksX1_take_4 22 rfl rfl
theorem dksX1_take_6 : cX1_take.data.toList.drop 136 = dktX1_take_6 := dk_seg dksX1_take_5 23 rfl rfl
theorem dksX1_take_7 : cX1_take.data.toList.drop 158 = dktX1_take_7 := dk_seg dksX1_take_6 22 rfl rfl
theorem dX1_take_0 : decode cX1_take 0 = .ok (.aload_n 1, 1) := dk_43 (dk_at dksX1_take_0 0 rfl rfl)
theorem dX1_take_1 : decode cX1_take 1 = .ok (.getfield 9, 3) := dk_180 0 9 (dk_at dksX1_take_0 1 rfl rfl)
theorem dX1_take_4 : decode cX1_take 4 = .ok (.aload_n 0, 1) := dk_42 (dk_at dksX1_take_0 4 rfl rfl)
theorem dX1_take_5 : decode cX1_take 5 = .ok (.getfield 9, 3) := dk_180 0 9 (dk_at dksX1_take_0 5 rfl rfl)
theorem dX1_take_8 : decode cX1_take 8 = .ok (.invokestatic 52, 3) := dk_184 0 52 (dk_at dksX1_take_0 8 rfl rfl)
theorem dX1_take_11 : decode cX1_take 11 = .ok (.aload_n 1, 1) := dk_43 (dk_at dksX1_take_0 11 rfl rfl)
theorem dX1_take_12 : decode cX1_take 12 = .ok (.getfield 15, 3) := dk_180 0 15 (dk_at dksX1_take_0 12 rfl rfl)
theorem dX1_take_15 : decode cX1_take 15 = .ok (.aload_n 0, 1) := dk_42 (dk_at dksX1_take_0 15 rfl rfl)
theorem dX1_take_16 : decode cX1_take 16 = .ok (.getfield 15, 3) := dk_180 0 15 (dk_at dksX1_take_0 16 rfl rfl)
theorem dX1_take_19 : decode cX1_take 19 = .ok (.invokestatic 52, 3) := dk_184 0 52 (dk_at dksX1_take_0 19 rfl rfl)
theorem dX1_take_22 : decode cX1_take 22 = .ok (.aload_n 1, 1) := dk_43 (dk_at dksX1_take_0 22 rfl rfl)
theorem dX1_take_23 : decode cX1_take 23 = .ok (.getfield 18, 3) := dk_180 0 18 (dk_at dksX1_take_1 0 rfl rfl)
theorem dX1_take_26 : decode cX1_take 26 = .ok (.aload_n 0, 1) := dk_42 (dk_at dksX1_take_1 3 rfl rfl)
theorem dX1_take_27 : decode cX1_take 27 = .ok (.getfield 18, 3) := dk_180 0 18 (dk_at dksX1_take_1 4 rfl rfl)
theorem dX1_take_30 : decode cX1_take 30 = .ok (.invokestatic 52, 3) := dk_184 0 52 (dk_at dksX1_take_1 7 rfl rfl)
theorem dX1_take_33 : decode cX1_take 33 = .ok (.aload_n 0, 1) := dk_42 (dk_at dksX1_take_1 10 rfl rfl)
theorem dX1_take_34 : decode cX1_take 34 = .ok (.aload_n 1, 1) := dk_43 (dk_at dksX1_take_1 11 rfl rfl)
theorem dX1_take_35 : decode cX1_take 35 = .ok (.getfield 56, 3) := dk_180 0 56 (dk_at dksX1_take_1 12 rfl rfl)
theorem dX1_take_38 : decode cX1_take 38 = .ok (.putfield 56, 3) := dk_181 0 56 (dk_at dksX1_take_1 15 rfl rfl)
theorem dX1_take_41 : decode cX1_take 41 = .ok (.aload_n 0, 1) := dk_42 (dk_at dksX1_take_1 18 rfl rfl)
theorem dX1_take_42 : decode cX1_take 42 = .ok (.aload_n 1, 1) := dk_43 (dk_at dksX1_take_1 19 rfl rfl)
theorem dX1_take_43 : decode cX1_take 43 = .ok (.getfield 60, 3) := dk_180 0 60 (dk_at dksX1_take_1 20 rfl rfl)
theorem dX1_take_46 : decode cX1_take 46 = .ok (.putfield 60, 3) := dk_181 0 60 (dk_at dksX1_take_2 0 rfl rfl)
theorem dX1_take_49 : decode cX1_take 49 = .ok (.aload_n 0, 1) := dk_42 (dk_at dksX1_take_2 3 rfl rfl)
theorem dX1_take_50 : decode cX1_take 50 = .ok (.aload_n 1, 1) := dk_43 (dk_at dksX1_take_2 4 rfl rfl)
theorem dX1_take_51 : decode cX1_take 51 = .ok (.getfield 63, 3) := dk_180 0 63 (dk_at dksX1_take_2 5 rfl rfl)
theorem dX1_take_54 : decode cX1_take 54 = .ok (.putfield 63, 3) := dk_181 0 63 (dk_at dksX1_take_2 8 rfl rfl)
theorem dX1_take_57 : decode cX1_take 57 = .ok (.aload_n 1, 1) := dk_43 (dk_at dksX1_take_2 11 rfl rfl)
theorem dX1_take_58 : decode cX1_take 58 = .ok (.getfield 21, 3) := dk_180 0 21 (dk_at dksX1_take_2 12 rfl rfl)
theorem dX1_take_61 : decode cX1_take 61 = .ok (.aload_n 0, 1) := dk_42 (dk_at dksX1_take_2 15 rfl rfl)
theorem dX1_take_62 : decode cX1_take 62 = .ok (.getfield 21, 3) := dk_180 0 21 (dk_at dksX1_take_2 16 rfl rfl)
theorem dX1_take_65 : decode cX1_take 65 = .ok (.invokestatic 52, 3) := dk_184 0 52 (dk_at dksX1_take_2 19 rfl rfl)
theorem dX1_take_68 : decode cX1_take 68 = .ok (.aload_n 1, 1) := dk_43 (dk_at dksX1_take_2 22 rfl rfl)
theorem dX1_take_69 : decode cX1_take 69 = .ok (.getfield 24, 3) := dk_180 0 24 (dk_at dksX1_take_3 0 rfl rfl)
theorem dX1_take_72 : decode cX1_take 72 = .ok (.aload_n 0, 1) := dk_42 (dk_at dksX1_take_3 3 rfl rfl)
theorem dX1_take_73 : decode cX1_take 73 = .ok (.getfield 24, 3) := dk_180 0 24 (dk_at dksX1_take_3 4 rfl rfl)
theorem dX1_take_76 : decode cX1_take 76 = .ok (.invokestatic 52, 3) := dk_184 0 52 (dk_at dksX1_take_3 7 rfl rfl)
theorem dX1_take_79 : decode cX1_take 79 = .ok (.aload_n 1, 1) := dk_43 (dk_at dksX1_take_3 10 rfl rfl)
theorem dX1_take_80 : decode cX1_take 80 = .ok (.getfield 27, 3) := dk_180 0 27 (dk_at dksX1_take_3 11 rfl rfl)
theorem dX1_take_83 : decode cX1_take 83 = .ok (.aload_n 0, 1) := dk_42 (dk_at dksX1_take_3 14 rfl rfl)
theorem dX1_take_84 : decode cX1_take 84 = .ok (.getfield 27, 3) := dk_180 0 27 (dk_at dksX1_take_3 15 rfl rfl)
theorem dX1_take_87 : decode cX1_take 87 = .ok (.invokestatic 52, 3) := dk_184 0 52 (dk_at dksX1_take_3 18 rfl rfl)
theorem dX1_take_90 : decode cX1_take 90 = .ok (.aload_n 1, 1) := dk_43 (dk_at dksX1_take_3 21 rfl rfl)
theorem dX1_take_91 : decode cX1_take 91 = .ok (.getfield 30, 3) := dk_180 0 30 (dk_at dksX1_take_4 0 rfl rfl)
theorem dX1_take_94 : decode cX1_take 94 = .ok (.aload_n 0, 1) := dk_42 (dk_at dksX1_take_4 3 rfl rfl)
theorem dX1_take_95 : decode cX1_take 95 = .ok (.getfield 30, 3) := dk_180 0 30 (dk_at dksX1_take_4 4 rfl rfl)
theorem dX1_take_98 : decode cX1_take 98 = .ok (.invokestatic 52, 3) := dk_184 0 52 (dk_at dksX1_take_4 7 rfl rfl)
theorem dX1_take_101 : decode cX1_take 101 = .ok (.aload_n 1, 1) := dk_43 (dk_at dksX1_take_4 10 rfl rfl)
theorem dX1_take_102 : decode cX1_take 102 = .ok (.getfield 33, 3) := dk_180 0 33 (dk_at dksX1_take_4 11 rfl rfl)
theorem dX1_take_105 : decode cX1_take 105 = .ok (.aload_n 0, 1) := dk_42 (dk_at dksX1_take_4 14 rfl rfl)
theorem dX1_take_106 : decode cX1_take 106 = .ok (.getfield 33, 3) := dk_180 0 33 (dk_at dksX1_take_4 15 rfl rfl)
theorem dX1_take_109 : decode cX1_take 109 = .ok (.invokestatic 52, 3) := dk_184 0 52 (dk_at dksX1_take_4 18 rfl rfl)
theorem dX1_take_112 : decode cX1_take 112 = .ok (.aload_n 1, 1) := dk_43 (dk_at dksX1_take_4 21 rfl rfl)
theorem dX1_take_113 : decode cX1_take 113 = .ok (.getfield 36, 3) := dk_180 0 36 (dk_at dksX1_take_5 0 rfl rfl)
theorem dX1_take_116 : decode cX1_take 116 = .ok (.aload_n 0, 1) := dk_42 (dk_at dksX1_take_5 3 rfl rfl)
theorem dX1_take_117 : decode cX1_take 117 = .ok (.getfield 36, 3) := dk_180 0 36 (dk_at dksX1_take_5 4 rfl rfl)
theorem dX1_take_120 : decode cX1_take 120 = .ok (.invokestatic 52, 3) := dk_184 0 52 (dk_at dksX1_take_5 7 rfl rfl)
theorem dX1_take_123 : decode cX1_take 123 = .ok (.aload_n 0, 1) := dk_42 (dk_at dksX1_take_5 10 rfl rfl)
theorem dX1_take_124 : decode cX1_take 124 = .ok (.aload_n 1, 1) := dk_43 (dk_at dksX1_take_5 11 rfl rfl)
theorem dX1_take_125 : decode cX1_take 125 = .ok (.getfield 66, 3) := dk_180 0 66 (dk_at dksX1_take_5 12 rfl rfl)
theorem dX1_take_128 : decode cX1_take 128 = .ok (.putfield 66, 3) := dk_181 0 66 (dk_at dksX1_take_5 15 rfl rfl)
theorem dX1_take_131 : decode cX1_take 131 = .ok (.aload_n 1, 1) := dk_43 (dk_at dksX1_take_5 18 rfl rfl)
theorem dX1_take_132 : decode cX1_take 132 = .ok (.getfield 39, 3) := dk_180 0 39 (dk_at dksX1_take_5 19 rfl rfl)
theorem dX1_take_135 : decode cX1_take 135 = .ok (.aload_n 0, 1) := dk_42 (dk_at dksX1_take_5 22 rfl rfl)
theorem dX1_take_136 : decode cX1_take 136 = .ok (.getfield 39, 3) := dk_180 0 39 (dk_at dksX1_take_6 0 rfl rfl)
theorem dX1_take_139 : decode cX1_take 139 = .ok (.invokestatic 52, 3) := dk_184 0 52 (dk_at dksX1_take_6 3 rfl rfl)
theorem dX1_take_142 : decode cX1_take 142 = .ok (.aload_n 1, 1) := dk_43 (dk_at dksX1_take_6 6 rfl rfl)
theorem dX1_take_143 : decode cX1_take 143 = .ok (.getfield 42, 3) := dk_180 0 42 (dk_at dksX1_take_6 7 rfl rfl)
theorem dX1_take_146 : decode cX1_take 146 = .ok (.aload_n 0, 1) := dk_42 (dk_at dksX1_take_6 10 rfl rfl)
theorem dX1_take_147 : decode cX1_take 147 = .ok (.getfield 42, 3) := dk_180 0 42 (dk_at dksX1_take_6 11 rfl rfl)
theorem dX1_take_150 : decode cX1_take 150 = .ok (.invokestatic 52, 3) := dk_184 0 52 (dk_at dksX1_take_6 14 rfl rfl)
theorem dX1_take_153 : decode cX1_take 153 = .ok (.aload_n 0, 1) := dk_42 (dk_at dksX1_take_6 17 rfl rfl)
theorem dX1_take_154 : decode cX1_take 154 = .ok (.aload_n 1, 1) := dk_43 (dk_at dksX1_take_6 18 rfl rfl)
theorem dX1_take_155 : decode cX1_take 155 = .ok (.getfield 69, 3) := dk_180 0 69 (dk_at dksX1_take_6 19 rfl rfl)
theorem dX1_take_158 : decode cX1_take 158 = .ok (.putfield 69, 3) := dk_181 0 69 (dk_at dksX1_take_7 0 rfl rfl)
theorem dX1_take_161 : decode cX1_take 161 = .ok (.return_, 1) := dk_177 (dk_at dksX1_take_7 3 rfl rfl)
abbrev cX1_whyNot : ByteArray := prog_2_method_11_code
def yX1_whyNot : MethodName := ⟨RX1, "whyNot", "(III)I"⟩
def dkwX1_whyNot_3 : List UInt8 := [28, 46, 156, 0, 7, 6, 167, 0, 4, 3, 172]
abbrev dktX1_whyNot_3 : List UInt8 := dkwX1_whyNot_3 ++ []
def dkwX1_whyNot_2 : List UInt8 := [182, 0, 106, 167, 0, 31, 27, 5, 160, 0, 12, 42, 28, 29, 182, 0, 109, 167, 0, 17, 42, 180, 0, 36]
abbrev dktX1_whyNot_2 : List UInt8 := dkwX1_whyNot_2 ++ dktX1_whyNot_3
def dkwX1_whyNot_1 : List UInt8 := [160, 0, 5, 3, 172, 42, 28, 182, 0, 76, 154, 0, 5, 4, 172, 27, 154, 0, 12, 42, 28, 29]
abbrev dktX1_whyNot_1 : List UInt8 := dkwX1_whyNot_1 ++ dktX1_whyNot_2
def dkwX1_whyNot_0 : List UInt8 := [27, 7, 160, 0, 20, 42, 180, 0, 66, 17, 3, 231, 160, 0, 8, 16, 7, 167, 0, 4, 3, 172, 27, 6]
abbrev dktX1_whyNot_0 : List UInt8 := dkwX1_whyNot_0 ++ dktX1_whyNot_1
theorem dksX1_whyNot_0 : cX1_whyNot.data.toList.drop 0 = dktX1_whyNot_0 := by decide +kernel
theorem dksX1_whyNot_1 : cX1_whyNot.data.toList.drop 24 = dktX1_whyNot_1 := dk_seg dksX1_whyNot_0 24 rfl rfl
theorem dksX1_whyNot_2 : cX1_whyNot.data.toList.drop 46 = dktX1_whyNot_2 := dk_seg dksX1_whyNot_1 22 rfl rfl
theorem dksX1_whyNot_3 : cX1_whyNot.data.toList.drop 70 = dktX1_whyNot_3 := dk_seg dksX1_whyNot_2 24 rfl rfl
theorem dX1_whyNot_0 : decode cX1_whyNot 0 = .ok (.iload_n 1, 1) := dk_27 (dk_at dksX1_whyNot_0 0 rfl rfl)
theorem dX1_whyNot_1 : decode cX1_whyNot 1 = .ok (.iconst 4, 1) := dk_7 (dk_at dksX1_whyNot_0 1 rfl rfl)
theorem dX1_whyNot_2 : decode cX1_whyNot 2 = .ok (.if_icmp .ne 20, 3) := dk_160 0 20 (dk_at dksX1_whyNot_0 2 rfl rfl)
theorem dX1_whyNot_5 : decode cX1_whyNot 5 = .ok (.aload_n 0, 1) := dk_42 (dk_at dksX1_whyNot_0 5 rfl rfl)
theorem dX1_whyNot_6 : decode cX1_whyNot 6 = .ok (.getfield 66, 3) := dk_180 0 66 (dk_at dksX1_whyNot_0 6 rfl rfl)
theorem dX1_whyNot_9 : decode cX1_whyNot 9 = .ok (.sipush 999, 3) := dk_17 3 231 (dk_at dksX1_whyNot_0 9 rfl rfl)
theorem dX1_whyNot_12 : decode cX1_whyNot 12 = .ok (.if_icmp .ne 8, 3) := dk_160 0 8 (dk_at dksX1_whyNot_0 12 rfl rfl)
theorem dX1_whyNot_15 : decode cX1_whyNot 15 = .ok (.bipush 7, 2) := dk_16 7 (dk_at dksX1_whyNot_0 15 rfl rfl)
theorem dX1_whyNot_17 : decode cX1_whyNot 17 = .ok (.goto 4, 3) := dk_167 0 4 (dk_at dksX1_whyNot_0 17 rfl rfl)
theorem dX1_whyNot_20 : decode cX1_whyNot 20 = .ok (.iconst 0, 1) := dk_3 (dk_at dksX1_whyNot_0 20 rfl rfl)
theorem dX1_whyNot_21 : decode cX1_whyNot 21 = .ok (.ireturn, 1) := dk_172 (dk_at dksX1_whyNot_0 21 rfl rfl)
theorem dX1_whyNot_22 : decode cX1_whyNot 22 = .ok (.iload_n 1, 1) := dk_27 (dk_at dksX1_whyNot_0 22 rfl rfl)
theorem dX1_whyNot_23 : decode cX1_whyNot 23 = .ok (.iconst 3, 1) := dk_6 (dk_at dksX1_whyNot_0 23 rfl rfl)
theorem dX1_whyNot_24 : decode cX1_whyNot 24 = .ok (.if_icmp .ne 5, 3) := dk_160 0 5 (dk_at dksX1_whyNot_1 0 rfl rfl)
theorem dX1_whyNot_27 : decode cX1_whyNot 27 = .ok (.iconst 0, 1) := dk_3 (dk_at dksX1_whyNot_1 3 rfl rfl)
theorem dX1_whyNot_28 : decode cX1_whyNot 28 = .ok (.ireturn, 1) := dk_172 (dk_at dksX1_whyNot_1 4 rfl rfl)
theorem dX1_whyNot_29 : decode cX1_whyNot 29 = .ok (.aload_n 0, 1) := dk_42 (dk_at dksX1_whyNot_1 5 rfl rfl)
theorem dX1_whyNot_30 : decode cX1_whyNot 30 = .ok (.iload_n 2, 1) := dk_28 (dk_at dksX1_whyNot_1 6 rfl rfl)
theorem dX1_whyNot_31 : decode cX1_whyNot 31 = .ok (.invokevirtual 76, 3) := dk_182 0 76 (dk_at dksX1_whyNot_1 7 rfl rfl)
theorem dX1_whyNot_34 : decode cX1_whyNot 34 = .ok (.ifCond .ne 5, 3) := dk_154 0 5 (dk_at dksX1_whyNot_1 10 rfl rfl)
theorem dX1_whyNot_37 : decode cX1_whyNot 37 = .ok (.iconst 1, 1) := dk_4 (dk_at dksX1_whyNot_1 13 rfl rfl)
theorem dX1_whyNot_38 : decode cX1_whyNot 38 = .ok (.ireturn, 1) := dk_172 (dk_at dksX1_whyNot_1 14 rfl rfl)
theorem dX1_whyNot_39 : decode cX1_whyNot 39 = .ok (.iload_n 1, 1) := dk_27 (dk_at dksX1_whyNot_1 15 rfl rfl)
theorem dX1_whyNot_40 : decode cX1_whyNot 40 = .ok (.ifCond .ne 12, 3) := dk_154 0 12 (dk_at dksX1_whyNot_1 16 rfl rfl)
theorem dX1_whyNot_43 : decode cX1_whyNot 43 = .ok (.aload_n 0, 1) := dk_42 (dk_at dksX1_whyNot_1 19 rfl rfl)
theorem dX1_whyNot_44 : decode cX1_whyNot 44 = .ok (.iload_n 2, 1) := dk_28 (dk_at dksX1_whyNot_1 20 rfl rfl)
theorem dX1_whyNot_45 : decode cX1_whyNot 45 = .ok (.iload_n 3, 1) := dk_29 (dk_at dksX1_whyNot_1 21 rfl rfl)
theorem dX1_whyNot_46 : decode cX1_whyNot 46 = .ok (.invokevirtual 106, 3) := dk_182 0 106 (dk_at dksX1_whyNot_2 0 rfl rfl)
theorem dX1_whyNot_49 : decode cX1_whyNot 49 = .ok (.goto 31, 3) := dk_167 0 31 (dk_at dksX1_whyNot_2 3 rfl rfl)
theorem dX1_whyNot_52 : decode cX1_whyNot 52 = .ok (.iload_n 1, 1) := dk_27 (dk_at dksX1_whyNot_2 6 rfl rfl)
theorem dX1_whyNot_53 : decode cX1_whyNot 53 = .ok (.iconst 2, 1) := dk_5 (dk_at dksX1_whyNot_2 7 rfl rfl)
theorem dX1_whyNot_54 : decode cX1_whyNot 54 = .ok (.if_icmp .ne 12, 3) := dk_160 0 12 (dk_at dksX1_whyNot_2 8 rfl rfl)
theorem dX1_whyNot_57 : decode cX1_whyNot 57 = .ok (.aload_n 0, 1) := dk_42 (dk_at dksX1_whyNot_2 11 rfl rfl)
theorem dX1_whyNot_58 : decode cX1_whyNot 58 = .ok (.iload_n 2, 1) := dk_28 (dk_at dksX1_whyNot_2 12 rfl rfl)
theorem dX1_whyNot_59 : decode cX1_whyNot 59 = .ok (.iload_n 3, 1) := dk_29 (dk_at dksX1_whyNot_2 13 rfl rfl)
theorem dX1_whyNot_60 : decode cX1_whyNot 60 = .ok (.invokevirtual 109, 3) := dk_182 0 109 (dk_at dksX1_whyNot_2 14 rfl rfl)
theorem dX1_whyNot_63 : decode cX1_whyNot 63 = .ok (.goto 17, 3) := dk_167 0 17 (dk_at dksX1_whyNot_2 17 rfl rfl)
theorem dX1_whyNot_66 : decode cX1_whyNot 66 = .ok (.aload_n 0, 1) := dk_42 (dk_at dksX1_whyNot_2 20 rfl rfl)
theorem dX1_whyNot_67 : decode cX1_whyNot 67 = .ok (.getfield 36, 3) := dk_180 0 36 (dk_at dksX1_whyNot_2 21 rfl rfl)
theorem dX1_whyNot_70 : decode cX1_whyNot 70 = .ok (.iload_n 2, 1) := dk_28 (dk_at dksX1_whyNot_3 0 rfl rfl)
theorem dX1_whyNot_71 : decode cX1_whyNot 71 = .ok (.iaload, 1) := dk_46 (dk_at dksX1_whyNot_3 1 rfl rfl)
theorem dX1_whyNot_72 : decode cX1_whyNot 72 = .ok (.ifCond .ge 7, 3) := dk_156 0 7 (dk_at dksX1_whyNot_3 2 rfl rfl)
theorem dX1_whyNot_75 : decode cX1_whyNot 75 = .ok (.iconst 3, 1) := dk_6 (dk_at dksX1_whyNot_3 5 rfl rfl)
theorem dX1_whyNot_76 : decode cX1_whyNot 76 = .ok (.goto 4, 3) := dk_167 0 4 (dk_at dksX1_whyNot_3 6 rfl rfl)
theorem dX1_whyNot_79 : decode cX1_whyNot 79 = .ok (.iconst 0, 1) := dk_3 (dk_at dksX1_whyNot_3 9 rfl rfl)
theorem dX1_whyNot_80 : decode cX1_whyNot 80 = .ok (.ireturn, 1) := dk_172 (dk_at dksX1_whyNot_3 10 rfl rfl)
abbrev cX1_whyNotSing : ByteArray := prog_2_method_9_code
def yX1_whyNotSing : MethodName := ⟨RX1, "whyNotSing", "(II)I"⟩
def dkwX1_whyNotSing_2 : List UInt8 := [167, 0, 4, 3, 172]
abbrev dktX1_whyNotSing_2 : List UInt8 := dkwX1_whyNotSing_2 ++ []
def dkwX1_whyNotSing_1 : List UInt8 := [42, 180, 0, 36, 27, 46, 28, 160, 0, 7, 6, 167, 0, 17, 42, 180, 0, 30, 27, 46, 154, 0, 7, 7]
abbrev dktX1_whyNotSing_1 : List UInt8 := dkwX1_whyNotSing_1 ++ dktX1_whyNotSing_2
def dkwX1_whyNotSing_0 : List UInt8 := [28, 133, 42, 180, 0, 21, 27, 46, 133, 42, 180, 0, 24, 27, 46, 133, 184, 0, 102, 154, 0, 5, 5, 172]
abbrev dktX1_whyNotSing_0 : List UInt8 := dkwX1_whyNotSing_0 ++ dktX1_whyNotSing_1
theorem dksX1_whyNotSing_0 : cX1_whyNotSing.data.toList.drop 0 = dktX1_whyNotSing_0 := by decide +kernel
theorem dksX1_whyNotSing_1 : cX1_whyNotSing.data.toList.drop 24 = dktX1_whyNotSing_1 := dk_seg dksX1_whyNotSing_0 24 rfl rfl
theorem dksX1_whyNotSing_2 : cX1_whyNotSing.data.toList.drop 48 = dktX1_whyNotSing_2 := dk_seg dksX1_whyNotSing_1 24 rfl rfl
theorem dX1_whyNotSing_0 : decode cX1_whyNotSing 0 = .ok (.iload_n 2, 1) := dk_28 (dk_at dksX1_whyNotSing_0 0 rfl rfl)
theorem dX1_whyNotSing_1 : decode cX1_whyNotSing 1 = .ok (.i2l, 1) := dk_133 (dk_at dksX1_whyNotSing_0 1 rfl rfl)
theorem dX1_whyNotSing_2 : decode cX1_whyNotSing 2 = .ok (.aload_n 0, 1) := dk_42 (dk_at dksX1_whyNotSing_0 2 rfl rfl)
theorem dX1_whyNotSing_3 : decode cX1_whyNotSing 3 = .ok (.getfield 21, 3) := dk_180 0 21 (dk_at dksX1_whyNotSing_0 3 rfl rfl)
theorem dX1_whyNotSing_6 : decode cX1_whyNotSing 6 = .ok (.iload_n 1, 1) := dk_27 (dk_at dksX1_whyNotSing_0 6 rfl rfl)
theorem dX1_whyNotSing_7 : decode cX1_whyNotSing 7 = .ok (.iaload, 1) := dk_46 (dk_at dksX1_whyNotSing_0 7 rfl rfl)
theorem dX1_whyNotSing_8 : decode cX1_whyNotSing 8 = .ok (.i2l, 1) := dk_133 (dk_at dksX1_whyNotSing_0 8 rfl rfl)
theorem dX1_whyNotSing_9 : decode cX1_whyNotSing 9 = .ok (.aload_n 0, 1) := dk_42 (dk_at dksX1_whyNotSing_0 9 rfl rfl)
theorem dX1_whyNotSing_10 : decode cX1_whyNotSing 10 = .ok (.getfield 24, 3) := dk_180 0 24 (dk_at dksX1_whyNotSing_0 10 rfl rfl)
theorem dX1_whyNotSing_13 : decode cX1_whyNotSing 13 = .ok (.iload_n 1, 1) := dk_27 (dk_at dksX1_whyNotSing_0 13 rfl rfl)
theorem dX1_whyNotSing_14 : decode cX1_whyNotSing 14 = .ok (.iaload, 1) := dk_46 (dk_at dksX1_whyNotSing_0 14 rfl rfl)
theorem dX1_whyNotSing_15 : decode cX1_whyNotSing 15 = .ok (.i2l, 1) := dk_133 (dk_at dksX1_whyNotSing_0 15 rfl rfl)
theorem dX1_whyNotSing_16 : decode cX1_whyNotSing 16 = .ok (.invokestatic 102, 3) := dk_184 0 102 (dk_at dksX1_whyNotSing_0 16 rfl rfl)
theorem dX1_whyNotSing_19 : decode cX1_whyNotSing 19 = .ok (.ifCond .ne 5, 3) := dk_154 0 5 (dk_at dksX1_whyNotSing_0 19 rfl rfl)
theorem dX1_whyNotSing_22 : decode cX1_whyNotSing 22 = .ok (.iconst 2, 1) := dk_5 (dk_at dksX1_whyNotSing_0 22 rfl rfl)
theorem dX1_whyNotSing_23 : decode cX1_whyNotSing 23 = .ok (.ireturn, 1) := dk_172 (dk_at dksX1_whyNotSing_0 23 rfl rfl)
theorem dX1_whyNotSing_24 : decode cX1_whyNotSing 24 = .ok (.aload_n 0, 1) := dk_42 (dk_at dksX1_whyNotSing_1 0 rfl rfl)
theorem dX1_whyNotSing_25 : decode cX1_whyNotSing 25 = .ok (.getfield 36, 3) := dk_180 0 36 (dk_at dksX1_whyNotSing_1 1 rfl rfl)
theorem dX1_whyNotSing_28 : decode cX1_whyNotSing 28 = .ok (.iload_n 1, 1) := dk_27 (dk_at dksX1_whyNotSing_1 4 rfl rfl)
theorem dX1_whyNotSing_29 : decode cX1_whyNotSing 29 = .ok (.iaload, 1) := dk_46 (dk_at dksX1_whyNotSing_1 5 rfl rfl)
theorem dX1_whyNotSing_30 : decode cX1_whyNotSing 30 = .ok (.iload_n 2, 1) := dk_28 (dk_at dksX1_whyNotSing_1 6 rfl rfl)
theorem dX1_whyNotSing_31 : decode cX1_whyNotSing 31 = .ok (.if_icmp .ne 7, 3) := dk_160 0 7 (dk_at dksX1_whyNotSing_1 7 rfl rfl)
theorem dX1_whyNotSing_34 : decode cX1_whyNotSing 34 = .ok (.iconst 3, 1) := dk_6 (dk_at dksX1_whyNotSing_1 10 rfl rfl)
theorem dX1_whyNotSing_35 : decode cX1_whyNotSing 35 = .ok (.goto 17, 3) := dk_167 0 17 (dk_at dksX1_whyNotSing_1 11 rfl rfl)
theorem dX1_whyNotSing_38 : decode cX1_whyNotSing 38 = .ok (.aload_n 0, 1) := dk_42 (dk_at dksX1_whyNotSing_1 14 rfl rfl)
theorem dX1_whyNotSing_39 : decode cX1_whyNotSing 39 = .ok (.getfield 30, 3) := dk_180 0 30 (dk_at dksX1_whyNotSing_1 15 rfl rfl)
theorem dX1_whyNotSing_42 : decode cX1_whyNotSing 42 = .ok (.iload_n 1, 1) := dk_27 (dk_at dksX1_whyNotSing_1 18 rfl rfl)
theorem dX1_whyNotSing_43 : decode cX1_whyNotSing 43 = .ok (.iaload, 1) := dk_46 (dk_at dksX1_whyNotSing_1 19 rfl rfl)
theorem dX1_whyNotSing_44 : decode cX1_whyNotSing 44 = .ok (.ifCond .ne 7, 3) := dk_154 0 7 (dk_at dksX1_whyNotSing_1 20 rfl rfl)
theorem dX1_whyNotSing_47 : decode cX1_whyNotSing 47 = .ok (.iconst 4, 1) := dk_7 (dk_at dksX1_whyNotSing_1 23 rfl rfl)
theorem dX1_whyNotSing_48 : decode cX1_whyNotSing 48 = .ok (.goto 4, 3) := dk_167 0 4 (dk_at dksX1_whyNotSing_2 0 rfl rfl)
theorem dX1_whyNotSing_51 : decode cX1_whyNotSing 51 = .ok (.iconst 0, 1) := dk_3 (dk_at dksX1_whyNotSing_2 3 rfl rfl)
theorem dX1_whyNotSing_52 : decode cX1_whyNotSing 52 = .ok (.ireturn, 1) := dk_172 (dk_at dksX1_whyNotSing_2 4 rfl rfl)
abbrev cX1_whyNotGo : ByteArray := prog_2_method_10_code
def yX1_whyNotGo : MethodName := ⟨RX1, "whyNotGo", "(II)I"⟩
def dkwX1_whyNotGo_2 : List UInt8 := [16, 6, 167, 0, 4, 3, 172]
abbrev dktX1_whyNotGo_2 : List UInt8 := dkwX1_whyNotGo_2 ++ []
def dkwX1_whyNotGo_1 : List UInt8 := [42, 180, 0, 33, 27, 46, 184, 0, 72, 154, 0, 14, 42, 180, 0, 60, 28, 184, 0, 72, 153, 0, 8]
abbrev dktX1_whyNotGo_1 : List UInt8 := dkwX1_whyNotGo_1 ++ dktX1_whyNotGo_2
def dkwX1_whyNotGo_0 : List UInt8 := [42, 180, 0, 9, 42, 180, 0, 33, 27, 46, 46, 28, 184, 0, 72, 154, 0, 5, 8, 172, 42, 180, 0, 60]
abbrev dktX1_whyNotGo_0 : List UInt8 := dkwX1_whyNotGo_0 ++ dktX1_whyNotGo_1
theorem dksX1_whyNotGo_0 : cX1_whyNotGo.data.toList.drop 0 = dktX1_whyNotGo_0 := by decide +kernel
theorem dksX1_whyNotGo_1 : cX1_whyNotGo.data.toList.drop 24 = dktX1_whyNotGo_1 := dk_seg dksX1_whyNotGo_0 24 rfl rfl
theorem dksX1_whyNotGo_2 : cX1_whyNotGo.data.toList.drop 47 = dktX1_whyNotGo_2 := dk_seg dksX1_whyNotGo_1 23 rfl rfl
theorem dX1_whyNotGo_0 : decode cX1_whyNotGo 0 = .ok (.aload_n 0, 1) := dk_42 (dk_at dksX1_whyNotGo_0 0 rfl rfl)
theorem dX1_whyNotGo_1 : decode cX1_whyNotGo 1 = .ok (.getfield 9, 3) := dk_180 0 9 (dk_at dksX1_whyNotGo_0 1 rfl rfl)
theorem dX1_whyNotGo_4 : decode cX1_whyNotGo 4 = .ok (.aload_n 0, 1) := dk_42 (dk_at dksX1_whyNotGo_0 4 rfl rfl)
theorem dX1_whyNotGo_5 : decode cX1_whyNotGo 5 = .ok (.getfield 33, 3) := dk_180 0 33 (dk_at dksX1_whyNotGo_0 5 rfl rfl)
theorem dX1_whyNotGo_8 : decode cX1_whyNotGo 8 = .ok (.iload_n 1, 1) := dk_27 (dk_at dksX1_whyNotGo_0 8 rfl rfl)
theorem dX1_whyNotGo_9 : decode cX1_whyNotGo 9 = .ok (.iaload, 1) := dk_46 (dk_at dksX1_whyNotGo_0 9 rfl rfl)
theorem dX1_whyNotGo_10 : decode cX1_whyNotGo 10 = .ok (.iaload, 1) := dk_46 (dk_at dksX1_whyNotGo_0 10 rfl rfl)
theorem dX1_whyNotGo_11 : decode cX1_whyNotGo 11 = .ok (.iload_n 2, 1) := dk_28 (dk_at dksX1_whyNotGo_0 11 rfl rfl)
theorem dX1_whyNotGo_12 : decode cX1_whyNotGo 12 = .ok (.invokestatic 72, 3) := dk_184 0 72 (dk_at dksX1_whyNotGo_0 12 rfl rfl)
theorem dX1_whyNotGo_15 : decode cX1_whyNotGo 15 = .ok (.ifCond .ne 5, 3) := dk_154 0 5 (dk_at dksX1_whyNotGo_0 15 rfl rfl)
theorem dX1_whyNotGo_18 : decode cX1_whyNotGo 18 = .ok (.iconst 5, 1) := dk_8 (dk_at dksX1_whyNotGo_0 18 rfl rfl)
theorem dX1_whyNotGo_19 : decode cX1_whyNotGo 19 = .ok (.ireturn, 1) := dk_172 (dk_at dksX1_whyNotGo_0 19 rfl rfl)
theorem dX1_whyNotGo_20 : decode cX1_whyNotGo 20 = .ok (.aload_n 0, 1) := dk_42 (dk_at dksX1_whyNotGo_0 20 rfl rfl)
theorem dX1_whyNotGo_21 : decode cX1_whyNotGo 21 = .ok (.getfield 60, 3) := dk_180 0 60 (dk_at dksX1_whyNotGo_0 21 rfl rfl)
theorem dX1_whyNotGo_24 : decode cX1_whyNotGo 24 = .ok (.aload_n 0, 1) := dk_42 (dk_at dksX1_whyNotGo_1 0 rfl rfl)
theorem dX1_whyNotGo_25 : decode cX1_whyNotGo 25 = .ok (.getfield 33, 3) := dk_180 0 33 (dk_at dksX1_whyNotGo_1 1 rfl rfl)
theorem dX1_whyNotGo_28 : decode cX1_whyNotGo 28 = .ok (.iload_n 1, 1) := dk_27 (dk_at dksX1_whyNotGo_1 4 rfl rfl)
theorem dX1_whyNotGo_29 : decode cX1_whyNotGo 29 = .ok (.iaload, 1) := dk_46 (dk_at dksX1_whyNotGo_1 5 rfl rfl)
theorem dX1_whyNotGo_30 : decode cX1_whyNotGo 30 = .ok (.invokestatic 72, 3) := dk_184 0 72 (dk_at dksX1_whyNotGo_1 6 rfl rfl)
theorem dX1_whyNotGo_33 : decode cX1_whyNotGo 33 = .ok (.ifCond .ne 14, 3) := dk_154 0 14 (dk_at dksX1_whyNotGo_1 9 rfl rfl)
theorem dX1_whyNotGo_36 : decode cX1_whyNotGo 36 = .ok (.aload_n 0, 1) := dk_42 (dk_at dksX1_whyNotGo_1 12 rfl rfl)
theorem dX1_whyNotGo_37 : decode cX1_whyNotGo 37 = .ok (.getfield 60, 3) := dk_180 0 60 (dk_at dksX1_whyNotGo_1 13 rfl rfl)
theorem dX1_whyNotGo_40 : decode cX1_whyNotGo 40 = .ok (.iload_n 2, 1) := dk_28 (dk_at dksX1_whyNotGo_1 16 rfl rfl)
theorem dX1_whyNotGo_41 : decode cX1_whyNotGo 41 = .ok (.invokestatic 72, 3) := dk_184 0 72 (dk_at dksX1_whyNotGo_1 17 rfl rfl)
theorem dX1_whyNotGo_44 : decode cX1_whyNotGo 44 = .ok (.ifCond .eq 8, 3) := dk_153 0 8 (dk_at dksX1_whyNotGo_1 20 rfl rfl)
theorem dX1_whyNotGo_47 : decode cX1_whyNotGo 47 = .ok (.bipush 6, 2) := dk_16 6 (dk_at dksX1_whyNotGo_2 0 rfl rfl)
theorem dX1_whyNotGo_49 : decode cX1_whyNotGo 49 = .ok (.goto 4, 3) := dk_167 0 4 (dk_at dksX1_whyNotGo_2 2 rfl rfl)
theorem dX1_whyNotGo_52 : decode cX1_whyNotGo 52 = .ok (.iconst 0, 1) := dk_3 (dk_at dksX1_whyNotGo_2 5 rfl rfl)
theorem dX1_whyNotGo_53 : decode cX1_whyNotGo 53 = .ok (.ireturn, 1) := dk_172 (dk_at dksX1_whyNotGo_2 6 rfl rfl)
abbrev cX1_lamps : ByteArray := prog_2_method_8_code
def yX1_lamps : MethodName := ⟨RX1, "lamps", "()I"⟩
def dkwX1_lamps_1 : List UInt8 := [167, 0, 4, 3, 128, 60, 132, 2, 1, 167, 255, 229, 27, 172]
abbrev dktX1_lamps_1 : List UInt8 := dkwX1_lamps_1 ++ []
def dkwX1_lamps_0 : List UInt8 := [3, 60, 3, 61, 28, 16, 10, 162, 0, 27, 27, 42, 28, 182, 0, 99, 158, 0, 9, 4, 28, 120]
abbrev dktX1_lamps_0 : List UInt8 := dkwX1_lamps_0 ++ dktX1_lamps_1
theorem dksX1_lamps_0 : cX1_lamps.data.toList.drop 0 = dktX1_lamps_0 := by decide +kernel
theorem dksX1_lamps_1 : cX1_lamps.data.toList.drop 22 = dktX1_lamps_1 := dk_seg dksX1_lamps_0 22 rfl rfl
theorem dX1_lamps_0 : decode cX1_lamps 0 = .ok (.iconst 0, 1) := dk_3 (dk_at dksX1_lamps_0 0 rfl rfl)
theorem dX1_lamps_1 : decode cX1_lamps 1 = .ok (.istore_n 1, 1) := dk_60 (dk_at dksX1_lamps_0 1 rfl rfl)
theorem dX1_lamps_2 : decode cX1_lamps 2 = .ok (.iconst 0, 1) := dk_3 (dk_at dksX1_lamps_0 2 rfl rfl)
theorem dX1_lamps_3 : decode cX1_lamps 3 = .ok (.istore_n 2, 1) := dk_61 (dk_at dksX1_lamps_0 3 rfl rfl)
theorem dX1_lamps_4 : decode cX1_lamps 4 = .ok (.iload_n 2, 1) := dk_28 (dk_at dksX1_lamps_0 4 rfl rfl)
theorem dX1_lamps_5 : decode cX1_lamps 5 = .ok (.bipush 10, 2) := dk_16 10 (dk_at dksX1_lamps_0 5 rfl rfl)
theorem dX1_lamps_7 : decode cX1_lamps 7 = .ok (.if_icmp .ge 27, 3) := dk_162 0 27 (dk_at dksX1_lamps_0 7 rfl rfl)
theorem dX1_lamps_10 : decode cX1_lamps 10 = .ok (.iload_n 1, 1) := dk_27 (dk_at dksX1_lamps_0 10 rfl rfl)
theorem dX1_lamps_11 : decode cX1_lamps 11 = .ok (.aload_n 0, 1) := dk_42 (dk_at dksX1_lamps_0 11 rfl rfl)
theorem dX1_lamps_12 : decode cX1_lamps 12 = .ok (.iload_n 2, 1) := dk_28 (dk_at dksX1_lamps_0 12 rfl rfl)
theorem dX1_lamps_13 : decode cX1_lamps 13 = .ok (.invokevirtual 99, 3) := dk_182 0 99 (dk_at dksX1_lamps_0 13 rfl rfl)
theorem dX1_lamps_16 : decode cX1_lamps 16 = .ok (.ifCond .le 9, 3) := dk_158 0 9 (dk_at dksX1_lamps_0 16 rfl rfl)
theorem dX1_lamps_19 : decode cX1_lamps 19 = .ok (.iconst 1, 1) := dk_4 (dk_at dksX1_lamps_0 19 rfl rfl)
theorem dX1_lamps_20 : decode cX1_lamps 20 = .ok (.iload_n 2, 1) := dk_28 (dk_at dksX1_lamps_0 20 rfl rfl)
theorem dX1_lamps_21 : decode cX1_lamps 21 = .ok (.ishl, 1) := dk_120 (dk_at dksX1_lamps_0 21 rfl rfl)
theorem dX1_lamps_22 : decode cX1_lamps 22 = .ok (.goto 4, 3) := dk_167 0 4 (dk_at dksX1_lamps_1 0 rfl rfl)
theorem dX1_lamps_25 : decode cX1_lamps 25 = .ok (.iconst 0, 1) := dk_3 (dk_at dksX1_lamps_1 3 rfl rfl)
theorem dX1_lamps_26 : decode cX1_lamps 26 = .ok (.ior, 1) := dk_128 (dk_at dksX1_lamps_1 4 rfl rfl)
theorem dX1_lamps_27 : decode cX1_lamps 27 = .ok (.istore_n 1, 1) := dk_60 (dk_at dksX1_lamps_1 5 rfl rfl)
theorem dX1_lamps_28 : decode cX1_lamps 28 = .ok (.iinc 2 1, 3) := dk_132 2 1 (dk_at dksX1_lamps_1 6 rfl rfl)
theorem dX1_lamps_31 : decode cX1_lamps 31 = .ok (.goto (-27), 3) := dk_167 255 229 (dk_at dksX1_lamps_1 9 rfl rfl)
theorem dX1_lamps_34 : decode cX1_lamps 34 = .ok (.iload_n 1, 1) := dk_27 (dk_at dksX1_lamps_1 12 rfl rfl)
theorem dX1_lamps_35 : decode cX1_lamps 35 = .ok (.ireturn, 1) := dk_172 (dk_at dksX1_lamps_1 13 rfl rfl)
abbrev cX1_light : ByteArray := prog_2_method_7_code
def yX1_light : MethodName := ⟨RX1, "light", "(I)I"⟩
def dkwX1_light_1 : List UInt8 := [28, 42, 29, 182, 0, 95, 5, 108, 184, 0, 89, 167, 0, 4, 28, 61, 132, 3, 1, 167, 255, 221, 28, 172]
abbrev dktX1_light_1 : List UInt8 := dkwX1_light_1 ++ []
def dkwX1_light_0 : List UInt8 := [42, 27, 182, 0, 95, 61, 3, 62, 29, 16, 10, 162, 0, 35, 42, 180, 0, 15, 29, 46, 27, 160, 0, 17]
abbrev dktX1_light_0 : List UInt8 := dkwX1_light_0 ++ dktX1_light_1
theorem dksX1_light_0 : cX1_light.data.toList.drop 0 = dktX1_light_0 := by decide +kernel
theorem dksX1_light_1 : cX1_light.data.toList.drop 24 = dktX1_light_1 := dk_seg dksX1_light_0 24 rfl rfl
theorem dX1_light_0 : decode cX1_light 0 = .ok (.aload_n 0, 1) := dk_42 (dk_at dksX1_light_0 0 rfl rfl)
theorem dX1_light_1 : decode cX1_light 1 = .ok (.iload_n 1, 1) := dk_27 (dk_at dksX1_light_0 1 rfl rfl)
theorem dX1_light_2 : decode cX1_light 2 = .ok (.invokevirtual 95, 3) := dk_182 0 95 (dk_at dksX1_light_0 2 rfl rfl)
theorem dX1_light_5 : decode cX1_light 5 = .ok (.istore_n 2, 1) := dk_61 (dk_at dksX1_light_0 5 rfl rfl)
theorem dX1_light_6 : decode cX1_light 6 = .ok (.iconst 0, 1) := dk_3 (dk_at dksX1_light_0 6 rfl rfl)
theorem dX1_light_7 : decode cX1_light 7 = .ok (.istore_n 3, 1) := dk_62 (dk_at dksX1_light_0 7 rfl rfl)
theorem dX1_light_8 : decode cX1_light 8 = .ok (.iload_n 3, 1) := dk_29 (dk_at dksX1_light_0 8 rfl rfl)
theorem dX1_light_9 : decode cX1_light 9 = .ok (.bipush 10, 2) := dk_16 10 (dk_at dksX1_light_0 9 rfl rfl)
theorem dX1_light_11 : decode cX1_light 11 = .ok (.if_icmp .ge 35, 3) := dk_162 0 35 (dk_at dksX1_light_0 11 rfl rfl)
theorem dX1_light_14 : decode cX1_light 14 = .ok (.aload_n 0, 1) := dk_42 (dk_at dksX1_light_0 14 rfl rfl)
theorem dX1_light_15 : decode cX1_light 15 = .ok (.getfield 15, 3) := dk_180 0 15 (dk_at dksX1_light_0 15 rfl rfl)
theorem dX1_light_18 : decode cX1_light 18 = .ok (.iload_n 3, 1) := dk_29 (dk_at dksX1_light_0 18 rfl rfl)
theorem dX1_light_19 : decode cX1_light 19 = .ok (.iaload, 1) := dk_46 (dk_at dksX1_light_0 19 rfl rfl)
theorem dX1_light_20 : decode cX1_light 20 = .ok (.iload_n 1, 1) := dk_27 (dk_at dksX1_light_0 20 rfl rfl)
theorem dX1_light_21 : decode cX1_light 21 = .ok (.if_icmp .ne 17, 3) := dk_160 0 17 (dk_at dksX1_light_0 21 rfl rfl)
theorem dX1_light_24 : decode cX1_light 24 = .ok (.iload_n 2, 1) := dk_28 (dk_at dksX1_light_1 0 rfl rfl)
theorem dX1_light_25 : decode cX1_light 25 = .ok (.aload_n 0, 1) := dk_42 (dk_at dksX1_light_1 1 rfl rfl)
theorem dX1_light_26 : decode cX1_light 26 = .ok (.iload_n 3, 1) := dk_29 (dk_at dksX1_light_1 2 rfl rfl)
theorem dX1_light_27 : decode cX1_light 27 = .ok (.invokevirtual 95, 3) := dk_182 0 95 (dk_at dksX1_light_1 3 rfl rfl)
theorem dX1_light_30 : decode cX1_light 30 = .ok (.iconst 2, 1) := dk_5 (dk_at dksX1_light_1 6 rfl rfl)
theorem dX1_light_31 : decode cX1_light 31 = .ok (.idiv, 1) := dk_108 (dk_at dksX1_light_1 7 rfl rfl)
theorem dX1_light_32 : decode cX1_light 32 = .ok (.invokestatic 89, 3) := dk_184 0 89 (dk_at dksX1_light_1 8 rfl rfl)
theorem dX1_light_35 : decode cX1_light 35 = .ok (.goto 4, 3) := dk_167 0 4 (dk_at dksX1_light_1 11 rfl rfl)
theorem dX1_light_38 : decode cX1_light 38 = .ok (.iload_n 2, 1) := dk_28 (dk_at dksX1_light_1 14 rfl rfl)
theorem dX1_light_39 : decode cX1_light 39 = .ok (.istore_n 2, 1) := dk_61 (dk_at dksX1_light_1 15 rfl rfl)
theorem dX1_light_40 : decode cX1_light 40 = .ok (.iinc 3 1, 3) := dk_132 3 1 (dk_at dksX1_light_1 16 rfl rfl)
theorem dX1_light_43 : decode cX1_light 43 = .ok (.goto (-35), 3) := dk_167 255 221 (dk_at dksX1_light_1 19 rfl rfl)
theorem dX1_light_46 : decode cX1_light 46 = .ok (.iload_n 2, 1) := dk_28 (dk_at dksX1_light_1 22 rfl rfl)
theorem dX1_light_47 : decode cX1_light 47 = .ok (.ireturn, 1) := dk_172 (dk_at dksX1_light_1 23 rfl rfl)
abbrev cX1_sungIn : ByteArray := prog_2_method_6_code
def yX1_sungIn : MethodName := ⟨RX1, "sungIn", "(I)I"⟩
def dkwX1_sungIn_3 : List UInt8 := [172]
abbrev dktX1_sungIn_3 : List UInt8 := dkwX1_sungIn_3 ++ []
def dkwX1_sungIn_2 : List UInt8 := [28, 4, 42, 180, 0, 36, 29, 46, 96, 184, 0, 89, 167, 0, 4, 28, 61, 132, 3, 1, 167, 255, 192, 28]
abbrev dktX1_sungIn_2 : List UInt8 := dkwX1_sungIn_2 ++ dktX1_sungIn_3
def dkwX1_sungIn_1 : List UInt8 := [27, 160, 0, 15, 42, 29, 182, 0, 86, 154, 0, 7, 4, 167, 0, 4, 3, 54, 4, 21, 4, 153, 0, 18]
abbrev dktX1_sungIn_1 : List UInt8 := dkwX1_sungIn_1 ++ dktX1_sungIn_2
def dkwX1_sungIn_0 : List UInt8 := [3, 61, 3, 62, 29, 16, 8, 162, 0, 64, 42, 29, 182, 0, 80, 153, 0, 25, 42, 180, 0, 33, 29, 46]
abbrev dktX1_sungIn_0 : List UInt8 := dkwX1_sungIn_0 ++ dktX1_sungIn_1
theorem dksX1_sungIn_0 : cX1_sungIn.data.toList.drop 0 = dktX1_sungIn_0 := by decide +kernel
theorem dksX1_sungIn_1 : cX1_sungIn.data.toList.drop 24 = dktX1_sungIn_1 := dk_seg dksX1_sungIn_0 24 rfl rfl
theorem dksX1_sungIn_2 : cX1_sungIn.data.toList.drop 48 = dktX1_sungIn_2 := dk_seg dksX1_sungIn_1 24 rfl rfl
theorem dksX1_sungIn_3 : cX1_sungIn.data.toList.drop 72 = dktX1_sungIn_3 := dk_seg dksX1_sungIn_2 24 rfl rfl
theorem dX1_sungIn_0 : decode cX1_sungIn 0 = .ok (.iconst 0, 1) := dk_3 (dk_at dksX1_sungIn_0 0 rfl rfl)
theorem dX1_sungIn_1 : decode cX1_sungIn 1 = .ok (.istore_n 2, 1) := dk_61 (dk_at dksX1_sungIn_0 1 rfl rfl)
theorem dX1_sungIn_2 : decode cX1_sungIn 2 = .ok (.iconst 0, 1) := dk_3 (dk_at dksX1_sungIn_0 2 rfl rfl)
theorem dX1_sungIn_3 : decode cX1_sungIn 3 = .ok (.istore_n 3, 1) := dk_62 (dk_at dksX1_sungIn_0 3 rfl rfl)
theorem dX1_sungIn_4 : decode cX1_sungIn 4 = .ok (.iload_n 3, 1) := dk_29 (dk_at dksX1_sungIn_0 4 rfl rfl)
theorem dX1_sungIn_5 : decode cX1_sungIn 5 = .ok (.bipush 8, 2) := dk_16 8 (dk_at dksX1_sungIn_0 5 rfl rfl)
theorem dX1_sungIn_7 : decode cX1_sungIn 7 = .ok (.if_icmp .ge 64, 3) := dk_162 0 64 (dk_at dksX1_sungIn_0 7 rfl rfl)
theorem dX1_sungIn_10 : decode cX1_sungIn 10 = .ok (.aload_n 0, 1) := dk_42 (dk_at dksX1_sungIn_0 10 rfl rfl)
theorem dX1_sungIn_11 : decode cX1_sungIn 11 = .ok (.iload_n 3, 1) := dk_29 (dk_at dksX1_sungIn_0 11 rfl rfl)
theorem dX1_sungIn_12 : decode cX1_sungIn 12 = .ok (.invokevirtual 80, 3) := dk_182 0 80 (dk_at dksX1_sungIn_0 12 rfl rfl)
theorem dX1_sungIn_15 : decode cX1_sungIn 15 = .ok (.ifCond .eq 25, 3) := dk_153 0 25 (dk_at dksX1_sungIn_0 15 rfl rfl)
theorem dX1_sungIn_18 : decode cX1_sungIn 18 = .ok (.aload_n 0, 1) := dk_42 (dk_at dksX1_sungIn_0 18 rfl rfl)
theorem dX1_sungIn_19 : decode cX1_sungIn 19 = .ok (.getfield 33, 3) := dk_180 0 33 (dk_at dksX1_sungIn_0 19 rfl rfl)
theorem dX1_sungIn_22 : decode cX1_sungIn 22 = .ok (.iload_n 3, 1) := dk_29 (dk_at dksX1_sungIn_0 22 rfl rfl)
theorem dX1_sungIn_23 : decode cX1_sungIn 23 = .ok (.iaload, 1) := dk_46 (dk_at dksX1_sungIn_0 23 rfl rfl)
theorem dX1_sungIn_24 : decode cX1_sungIn 24 = .ok (.iload_n 1, 1) := dk_27 (dk_at dksX1_sungIn_1 0 rfl rfl)
theorem dX1_sungIn_25 : decode cX1_sungIn 25 = .ok (.if_icmp .ne 15, 3) := dk_160 0 15 (dk_at dksX1_sungIn_1 1 rfl rfl)
theorem dX1_sungIn_28 : decode cX1_sungIn 28 = .ok (.aload_n 0, 1) := dk_42 (dk_at dksX1_sungIn_1 4 rfl rfl)
theorem dX1_sungIn_29 : decode cX1_sungIn 29 = .ok (.iload_n 3, 1) := dk_29 (dk_at dksX1_sungIn_1 5 rfl rfl)
theorem dX1_sungIn_30 : decode cX1_sungIn 30 = .ok (.invokevirtual 86, 3) := dk_182 0 86 (dk_at dksX1_sungIn_1 6 rfl rfl)
theorem dX1_sungIn_33 : decode cX1_sungIn 33 = .ok (.ifCond .ne 7, 3) := dk_154 0 7 (dk_at dksX1_sungIn_1 9 rfl rfl)
theorem dX1_sungIn_36 : decode cX1_sungIn 36 = .ok (.iconst 1, 1) := dk_4 (dk_at dksX1_sungIn_1 12 rfl rfl)
theorem dX1_sungIn_37 : decode cX1_sungIn 37 = .ok (.goto 4, 3) := dk_167 0 4 (dk_at dksX1_sungIn_1 13 rfl rfl)
theorem dX1_sungIn_40 : decode cX1_sungIn 40 = .ok (.iconst 0, 1) := dk_3 (dk_at dksX1_sungIn_1 16 rfl rfl)
theorem dX1_sungIn_41 : decode cX1_sungIn 41 = .ok (.istore 4, 2) := dk_54 4 (dk_at dksX1_sungIn_1 17 rfl rfl)
theorem dX1_sungIn_43 : decode cX1_sungIn 43 = .ok (.iload 4, 2) := dk_21 4 (dk_at dksX1_sungIn_1 19 rfl rfl)
theorem dX1_sungIn_45 : decode cX1_sungIn 45 = .ok (.ifCond .eq 18, 3) := dk_153 0 18 (dk_at dksX1_sungIn_1 21 rfl rfl)
theorem dX1_sungIn_48 : decode cX1_sungIn 48 = .ok (.iload_n 2, 1) := dk_28 (dk_at dksX1_sungIn_2 0 rfl rfl)
theorem dX1_sungIn_49 : decode cX1_sungIn 49 = .ok (.iconst 1, 1) := dk_4 (dk_at dksX1_sungIn_2 1 rfl rfl)
theorem dX1_sungIn_50 : decode cX1_sungIn 50 = .ok (.aload_n 0, 1) := dk_42 (dk_at dksX1_sungIn_2 2 rfl rfl)
theorem dX1_sungIn_51 : decode cX1_sungIn 51 = .ok (.getfield 36, 3) := dk_180 0 36 (dk_at dksX1_sungIn_2 3 rfl rfl)
theorem dX1_sungIn_54 : decode cX1_sungIn 54 = .ok (.iload_n 3, 1) := dk_29 (dk_at dksX1_sungIn_2 6 rfl rfl)
theorem dX1_sungIn_55 : decode cX1_sungIn 55 = .ok (.iaload, 1) := dk_46 (dk_at dksX1_sungIn_2 7 rfl rfl)
theorem dX1_sungIn_56 : decode cX1_sungIn 56 = .ok (.iadd, 1) := dk_96 (dk_at dksX1_sungIn_2 8 rfl rfl)
theorem dX1_sungIn_57 : decode cX1_sungIn 57 = .ok (.invokestatic 89, 3) := dk_184 0 89 (dk_at dksX1_sungIn_2 9 rfl rfl)
theorem dX1_sungIn_60 : decode cX1_sungIn 60 = .ok (.goto 4, 3) := dk_167 0 4 (dk_at dksX1_sungIn_2 12 rfl rfl)
theorem dX1_sungIn_63 : decode cX1_sungIn 63 = .ok (.iload_n 2, 1) := dk_28 (dk_at dksX1_sungIn_2 15 rfl rfl)
theorem dX1_sungIn_64 : decode cX1_sungIn 64 = .ok (.istore_n 2, 1) := dk_61 (dk_at dksX1_sungIn_2 16 rfl rfl)
theorem dX1_sungIn_65 : decode cX1_sungIn 65 = .ok (.iinc 3 1, 3) := dk_132 3 1 (dk_at dksX1_sungIn_2 17 rfl rfl)
theorem dX1_sungIn_68 : decode cX1_sungIn 68 = .ok (.goto (-64), 3) := dk_167 255 192 (dk_at dksX1_sungIn_2 20 rfl rfl)
theorem dX1_sungIn_71 : decode cX1_sungIn 71 = .ok (.iload_n 2, 1) := dk_28 (dk_at dksX1_sungIn_2 23 rfl rfl)
theorem dX1_sungIn_72 : decode cX1_sungIn 72 = .ok (.ireturn, 1) := dk_172 (dk_at dksX1_sungIn_3 0 rfl rfl)
abbrev cX1_sings : ByteArray := prog_2_method_4_code
def yX1_sings : MethodName := ⟨RX1, "sings", "(I)Z"⟩
def dkwX1_sings_0 : List UInt8 := [42, 27, 182, 0, 76, 153, 0, 16, 42, 180, 0, 36, 27, 46, 155, 0, 7, 4, 167, 0, 4, 3, 172]
abbrev dktX1_sings_0 : List UInt8 := dkwX1_sings_0 ++ []
theorem dksX1_sings_0 : cX1_sings.data.toList.drop 0 = dktX1_sings_0 := by decide +kernel
theorem dX1_sings_0 : decode cX1_sings 0 = .ok (.aload_n 0, 1) := dk_42 (dk_at dksX1_sings_0 0 rfl rfl)
theorem dX1_sings_1 : decode cX1_sings 1 = .ok (.iload_n 1, 1) := dk_27 (dk_at dksX1_sings_0 1 rfl rfl)
theorem dX1_sings_2 : decode cX1_sings 2 = .ok (.invokevirtual 76, 3) := dk_182 0 76 (dk_at dksX1_sings_0 2 rfl rfl)
theorem dX1_sings_5 : decode cX1_sings 5 = .ok (.ifCond .eq 16, 3) := dk_153 0 16 (dk_at dksX1_sings_0 5 rfl rfl)
theorem dX1_sings_8 : decode cX1_sings 8 = .ok (.aload_n 0, 1) := dk_42 (dk_at dksX1_sings_0 8 rfl rfl)
theorem dX1_sings_9 : decode cX1_sings 9 = .ok (.getfield 36, 3) := dk_180 0 36 (dk_at dksX1_sings_0 9 rfl rfl)
theorem dX1_sings_12 : decode cX1_sings 12 = .ok (.iload_n 1, 1) := dk_27 (dk_at dksX1_sings_0 12 rfl rfl)
theorem dX1_sings_13 : decode cX1_sings 13 = .ok (.iaload, 1) := dk_46 (dk_at dksX1_sings_0 13 rfl rfl)
theorem dX1_sings_14 : decode cX1_sings 14 = .ok (.ifCond .lt 7, 3) := dk_155 0 7 (dk_at dksX1_sings_0 14 rfl rfl)
theorem dX1_sings_17 : decode cX1_sings 17 = .ok (.iconst 1, 1) := dk_4 (dk_at dksX1_sings_0 17 rfl rfl)
theorem dX1_sings_18 : decode cX1_sings 18 = .ok (.goto 4, 3) := dk_167 0 4 (dk_at dksX1_sings_0 18 rfl rfl)
theorem dX1_sings_21 : decode cX1_sings 21 = .ok (.iconst 0, 1) := dk_3 (dk_at dksX1_sings_0 21 rfl rfl)
theorem dX1_sings_22 : decode cX1_sings 22 = .ok (.ireturn, 1) := dk_172 (dk_at dksX1_sings_0 22 rfl rfl)
abbrev cX1_isTaken : ByteArray := prog_2_method_5_code
def yX1_isTaken : MethodName := ⟨RX1, "isTaken", "(I)Z"⟩
def dkwX1_isTaken_3 : List UInt8 := [172]
abbrev dktX1_isTaken_3 : List UInt8 := dkwX1_isTaken_3 ++ []
def dkwX1_isTaken_2 : List UInt8 := [153, 0, 17, 42, 180, 0, 56, 42, 180, 0, 33, 27, 46, 184, 0, 72, 172, 132, 2, 1, 167, 255, 192, 3]
abbrev dktX1_isTaken_2 : List UInt8 := dkwX1_isTaken_2 ++ dktX1_isTaken_3
def dkwX1_isTaken_1 : List UInt8 := [180, 0, 33, 27, 46, 160, 0, 35, 42, 180, 0, 36, 28, 46, 42, 180, 0, 36, 27, 46, 184, 0, 83]
abbrev dktX1_isTaken_1 : List UInt8 := dkwX1_isTaken_1 ++ dktX1_isTaken_2
def dkwX1_isTaken_0 : List UInt8 := [3, 61, 28, 16, 8, 162, 0, 64, 42, 28, 182, 0, 80, 153, 0, 50, 42, 180, 0, 33, 28, 46, 42]
abbrev dktX1_isTaken_0 : List UInt8 := dkwX1_isTaken_0 ++ dktX1_isTaken_1
theorem dksX1_isTaken_0 : cX1_isTaken.data.toList.drop 0 = dktX1_isTaken_0 := by decide +kernel
theorem dksX1_isTaken_1 : cX1_isTaken.data.toList.drop 23 = dktX1_isTaken_1 := dk_seg dksX1_isTaken_0 23 rfl rfl
theorem dksX1_isTaken_2 : cX1_isTaken.data.toList.drop 46 = dktX1_isTaken_2 := dk_seg dksX1_isTaken_1 23 rfl rfl
theorem dksX1_isTaken_3 : cX1_isTaken.data.toList.drop 70 = dktX1_isTaken_3 := dk_seg dksX1_isTaken_2 24 rfl rfl
theorem dX1_isTaken_0 : decode cX1_isTaken 0 = .ok (.iconst 0, 1) := dk_3 (dk_at dksX1_isTaken_0 0 rfl rfl)
theorem dX1_isTaken_1 : decode cX1_isTaken 1 = .ok (.istore_n 2, 1) := dk_61 (dk_at dksX1_isTaken_0 1 rfl rfl)
theorem dX1_isTaken_2 : decode cX1_isTaken 2 = .ok (.iload_n 2, 1) := dk_28 (dk_at dksX1_isTaken_0 2 rfl rfl)
theorem dX1_isTaken_3 : decode cX1_isTaken 3 = .ok (.bipush 8, 2) := dk_16 8 (dk_at dksX1_isTaken_0 3 rfl rfl)
theorem dX1_isTaken_5 : decode cX1_isTaken 5 = .ok (.if_icmp .ge 64, 3) := dk_162 0 64 (dk_at dksX1_isTaken_0 5 rfl rfl)
theorem dX1_isTaken_8 : decode cX1_isTaken 8 = .ok (.aload_n 0, 1) := dk_42 (dk_at dksX1_isTaken_0 8 rfl rfl)
theorem dX1_isTaken_9 : decode cX1_isTaken 9 = .ok (.iload_n 2, 1) := dk_28 (dk_at dksX1_isTaken_0 9 rfl rfl)
theorem dX1_isTaken_10 : decode cX1_isTaken 10 = .ok (.invokevirtual 80, 3) := dk_182 0 80 (dk_at dksX1_isTaken_0 10 rfl rfl)
theorem dX1_isTaken_13 : decode cX1_isTaken 13 = .ok (.ifCond .eq 50, 3) := dk_153 0 50 (dk_at dksX1_isTaken_0 13 rfl rfl)
theorem dX1_isTaken_16 : decode cX1_isTaken 16 = .ok (.aload_n 0, 1) := dk_42 (dk_at dksX1_isTaken_0 16 rfl rfl)
theorem dX1_isTaken_17 : decode cX1_isTaken 17 = .ok (.getfield 33, 3) := dk_180 0 33 (dk_at dksX1_isTaken_0 17 rfl rfl)
theorem dX1_isTaken_20 : decode cX1_isTaken 20 = .ok (.iload_n 2, 1) := dk_28 (dk_at dksX1_isTaken_0 20 rfl rfl)
theorem dX1_isTaken_21 : decode cX1_isTaken 21 = .ok (.iaload, 1) := dk_46 (dk_at dksX1_isTaken_0 21 rfl rfl)
theorem dX1_isTaken_22 : decode cX1_isTaken 22 = .ok (.aload_n 0, 1) := dk_42 (dk_at dksX1_isTaken_0 22 rfl rfl)
theorem dX1_isTaken_23 : decode cX1_isTaken 23 = .ok (.getfield 33, 3) := dk_180 0 33 (dk_at dksX1_isTaken_1 0 rfl rfl)
theorem dX1_isTaken_26 : decode cX1_isTaken 26 = .ok (.iload_n 1, 1) := dk_27 (dk_at dksX1_isTaken_1 3 rfl rfl)
theorem dX1_isTaken_27 : decode cX1_isTaken 27 = .ok (.iaload, 1) := dk_46 (dk_at dksX1_isTaken_1 4 rfl rfl)
theorem dX1_isTaken_28 : decode cX1_isTaken 28 = .ok (.if_icmp .ne 35, 3) := dk_160 0 35 (dk_at dksX1_isTaken_1 5 rfl rfl)
theorem dX1_isTaken_31 : decode cX1_isTaken 31 = .ok (.aload_n 0, 1) := dk_42 (dk_at dksX1_isTaken_1 8 rfl rfl)
theorem dX1_isTaken_32 : decode cX1_isTaken 32 = .ok (.getfield 36, 3) := dk_180 0 36 (dk_at dksX1_isTaken_1 9 rfl rfl)
theorem dX1_isTaken_35 : decode cX1_isTaken 35 = .ok (.iload_n 2, 1) := dk_28 (dk_at dksX1_isTaken_1 12 rfl rfl)
theorem dX1_isTaken_36 : decode cX1_isTaken 36 = .ok (.iaload, 1) := dk_46 (dk_at dksX1_isTaken_1 13 rfl rfl)
theorem dX1_isTaken_37 : decode cX1_isTaken 37 = .ok (.aload_n 0, 1) := dk_42 (dk_at dksX1_isTaken_1 14 rfl rfl)
theorem dX1_isTaken_38 : decode cX1_isTaken 38 = .ok (.getfield 36, 3) := dk_180 0 36 (dk_at dksX1_isTaken_1 15 rfl rfl)
theorem dX1_isTaken_41 : decode cX1_isTaken 41 = .ok (.iload_n 1, 1) := dk_27 (dk_at dksX1_isTaken_1 18 rfl rfl)
theorem dX1_isTaken_42 : decode cX1_isTaken 42 = .ok (.iaload, 1) := dk_46 (dk_at dksX1_isTaken_1 19 rfl rfl)
theorem dX1_isTaken_43 : decode cX1_isTaken 43 = .ok (.invokestatic 83, 3) := dk_184 0 83 (dk_at dksX1_isTaken_1 20 rfl rfl)
theorem dX1_isTaken_46 : decode cX1_isTaken 46 = .ok (.ifCond .eq 17, 3) := dk_153 0 17 (dk_at dksX1_isTaken_2 0 rfl rfl)
theorem dX1_isTaken_49 : decode cX1_isTaken 49 = .ok (.aload_n 0, 1) := dk_42 (dk_at dksX1_isTaken_2 3 rfl rfl)
theorem dX1_isTaken_50 : decode cX1_isTaken 50 = .ok (.getfield 56, 3) := dk_180 0 56 (dk_at dksX1_isTaken_2 4 rfl rfl)
theorem dX1_isTaken_53 : decode cX1_isTaken 53 = .ok (.aload_n 0, 1) := dk_42 (dk_at dksX1_isTaken_2 7 rfl rfl)
theorem dX1_isTaken_54 : decode cX1_isTaken 54 = .ok (.getfield 33, 3) := dk_180 0 33 (dk_at dksX1_isTaken_2 8 rfl rfl)
theorem dX1_isTaken_57 : decode cX1_isTaken 57 = .ok (.iload_n 1, 1) := dk_27 (dk_at dksX1_isTaken_2 11 rfl rfl)
theorem dX1_isTaken_58 : decode cX1_isTaken 58 = .ok (.iaload, 1) := dk_46 (dk_at dksX1_isTaken_2 12 rfl rfl)
theorem dX1_isTaken_59 : decode cX1_isTaken 59 = .ok (.invokestatic 72, 3) := dk_184 0 72 (dk_at dksX1_isTaken_2 13 rfl rfl)
theorem dX1_isTaken_62 : decode cX1_isTaken 62 = .ok (.ireturn, 1) := dk_172 (dk_at dksX1_isTaken_2 16 rfl rfl)
theorem dX1_isTaken_63 : decode cX1_isTaken 63 = .ok (.iinc 2 1, 3) := dk_132 2 1 (dk_at dksX1_isTaken_2 17 rfl rfl)
theorem dX1_isTaken_66 : decode cX1_isTaken 66 = .ok (.goto (-64), 3) := dk_167 255 192 (dk_at dksX1_isTaken_2 20 rfl rfl)
theorem dX1_isTaken_69 : decode cX1_isTaken 69 = .ok (.iconst 0, 1) := dk_3 (dk_at dksX1_isTaken_2 23 rfl rfl)
theorem dX1_isTaken_70 : decode cX1_isTaken 70 = .ok (.ireturn, 1) := dk_172 (dk_at dksX1_isTaken_3 0 rfl rfl)
abbrev cX1_happen : ByteArray := prog_2_method_15_code
def yX1_happen : MethodName := ⟨RX1, "happen", "(III)V"⟩
def dkwX1_happen_4 : List UInt8 := [42, 182, 0, 122, 177]
abbrev dktX1_happen_4 : List UInt8 := dkwX1_happen_4 ++ []
def dkwX1_happen_3 : List UInt8 := [180, 0, 33, 28, 29, 79, 167, 0, 22, 42, 89, 180, 0, 60, 4, 29, 120, 130, 181, 0, 60, 167, 0, 7]
abbrev dktX1_happen_3 : List UInt8 := dkwX1_happen_3 ++ dktX1_happen_4
def dkwX1_happen_2 : List UInt8 := [42, 180, 0, 36, 28, 29, 79, 167, 0, 43, 42, 180, 0, 36, 28, 16, 250, 79, 167, 0, 32, 42]
abbrev dktX1_happen_2 : List UInt8 := dkwX1_happen_2 ++ dktX1_happen_3
def dkwX1_happen_1 : List UInt8 := [170, 0, 0, 0, 0, 0, 77, 0, 0, 0, 0, 0, 0, 0, 3, 0, 0, 0, 31, 0, 0, 0, 41, 0, 0, 0, 52, 0, 0, 0, 62]
abbrev dktX1_happen_1 : List UInt8 := dkwX1_happen_1 ++ dktX1_happen_2
def dkwX1_happen_0 : List UInt8 := [27]
abbrev dktX1_happen_0 : List UInt8 := dkwX1_happen_0 ++ dktX1_happen_1
theorem dksX1_happen_0 : cX1_happen.data.toList.drop 0 = dktX1_happen_0 := by decide +kernel
theorem dksX1_happen_1 : cX1_happen.data.toList.drop 1 = dktX1_happen_1 := dk_seg dksX1_happen_0 1 rfl rfl
theorem dksX1_happen_2 : cX1_happen.data.toList.drop 32 = dktX1_happen_2 := dk_seg dksX1_happen_1 31 rfl rfl
theorem dksX1_happen_3 : cX1_happen.data.toList.drop 54 = dktX1_happen_3 := dk_seg dksX1_happen_2 22 rfl rfl
theorem dksX1_happen_4 : cX1_happen.data.toList.drop 78 = dktX1_happen_4 := dk_seg dksX1_happen_3 24 rfl rfl
theorem dX1_happen_0 : decode cX1_happen 0 = .ok (.iload_n 1, 1) := dk_27 (dk_at dksX1_happen_0 0 rfl rfl)
theorem dX1_happen_1 : decode cX1_happen 1 = .ok (.tableswitch 77 0 3 #[31, 41, 52, 62], 31) := by decide +kernel
theorem dX1_happen_32 : decode cX1_happen 32 = .ok (.aload_n 0, 1) := dk_42 (dk_at dksX1_happen_2 0 rfl rfl)
theorem dX1_happen_33 : decode cX1_happen 33 = .ok (.getfield 36, 3) := dk_180 0 36 (dk_at dksX1_happen_2 1 rfl rfl)
theorem dX1_happen_36 : decode cX1_happen 36 = .ok (.iload_n 2, 1) := dk_28 (dk_at dksX1_happen_2 4 rfl rfl)
theorem dX1_happen_37 : decode cX1_happen 37 = .ok (.iload_n 3, 1) := dk_29 (dk_at dksX1_happen_2 5 rfl rfl)
theorem dX1_happen_38 : decode cX1_happen 38 = .ok (.iastore, 1) := dk_79 (dk_at dksX1_happen_2 6 rfl rfl)
theorem dX1_happen_39 : decode cX1_happen 39 = .ok (.goto 43, 3) := dk_167 0 43 (dk_at dksX1_happen_2 7 rfl rfl)
theorem dX1_happen_42 : decode cX1_happen 42 = .ok (.aload_n 0, 1) := dk_42 (dk_at dksX1_happen_2 10 rfl rfl)
theorem dX1_happen_43 : decode cX1_happen 43 = .ok (.getfield 36, 3) := dk_180 0 36 (dk_at dksX1_happen_2 11 rfl rfl)
theorem dX1_happen_46 : decode cX1_happen 46 = .ok (.iload_n 2, 1) := dk_28 (dk_at dksX1_happen_2 14 rfl rfl)
theorem dX1_happen_47 : decode cX1_happen 47 = .ok (.bipush (-6), 2) := dk_16 250 (dk_at dksX1_happen_2 15 rfl rfl)
theorem dX1_happen_49 : decode cX1_happen 49 = .ok (.iastore, 1) := dk_79 (dk_at dksX1_happen_2 17 rfl rfl)
theorem dX1_happen_50 : decode cX1_happen 50 = .ok (.goto 32, 3) := dk_167 0 32 (dk_at dksX1_happen_2 18 rfl rfl)
theorem dX1_happen_53 : decode cX1_happen 53 = .ok (.aload_n 0, 1) := dk_42 (dk_at dksX1_happen_2 21 rfl rfl)
theorem dX1_happen_54 : decode cX1_happen 54 = .ok (.getfield 33, 3) := dk_180 0 33 (dk_at dksX1_happen_3 0 rfl rfl)
theorem dX1_happen_57 : decode cX1_happen 57 = .ok (.iload_n 2, 1) := dk_28 (dk_at dksX1_happen_3 3 rfl rfl)
theorem dX1_happen_58 : decode cX1_happen 58 = .ok (.iload_n 3, 1) := dk_29 (dk_at dksX1_happen_3 4 rfl rfl)
theorem dX1_happen_59 : decode cX1_happen 59 = .ok (.iastore, 1) := dk_79 (dk_at dksX1_happen_3 5 rfl rfl)
theorem dX1_happen_60 : decode cX1_happen 60 = .ok (.goto 22, 3) := dk_167 0 22 (dk_at dksX1_happen_3 6 rfl rfl)
theorem dX1_happen_63 : decode cX1_happen 63 = .ok (.aload_n 0, 1) := dk_42 (dk_at dksX1_happen_3 9 rfl rfl)
theorem dX1_happen_64 : decode cX1_happen 64 = .ok (.dup, 1) := dk_89 (dk_at dksX1_happen_3 10 rfl rfl)
theorem dX1_happen_65 : decode cX1_happen 65 = .ok (.getfield 60, 3) := dk_180 0 60 (dk_at dksX1_happen_3 11 rfl rfl)
theorem dX1_happen_68 : decode cX1_happen 68 = .ok (.iconst 1, 1) := dk_4 (dk_at dksX1_happen_3 14 rfl rfl)
theorem dX1_happen_69 : decode cX1_happen 69 = .ok (.iload_n 3, 1) := dk_29 (dk_at dksX1_happen_3 15 rfl rfl)
theorem dX1_happen_70 : decode cX1_happen 70 = .ok (.ishl, 1) := dk_120 (dk_at dksX1_happen_3 16 rfl rfl)
theorem dX1_happen_71 : decode cX1_happen 71 = .ok (.ixor, 1) := dk_130 (dk_at dksX1_happen_3 17 rfl rfl)
theorem dX1_happen_72 : decode cX1_happen 72 = .ok (.putfield 60, 3) := dk_181 0 60 (dk_at dksX1_happen_3 18 rfl rfl)
theorem dX1_happen_75 : decode cX1_happen 75 = .ok (.goto 7, 3) := dk_167 0 7 (dk_at dksX1_happen_3 21 rfl rfl)
theorem dX1_happen_78 : decode cX1_happen 78 = .ok (.aload_n 0, 1) := dk_42 (dk_at dksX1_happen_4 0 rfl rfl)
theorem dX1_happen_79 : decode cX1_happen 79 = .ok (.invokevirtual 122, 3) := dk_182 0 122 (dk_at dksX1_happen_4 1 rfl rfl)
theorem dX1_happen_82 : decode cX1_happen 82 = .ok (.return_, 1) := dk_177 (dk_at dksX1_happen_4 4 rfl rfl)
abbrev cX1_pass : ByteArray := prog_2_method_14_code
def yX1_pass : MethodName := ⟨RX1, "pass", "()V"⟩
def dkwX1_pass_1 : List UInt8 := [182, 0, 118, 132, 1, 1, 167, 255, 234, 42, 89, 180, 0, 66, 4, 96, 181, 0, 66, 177]
abbrev dktX1_pass_1 : List UInt8 := dkwX1_pass_1 ++ []
def dkwX1_pass_0 : List UInt8 := [42, 182, 0, 115, 3, 60, 27, 16, 8, 162, 0, 22, 42, 27, 182, 0, 76, 153, 0, 8, 42, 27]
abbrev dktX1_pass_0 : List UInt8 := dkwX1_pass_0 ++ dktX1_pass_1
theorem dksX1_pass_0 : cX1_pass.data.toList.drop 0 = dktX1_pass_0 := by decide +kernel
theorem dksX1_pass_1 : cX1_pass.data.toList.drop 22 = dktX1_pass_1 := dk_seg dksX1_pass_0 22 rfl rfl
theorem dX1_pass_0 : decode cX1_pass 0 = .ok (.aload_n 0, 1) := dk_42 (dk_at dksX1_pass_0 0 rfl rfl)
theorem dX1_pass_1 : decode cX1_pass 1 = .ok (.invokevirtual 115, 3) := dk_182 0 115 (dk_at dksX1_pass_0 1 rfl rfl)
theorem dX1_pass_4 : decode cX1_pass 4 = .ok (.iconst 0, 1) := dk_3 (dk_at dksX1_pass_0 4 rfl rfl)
theorem dX1_pass_5 : decode cX1_pass 5 = .ok (.istore_n 1, 1) := dk_60 (dk_at dksX1_pass_0 5 rfl rfl)
theorem dX1_pass_6 : decode cX1_pass 6 = .ok (.iload_n 1, 1) := dk_27 (dk_at dksX1_pass_0 6 rfl rfl)
theorem dX1_pass_7 : decode cX1_pass 7 = .ok (.bipush 8, 2) := dk_16 8 (dk_at dksX1_pass_0 7 rfl rfl)
theorem dX1_pass_9 : decode cX1_pass 9 = .ok (.if_icmp .ge 22, 3) := dk_162 0 22 (dk_at dksX1_pass_0 9 rfl rfl)
theorem dX1_pass_12 : decode cX1_pass 12 = .ok (.aload_n 0, 1) := dk_42 (dk_at dksX1_pass_0 12 rfl rfl)
theorem dX1_pass_13 : decode cX1_pass 13 = .ok (.iload_n 1, 1) := dk_27 (dk_at dksX1_pass_0 13 rfl rfl)
theorem dX1_pass_14 : decode cX1_pass 14 = .ok (.invokevirtual 76, 3) := dk_182 0 76 (dk_at dksX1_pass_0 14 rfl rfl)
theorem dX1_pass_17 : decode cX1_pass 17 = .ok (.ifCond .eq 8, 3) := dk_153 0 8 (dk_at dksX1_pass_0 17 rfl rfl)
theorem dX1_pass_20 : decode cX1_pass 20 = .ok (.aload_n 0, 1) := dk_42 (dk_at dksX1_pass_0 20 rfl rfl)
theorem dX1_pass_21 : decode cX1_pass 21 = .ok (.iload_n 1, 1) := dk_27 (dk_at dksX1_pass_0 21 rfl rfl)
theorem dX1_pass_22 : decode cX1_pass 22 = .ok (.invokevirtual 118, 3) := dk_182 0 118 (dk_at dksX1_pass_1 0 rfl rfl)
theorem dX1_pass_25 : decode cX1_pass 25 = .ok (.iinc 1 1, 3) := dk_132 1 1 (dk_at dksX1_pass_1 3 rfl rfl)
theorem dX1_pass_28 : decode cX1_pass 28 = .ok (.goto (-22), 3) := dk_167 255 234 (dk_at dksX1_pass_1 6 rfl rfl)
theorem dX1_pass_31 : decode cX1_pass 31 = .ok (.aload_n 0, 1) := dk_42 (dk_at dksX1_pass_1 9 rfl rfl)
theorem dX1_pass_32 : decode cX1_pass 32 = .ok (.dup, 1) := dk_89 (dk_at dksX1_pass_1 10 rfl rfl)
theorem dX1_pass_33 : decode cX1_pass 33 = .ok (.getfield 66, 3) := dk_180 0 66 (dk_at dksX1_pass_1 11 rfl rfl)
theorem dX1_pass_36 : decode cX1_pass 36 = .ok (.iconst 1, 1) := dk_4 (dk_at dksX1_pass_1 14 rfl rfl)
theorem dX1_pass_37 : decode cX1_pass 37 = .ok (.iadd, 1) := dk_96 (dk_at dksX1_pass_1 15 rfl rfl)
theorem dX1_pass_38 : decode cX1_pass 38 = .ok (.putfield 66, 3) := dk_181 0 66 (dk_at dksX1_pass_1 16 rfl rfl)
theorem dX1_pass_41 : decode cX1_pass 41 = .ok (.return_, 1) := dk_177 (dk_at dksX1_pass_1 19 rfl rfl)
abbrev cX1_cutCoal : ByteArray := prog_2_method_12_code
def yX1_cutCoal : MethodName := ⟨RX1, "cutCoal", "()V"⟩
def dkwX1_cutCoal_4 : List UInt8 := [167, 0, 14, 29, 16, 8, 164, 0, 7, 5, 167, 0, 4, 4, 96, 79, 132, 1, 1, 167, 255, 171, 177]
abbrev dktX1_cutCoal_4 : List UInt8 := dkwX1_cutCoal_4 ++ []
def dkwX1_cutCoal_3 : List UInt8 := [46, 167, 0, 4, 3, 62, 42, 180, 0, 18, 42, 180, 0, 33, 27, 46, 92, 46, 29, 154, 0, 7, 3]
abbrev dktX1_cutCoal_3 : List UInt8 := dkwX1_cutCoal_3 ++ dktX1_cutCoal_4
def dkwX1_cutCoal_2 : List UInt8 := [46, 156, 0, 7, 4, 167, 0, 4, 3, 61, 28, 153, 0, 17, 42, 180, 0, 45, 42, 180, 0, 33, 27, 46]
abbrev dktX1_cutCoal_2 : List UInt8 := dkwX1_cutCoal_2 ++ dktX1_cutCoal_3
def dkwX1_cutCoal_1 : List UInt8 := [167, 255, 236, 3, 60, 27, 16, 8, 162, 0, 85, 42, 27, 182, 0, 76, 153, 0, 16, 42, 180, 0, 36, 27]
abbrev dktX1_cutCoal_1 : List UInt8 := dkwX1_cutCoal_1 ++ dktX1_cutCoal_2
def dkwX1_cutCoal_0 : List UInt8 := [3, 60, 27, 16, 10, 162, 0, 20, 42, 180, 0, 45, 27, 42, 27, 182, 0, 99, 79, 132, 1, 1]
abbrev dktX1_cutCoal_0 : List UInt8 := dkwX1_cutCoal_0 ++ dktX1_cutCoal_1
theorem dksX1_cutCoal_0 : cX1_cutCoal.data.toList.drop 0 = dktX1_cutCoal_0 := by decide +kernel
theorem dksX1_cutCoal_1 : cX1_cutCoal.data.toList.drop 22 = dktX1_cutCoal_1 := dk_seg dksX1_cutCoal_0 22 rfl rfl
theorem dksX1_cutCoal_2 : cX1_cutCoal.data.toList.drop 46 = dktX1_cutCoal_2 := dk_seg dksX1_cutCoal_1 24 rfl rfl
theorem dksX1_cutCoal_3 : cX1_cutCoal.data.toList.drop 70 = dktX1_cutCoal_3 := dk_seg dksX1_cutCoal_2 24 rfl rfl
theorem dksX1_cutCoal_4 : cX1_cutCoal.data.toList.drop 93 = dktX1_cutCoal_4 := dk_seg dksX1_cutCoal_3 23 rfl rfl
theorem dX1_cutCoal_0 : decode cX1_cutCoal 0 = .ok (.iconst 0, 1) := dk_3 (dk_at dksX1_cutCoal_0 0 rfl rfl)
theorem dX1_cutCoal_1 : decode cX1_cutCoal 1 = .ok (.istore_n 1, 1) := dk_60 (dk_at dksX1_cutCoal_0 1 rfl rfl)
theorem dX1_cutCoal_2 : decode cX1_cutCoal 2 = .ok (.iload_n 1, 1) := dk_27 (dk_at dksX1_cutCoal_0 2 rfl rfl)
theorem dX1_cutCoal_3 : decode cX1_cutCoal 3 = .ok (.bipush 10, 2) := dk_16 10 (dk_at dksX1_cutCoal_0 3 rfl rfl)
theorem dX1_cutCoal_5 : decode cX1_cutCoal 5 = .ok (.if_icmp .ge 20, 3) := dk_162 0 20 (dk_at dksX1_cutCoal_0 5 rfl rfl)
theorem dX1_cutCoal_8 : decode cX1_cutCoal 8 = .ok (.aload_n 0, 1) := dk_42 (dk_at dksX1_cutCoal_0 8 rfl rfl)
theorem dX1_cutCoal_9 : decode cX1_cutCoal 9 = .ok (.getfield 45, 3) := dk_180 0 45 (dk_at dksX1_cutCoal_0 9 rfl rfl)
theorem dX1_cutCoal_12 : decode cX1_cutCoal 12 = .ok (.iload_n 1, 1) := dk_27 (dk_at dksX1_cutCoal_0 12 rfl rfl)
theorem dX1_cutCoal_13 : decode cX1_cutCoal 13 = .ok (.aload_n 0, 1) := dk_42 (dk_at dksX1_cutCoal_0 13 rfl rfl)
theorem dX1_cutCoal_14 : decode cX1_cutCoal 14 = .ok (.iload_n 1, 1) := dk_27 (dk_at dksX1_cutCoal_0 14 rfl rfl)
theorem dX1_cutCoal_15 : decode cX1_cutCoal 15 = .ok (.invokevirtual 99, 3) := dk_182 0 99 (dk_at dksX1_cutCoal_0 15 rfl rfl)
theorem dX1_cutCoal_18 : decode cX1_cutCoal 18 = .ok (.iastore, 1) := dk_79 (dk_at dksX1_cutCoal_0 18 rfl rfl)
theorem dX1_cutCoal_19 : decode cX1_cutCoal 19 = .ok (.iinc 1 1, 3) := dk_132 1 1 (dk_at dksX1_cutCoal_0 19 rfl rfl)
theorem dX1_cutCoal_22 : decode cX1_cutCoal 22 = .ok (.goto (-20), 3) := dk_167 255 236 (dk_at dksX1_cutCoal_1 0 rfl rfl)
theorem dX1_cutCoal_25 : decode cX1_cutCoal 25 = .ok (.iconst 0, 1) := dk_3 (dk_at dksX1_cutCoal_1 3 rfl rfl)
theorem dX1_cutCoal_26 : decode cX1_cutCoal 26 = .ok (.istore_n 1, 1) := dk_60 (dk_at dksX1_cutCoal_1 4 rfl rfl)
theorem dX1_cutCoal_27 : decode cX1_cutCoal 27 = .ok (.iload_n 1, 1) := dk_27 (dk_at dksX1_cutCoal_1 5 rfl rfl)
theorem dX1_cutCoal_28 : decode cX1_cutCoal 28 = .ok (.bipush 8, 2) := dk_16 8 (dk_at dksX1_cutCoal_1 6 rfl rfl)
theorem dX1_cutCoal_30 : decode cX1_cutCoal 30 = .ok (.if_icmp .ge 85, 3) := dk_162 0 85 (dk_at dksX1_cutCoal_1 8 rfl rfl)
theorem dX1_cutCoal_33 : decode cX1_cutCoal 33 = .ok (.aload_n 0, 1) := dk_42 (dk_at dksX1_cutCoal_1 11 rfl rfl)
theorem dX1_cutCoal_34 : decode cX1_cutCoal 34 = .ok (.iload_n 1, 1) := dk_27 (dk_at dksX1_cutCoal_1 12 rfl rfl)
theorem dX1_cutCoal_35 : decode cX1_cutCoal 35 = .ok (.invokevirtual 76, 3) := dk_182 0 76 (dk_at dksX1_cutCoal_1 13 rfl rfl)
theorem dX1_cutCoal_38 : decode cX1_cutCoal 38 = .ok (.ifCond .eq 16, 3) := dk_153 0 16 (dk_at dksX1_cutCoal_1 16 rfl rfl)
theorem dX1_cutCoal_41 : decode cX1_cutCoal 41 = .ok (.aload_n 0, 1) := dk_42 (dk_at dksX1_cutCoal_1 19 rfl rfl)
theorem dX1_cutCoal_42 : decode cX1_cutCoal 42 = .ok (.getfield 36, 3) := dk_180 0 36 (dk_at dksX1_cutCoal_1 20 rfl rfl)
theorem dX1_cutCoal_45 : decode cX1_cutCoal 45 = .ok (.iload_n 1, 1) := dk_27 (dk_at dksX1_cutCoal_1 23 rfl rfl)
theorem dX1_cutCoal_46 : decode cX1_cutCoal 46 = .ok (.iaload, 1) := dk_46 (dk_at dksX1_cutCoal_2 0 rfl rfl)
theorem dX1_cutCoal_47 : decode cX1_cutCoal 47 = .ok (.ifCond .ge 7, 3) := dk_156 0 7 (dk_at dksX1_cutCoal_2 1 rfl rfl)
theorem dX1_cutCoal_50 : decode cX1_cutCoal 50 = .ok (.iconst 1, 1) := dk_4 (dk_at dksX1_cutCoal_2 4 rfl rfl)
theorem dX1_cutCoal_51 : decode cX1_cutCoal 51 = .ok (.goto 4, 3) := dk_167 0 4 (dk_at dksX1_cutCoal_2 5 rfl rfl)
theorem dX1_cutCoal_54 : decode cX1_cutCoal 54 = .ok (.iconst 0, 1) := dk_3 (dk_at dksX1_cutCoal_2 8 rfl rfl)
theorem dX1_cutCoal_55 : decode cX1_cutCoal 55 = .ok (.istore_n 2, 1) := dk_61 (dk_at dksX1_cutCoal_2 9 rfl rfl)
theorem dX1_cutCoal_56 : decode cX1_cutCoal 56 = .ok (.iload_n 2, 1) := dk_28 (dk_at dksX1_cutCoal_2 10 rfl rfl)
theorem dX1_cutCoal_57 : decode cX1_cutCoal 57 = .ok (.ifCond .eq 17, 3) := dk_153 0 17 (dk_at dksX1_cutCoal_2 11 rfl rfl)
theorem dX1_cutCoal_60 : decode cX1_cutCoal 60 = .ok (.aload_n 0, 1) := dk_42 (dk_at dksX1_cutCoal_2 14 rfl rfl)
theorem dX1_cutCoal_61 : decode cX1_cutCoal 61 = .ok (.getfield 45, 3) := dk_180 0 45 (dk_at dksX1_cutCoal_2 15 rfl rfl)
theorem dX1_cutCoal_64 : decode cX1_cutCoal 64 = .ok (.aload_n 0, 1) := dk_42 (dk_at dksX1_cutCoal_2 18 rfl rfl)
theorem dX1_cutCoal_65 : decode cX1_cutCoal 65 = .ok (.getfield 33, 3) := dk_180 0 33 (dk_at dksX1_cutCoal_2 19 rfl rfl)
theorem dX1_cutCoal_68 : decode cX1_cutCoal 68 = .ok (.iload_n 1, 1) := dk_27 (dk_at dksX1_cutCoal_2 22 rfl rfl)
theorem dX1_cutCoal_69 : decode cX1_cutCoal 69 = .ok (.iaload, 1) := dk_46 (dk_at dksX1_cutCoal_2 23 rfl rfl)
theorem dX1_cutCoal_70 : decode cX1_cutCoal 70 = .ok (.iaload, 1) := dk_46 (dk_at dksX1_cutCoal_3 0 rfl rfl)
theorem dX1_cutCoal_71 : decode cX1_cutCoal 71 = .ok (.goto 4, 3) := dk_167 0 4 (dk_at dksX1_cutCoal_3 1 rfl rfl)
theorem dX1_cutCoal_74 : decode cX1_cutCoal 74 = .ok (.iconst 0, 1) := dk_3 (dk_at dksX1_cutCoal_3 4 rfl rfl)
theorem dX1_cutCoal_75 : decode cX1_cutCoal 75 = .ok (.istore_n 3, 1) := dk_62 (dk_at dksX1_cutCoal_3 5 rfl rfl)
theorem dX1_cutCoal_76 : decode cX1_cutCoal 76 = .ok (.aload_n 0, 1) := dk_42 (dk_at dksX1_cutCoal_3 6 rfl rfl)
theorem dX1_cutCoal_77 : decode cX1_cutCoal 77 = .ok (.getfield 18, 3) := dk_180 0 18 (dk_at dksX1_cutCoal_3 7 rfl rfl)
theorem dX1_cutCoal_80 : decode cX1_cutCoal 80 = .ok (.aload_n 0, 1) := dk_42 (dk_at dksX1_cutCoal_3 10 rfl rfl)
theorem dX1_cutCoal_81 : decode cX1_cutCoal 81 = .ok (.getfield 33, 3) := dk_180 0 33 (dk_at dksX1_cutCoal_3 11 rfl rfl)
theorem dX1_cutCoal_84 : decode cX1_cutCoal 84 = .ok (.iload_n 1, 1) := dk_27 (dk_at dksX1_cutCoal_3 14 rfl rfl)
theorem dX1_cutCoal_85 : decode cX1_cutCoal 85 = .ok (.iaload, 1) := dk_46 (dk_at dksX1_cutCoal_3 15 rfl rfl)
theorem dX1_cutCoal_86 : decode cX1_cutCoal 86 = .ok (.dup2, 1) := dk_92 (dk_at dksX1_cutCoal_3 16 rfl rfl)
theorem dX1_cutCoal_87 : decode cX1_cutCoal 87 = .ok (.iaload, 1) := dk_46 (dk_at dksX1_cutCoal_3 17 rfl rfl)
theorem dX1_cutCoal_88 : decode cX1_cutCoal 88 = .ok (.iload_n 3, 1) := dk_29 (dk_at dksX1_cutCoal_3 18 rfl rfl)
theorem dX1_cutCoal_89 : decode cX1_cutCoal 89 = .ok (.ifCond .ne 7, 3) := dk_154 0 7 (dk_at dksX1_cutCoal_3 19 rfl rfl)
theorem dX1_cutCoal_92 : decode cX1_cutCoal 92 = .ok (.iconst 0, 1) := dk_3 (dk_at dksX1_cutCoal_3 22 rfl rfl)
theorem dX1_cutCoal_93 : decode cX1_cutCoal 93 = .ok (.goto 14, 3) := dk_167 0 14 (dk_at dksX1_cutCoal_4 0 rfl rfl)
theorem dX1_cutCoal_96 : decode cX1_cutCoal 96 = .ok (.iload_n 3, 1) := dk_29 (dk_at dksX1_cutCoal_4 3 rfl rfl)
theorem dX1_cutCoal_97 : decode cX1_cutCoal 97 = .ok (.bipush 8, 2) := dk_16 8 (dk_at dksX1_cutCoal_4 4 rfl rfl)
theorem dX1_cutCoal_99 : decode cX1_cutCoal 99 = .ok (.if_icmp .le 7, 3) := dk_164 0 7 (dk_at dksX1_cutCoal_4 6 rfl rfl)
theorem dX1_cutCoal_102 : decode cX1_cutCoal 102 = .ok (.iconst 2, 1) := dk_5 (dk_at dksX1_cutCoal_4 9 rfl rfl)
theorem dX1_cutCoal_103 : decode cX1_cutCoal 103 = .ok (.goto 4, 3) := dk_167 0 4 (dk_at dksX1_cutCoal_4 10 rfl rfl)
theorem dX1_cutCoal_106 : decode cX1_cutCoal 106 = .ok (.iconst 1, 1) := dk_4 (dk_at dksX1_cutCoal_4 13 rfl rfl)
theorem dX1_cutCoal_107 : decode cX1_cutCoal 107 = .ok (.iadd, 1) := dk_96 (dk_at dksX1_cutCoal_4 14 rfl rfl)
theorem dX1_cutCoal_108 : decode cX1_cutCoal 108 = .ok (.iastore, 1) := dk_79 (dk_at dksX1_cutCoal_4 15 rfl rfl)
theorem dX1_cutCoal_109 : decode cX1_cutCoal 109 = .ok (.iinc 1 1, 3) := dk_132 1 1 (dk_at dksX1_cutCoal_4 16 rfl rfl)
theorem dX1_cutCoal_112 : decode cX1_cutCoal 112 = .ok (.goto (-85), 3) := dk_167 255 171 (dk_at dksX1_cutCoal_4 19 rfl rfl)
theorem dX1_cutCoal_115 : decode cX1_cutCoal 115 = .ok (.return_, 1) := dk_177 (dk_at dksX1_cutCoal_4 22 rfl rfl)
abbrev cX1_breathe : ByteArray := prog_2_method_13_code
def yX1_breathe : MethodName := ⟨RX1, "breathe", "(I)V"⟩
def dkwX1_breathe_2 : List UInt8 := [42, 180, 0, 30, 27, 46, 154, 0, 8, 16, 250, 167, 0, 9, 42, 180, 0, 36, 27, 46, 79, 177]
abbrev dktX1_breathe_2 : List UInt8 := dkwX1_breathe_2 ++ []
def dkwX1_breathe_1 : List UInt8 := [27, 46, 4, 96, 184, 0, 112, 79, 177, 42, 180, 0, 30, 27, 92, 46, 4, 100, 79, 42, 180, 0, 36, 27]
abbrev dktX1_breathe_1 : List UInt8 := dkwX1_breathe_1 ++ dktX1_breathe_2
def dkwX1_breathe_0 : List UInt8 := [42, 180, 0, 36, 27, 46, 156, 0, 27, 42, 180, 0, 30, 27, 42, 180, 0, 27, 27, 46, 42, 180, 0, 30]
abbrev dktX1_breathe_0 : List UInt8 := dkwX1_breathe_0 ++ dktX1_breathe_1
theorem dksX1_breathe_0 : cX1_breathe.data.toList.drop 0 = dktX1_breathe_0 := by decide +kernel
theorem dksX1_breathe_1 : cX1_breathe.data.toList.drop 24 = dktX1_breathe_1 := dk_seg dksX1_breathe_0 24 rfl rfl
theorem dksX1_breathe_2 : cX1_breathe.data.toList.drop 48 = dktX1_breathe_2 := dk_seg dksX1_breathe_1 24 rfl rfl
theorem dX1_breathe_0 : decode cX1_breathe 0 = .ok (.aload_n 0, 1) := dk_42 (dk_at dksX1_breathe_0 0 rfl rfl)
theorem dX1_breathe_1 : decode cX1_breathe 1 = .ok (.getfield 36, 3) := dk_180 0 36 (dk_at dksX1_breathe_0 1 rfl rfl)
theorem dX1_breathe_4 : decode cX1_breathe 4 = .ok (.iload_n 1, 1) := dk_27 (dk_at dksX1_breathe_0 4 rfl rfl)
theorem dX1_breathe_5 : decode cX1_breathe 5 = .ok (.iaload, 1) := dk_46 (dk_at dksX1_breathe_0 5 rfl rfl)
theorem dX1_breathe_6 : decode cX1_breathe 6 = .ok (.ifCond .ge 27, 3) := dk_156 0 27 (dk_at dksX1_breathe_0 6 rfl rfl)
theorem dX1_breathe_9 : decode cX1_breathe 9 = .ok (.aload_n 0, 1) := dk_42 (dk_at dksX1_breathe_0 9 rfl rfl)
theorem dX1_breathe_10 : decode cX1_breathe 10 = .ok (.getfield 30, 3) := dk_180 0 30 (dk_at dksX1_breathe_0 10 rfl rfl)
theorem dX1_breathe_13 : decode cX1_breathe 13 = .ok (.iload_n 1, 1) := dk_27 (dk_at dksX1_breathe_0 13 rfl rfl)
theorem dX1_breathe_14 : decode cX1_breathe 14 = .ok (.aload_n 0, 1) := dk_42 (dk_at dksX1_breathe_0 14 rfl rfl)
theorem dX1_breathe_15 : decode cX1_breathe 15 = .ok (.getfield 27, 3) := dk_180 0 27 (dk_at dksX1_breathe_0 15 rfl rfl)
theorem dX1_breathe_18 : decode cX1_breathe 18 = .ok (.iload_n 1, 1) := dk_27 (dk_at dksX1_breathe_0 18 rfl rfl)
theorem dX1_breathe_19 : decode cX1_breathe 19 = .ok (.iaload, 1) := dk_46 (dk_at dksX1_breathe_0 19 rfl rfl)
theorem dX1_breathe_20 : decode cX1_breathe 20 = .ok (.aload_n 0, 1) := dk_42 (dk_at dksX1_breathe_0 20 rfl rfl)
theorem dX1_breathe_21 : decode cX1_breathe 21 = .ok (.getfield 30, 3) := dk_180 0 30 (dk_at dksX1_breathe_0 21 rfl rfl)
theorem dX1_breathe_24 : decode cX1_breathe 24 = .ok (.iload_n 1, 1) := dk_27 (dk_at dksX1_breathe_1 0 rfl rfl)
theorem dX1_breathe_25 : decode cX1_breathe 25 = .ok (.iaload, 1) := dk_46 (dk_at dksX1_breathe_1 1 rfl rfl)
theorem dX1_breathe_26 : decode cX1_breathe 26 = .ok (.iconst 1, 1) := dk_4 (dk_at dksX1_breathe_1 2 rfl rfl)
theorem dX1_breathe_27 : decode cX1_breathe 27 = .ok (.iadd, 1) := dk_96 (dk_at dksX1_breathe_1 3 rfl rfl)
theorem dX1_breathe_28 : decode cX1_breathe 28 = .ok (.invokestatic 112, 3) := dk_184 0 112 (dk_at dksX1_breathe_1 4 rfl rfl)
theorem dX1_breathe_31 : decode cX1_breathe 31 = .ok (.iastore, 1) := dk_79 (dk_at dksX1_breathe_1 7 rfl rfl)
theorem dX1_breathe_32 : decode cX1_breathe 32 = .ok (.return_, 1) := dk_177 (dk_at dksX1_breathe_1 8 rfl rfl)
theorem dX1_breathe_33 : decode cX1_breathe 33 = .ok (.aload_n 0, 1) := dk_42 (dk_at dksX1_breathe_1 9 rfl rfl)
theorem dX1_breathe_34 : decode cX1_breathe 34 = .ok (.getfield 30, 3) := dk_180 0 30 (dk_at dksX1_breathe_1 10 rfl rfl)
theorem dX1_breathe_37 : decode cX1_breathe 37 = .ok (.iload_n 1, 1) := dk_27 (dk_at dksX1_breathe_1 13 rfl rfl)
theorem dX1_breathe_38 : decode cX1_breathe 38 = .ok (.dup2, 1) := dk_92 (dk_at dksX1_breathe_1 14 rfl rfl)
theorem dX1_breathe_39 : decode cX1_breathe 39 = .ok (.iaload, 1) := dk_46 (dk_at dksX1_breathe_1 15 rfl rfl)
theorem dX1_breathe_40 : decode cX1_breathe 40 = .ok (.iconst 1, 1) := dk_4 (dk_at dksX1_breathe_1 16 rfl rfl)
theorem dX1_breathe_41 : decode cX1_breathe 41 = .ok (.isub, 1) := dk_100 (dk_at dksX1_breathe_1 17 rfl rfl)
theorem dX1_breathe_42 : decode cX1_breathe 42 = .ok (.iastore, 1) := dk_79 (dk_at dksX1_breathe_1 18 rfl rfl)
theorem dX1_breathe_43 : decode cX1_breathe 43 = .ok (.aload_n 0, 1) := dk_42 (dk_at dksX1_breathe_1 19 rfl rfl)
theorem dX1_breathe_44 : decode cX1_breathe 44 = .ok (.getfield 36, 3) := dk_180 0 36 (dk_at dksX1_breathe_1 20 rfl rfl)
theorem dX1_breathe_47 : decode cX1_breathe 47 = .ok (.iload_n 1, 1) := dk_27 (dk_at dksX1_breathe_1 23 rfl rfl)
theorem dX1_breathe_48 : decode cX1_breathe 48 = .ok (.aload_n 0, 1) := dk_42 (dk_at dksX1_breathe_2 0 rfl rfl)
theorem dX1_breathe_49 : decode cX1_breathe 49 = .ok (.getfield 30, 3) := dk_180 0 30 (dk_at dksX1_breathe_2 1 rfl rfl)
theorem dX1_breathe_52 : decode cX1_breathe 52 = .ok (.iload_n 1, 1) := dk_27 (dk_at dksX1_breathe_2 4 rfl rfl)
theorem dX1_breathe_53 : decode cX1_breathe 53 = .ok (.iaload, 1) := dk_46 (dk_at dksX1_breathe_2 5 rfl rfl)
theorem dX1_breathe_54 : decode cX1_breathe 54 = .ok (.ifCond .ne 8, 3) := dk_154 0 8 (dk_at dksX1_breathe_2 6 rfl rfl)
theorem dX1_breathe_57 : decode cX1_breathe 57 = .ok (.bipush (-6), 2) := dk_16 250 (dk_at dksX1_breathe_2 9 rfl rfl)
theorem dX1_breathe_59 : decode cX1_breathe 59 = .ok (.goto 9, 3) := dk_167 0 9 (dk_at dksX1_breathe_2 11 rfl rfl)
theorem dX1_breathe_62 : decode cX1_breathe 62 = .ok (.aload_n 0, 1) := dk_42 (dk_at dksX1_breathe_2 14 rfl rfl)
theorem dX1_breathe_63 : decode cX1_breathe 63 = .ok (.getfield 36, 3) := dk_180 0 36 (dk_at dksX1_breathe_2 15 rfl rfl)
theorem dX1_breathe_66 : decode cX1_breathe 66 = .ok (.iload_n 1, 1) := dk_27 (dk_at dksX1_breathe_2 18 rfl rfl)
theorem dX1_breathe_67 : decode cX1_breathe 67 = .ok (.iaload, 1) := dk_46 (dk_at dksX1_breathe_2 19 rfl rfl)
theorem dX1_breathe_68 : decode cX1_breathe 68 = .ok (.iastore, 1) := dk_79 (dk_at dksX1_breathe_2 20 rfl rfl)
theorem dX1_breathe_69 : decode cX1_breathe 69 = .ok (.return_, 1) := dk_177 (dk_at dksX1_breathe_2 21 rfl rfl)
abbrev cX1_coalInAll : ByteArray := prog_2_method_16_code
def yX1_coalInAll : MethodName := ⟨RX1, "coalInAll", "()I"⟩
def dkwX1_coalInAll_1 : List UInt8 := [167, 255, 238, 27, 172]
abbrev dktX1_coalInAll_1 : List UInt8 := dkwX1_coalInAll_1 ++ []
def dkwX1_coalInAll_0 : List UInt8 := [3, 60, 3, 61, 28, 16, 10, 162, 0, 18, 27, 42, 180, 0, 18, 28, 46, 96, 60, 132, 2, 1]
abbrev dktX1_coalInAll_0 : List UInt8 := dkwX1_coalInAll_0 ++ dktX1_coalInAll_1
theorem dksX1_coalInAll_0 : cX1_coalInAll.data.toList.drop 0 = dktX1_coalInAll_0 := by decide +kernel
theorem dksX1_coalInAll_1 : cX1_coalInAll.data.toList.drop 22 = dktX1_coalInAll_1 := dk_seg dksX1_coalInAll_0 22 rfl rfl
theorem dX1_coalInAll_0 : decode cX1_coalInAll 0 = .ok (.iconst 0, 1) := dk_3 (dk_at dksX1_coalInAll_0 0 rfl rfl)
theorem dX1_coalInAll_1 : decode cX1_coalInAll 1 = .ok (.istore_n 1, 1) := dk_60 (dk_at dksX1_coalInAll_0 1 rfl rfl)
theorem dX1_coalInAll_2 : decode cX1_coalInAll 2 = .ok (.iconst 0, 1) := dk_3 (dk_at dksX1_coalInAll_0 2 rfl rfl)
theorem dX1_coalInAll_3 : decode cX1_coalInAll 3 = .ok (.istore_n 2, 1) := dk_61 (dk_at dksX1_coalInAll_0 3 rfl rfl)
theorem dX1_coalInAll_4 : decode cX1_coalInAll 4 = .ok (.iload_n 2, 1) := dk_28 (dk_at dksX1_coalInAll_0 4 rfl rfl)
theorem dX1_coalInAll_5 : decode cX1_coalInAll 5 = .ok (.bipush 10, 2) := dk_16 10 (dk_at dksX1_coalInAll_0 5 rfl rfl)
theorem dX1_coalInAll_7 : decode cX1_coalInAll 7 = .ok (.if_icmp .ge 18, 3) := dk_162 0 18 (dk_at dksX1_coalInAll_0 7 rfl rfl)
theorem dX1_coalInAll_10 : decode cX1_coalInAll 10 = .ok (.iload_n 1, 1) := dk_27 (dk_at dksX1_coalInAll_0 10 rfl rfl)
theorem dX1_coalInAll_11 : decode cX1_coalInAll 11 = .ok (.aload_n 0, 1) := dk_42 (dk_at dksX1_coalInAll_0 11 rfl rfl)
theorem dX1_coalInAll_12 : decode cX1_coalInAll 12 = .ok (.getfield 18, 3) := dk_180 0 18 (dk_at dksX1_coalInAll_0 12 rfl rfl)
theorem dX1_coalInAll_15 : decode cX1_coalInAll 15 = .ok (.iload_n 2, 1) := dk_28 (dk_at dksX1_coalInAll_0 15 rfl rfl)
theorem dX1_coalInAll_16 : decode cX1_coalInAll 16 = .ok (.iaload, 1) := dk_46 (dk_at dksX1_coalInAll_0 16 rfl rfl)
theorem dX1_coalInAll_17 : decode cX1_coalInAll 17 = .ok (.iadd, 1) := dk_96 (dk_at dksX1_coalInAll_0 17 rfl rfl)
theorem dX1_coalInAll_18 : decode cX1_coalInAll 18 = .ok (.istore_n 1, 1) := dk_60 (dk_at dksX1_coalInAll_0 18 rfl rfl)
theorem dX1_coalInAll_19 : decode cX1_coalInAll 19 = .ok (.iinc 2 1, 3) := dk_132 2 1 (dk_at dksX1_coalInAll_0 19 rfl rfl)
theorem dX1_coalInAll_22 : decode cX1_coalInAll 22 = .ok (.goto (-18), 3) := dk_167 255 238 (dk_at dksX1_coalInAll_1 0 rfl rfl)
theorem dX1_coalInAll_25 : decode cX1_coalInAll 25 = .ok (.iload_n 1, 1) := dk_27 (dk_at dksX1_coalInAll_1 3 rfl rfl)
theorem dX1_coalInAll_26 : decode cX1_coalInAll 26 = .ok (.ireturn, 1) := dk_172 (dk_at dksX1_coalInAll_1 4 rfl rfl)
abbrev cX1_singing : ByteArray := prog_2_method_17_code
def yX1_singing : MethodName := ⟨RX1, "singing", "()I"⟩
def dkwX1_singing_1 : List UInt8 := [167, 0, 4, 3, 128, 60, 132, 2, 1, 167, 255, 229, 27, 172]
abbrev dktX1_singing_1 : List UInt8 := dkwX1_singing_1 ++ []
def dkwX1_singing_0 : List UInt8 := [3, 60, 3, 61, 28, 16, 8, 162, 0, 27, 27, 42, 28, 182, 0, 80, 153, 0, 9, 4, 28, 120]
abbrev dktX1_singing_0 : List UInt8 := dkwX1_singing_0 ++ dktX1_singing_1
theorem dksX1_singing_0 : cX1_singing.data.toList.drop 0 = dktX1_singing_0 := by decide +kernel
theorem dksX1_singing_1 : cX1_singing.data.toList.drop 22 = dktX1_singing_1 := dk_seg dksX1_singing_0 22 rfl rfl
theorem dX1_singing_0 : decode cX1_singing 0 = .ok (.iconst 0, 1) := dk_3 (dk_at dksX1_singing_0 0 rfl rfl)
theorem dX1_singing_1 : decode cX1_singing 1 = .ok (.istore_n 1, 1) := dk_60 (dk_at dksX1_singing_0 1 rfl rfl)
theorem dX1_singing_2 : decode cX1_singing 2 = .ok (.iconst 0, 1) := dk_3 (dk_at dksX1_singing_0 2 rfl rfl)
theorem dX1_singing_3 : decode cX1_singing 3 = .ok (.istore_n 2, 1) := dk_61 (dk_at dksX1_singing_0 3 rfl rfl)
theorem dX1_singing_4 : decode cX1_singing 4 = .ok (.iload_n 2, 1) := dk_28 (dk_at dksX1_singing_0 4 rfl rfl)
theorem dX1_singing_5 : decode cX1_singing 5 = .ok (.bipush 8, 2) := dk_16 8 (dk_at dksX1_singing_0 5 rfl rfl)
theorem dX1_singing_7 : decode cX1_singing 7 = .ok (.if_icmp .ge 27, 3) := dk_162 0 27 (dk_at dksX1_singing_0 7 rfl rfl)
theorem dX1_singing_10 : decode cX1_singing 10 = .ok (.iload_n 1, 1) := dk_27 (dk_at dksX1_singing_0 10 rfl rfl)
theorem dX1_singing_11 : decode cX1_singing 11 = .ok (.aload_n 0, 1) := dk_42 (dk_at dksX1_singing_0 11 rfl rfl)
theorem dX1_singing_12 : decode cX1_singing 12 = .ok (.iload_n 2, 1) := dk_28 (dk_at dksX1_singing_0 12 rfl rfl)
theorem dX1_singing_13 : decode cX1_singing 13 = .ok (.invokevirtual 80, 3) := dk_182 0 80 (dk_at dksX1_singing_0 13 rfl rfl)
theorem dX1_singing_16 : decode cX1_singing 16 = .ok (.ifCond .eq 9, 3) := dk_153 0 9 (dk_at dksX1_singing_0 16 rfl rfl)
theorem dX1_singing_19 : decode cX1_singing 19 = .ok (.iconst 1, 1) := dk_4 (dk_at dksX1_singing_0 19 rfl rfl)
theorem dX1_singing_20 : decode cX1_singing 20 = .ok (.iload_n 2, 1) := dk_28 (dk_at dksX1_singing_0 20 rfl rfl)
theorem dX1_singing_21 : decode cX1_singing 21 = .ok (.ishl, 1) := dk_120 (dk_at dksX1_singing_0 21 rfl rfl)
theorem dX1_singing_22 : decode cX1_singing 22 = .ok (.goto 4, 3) := dk_167 0 4 (dk_at dksX1_singing_1 0 rfl rfl)
theorem dX1_singing_25 : decode cX1_singing 25 = .ok (.iconst 0, 1) := dk_3 (dk_at dksX1_singing_1 3 rfl rfl)
theorem dX1_singing_26 : decode cX1_singing 26 = .ok (.ior, 1) := dk_128 (dk_at dksX1_singing_1 4 rfl rfl)
theorem dX1_singing_27 : decode cX1_singing 27 = .ok (.istore_n 1, 1) := dk_60 (dk_at dksX1_singing_1 5 rfl rfl)
theorem dX1_singing_28 : decode cX1_singing 28 = .ok (.iinc 2 1, 3) := dk_132 2 1 (dk_at dksX1_singing_1 6 rfl rfl)
theorem dX1_singing_31 : decode cX1_singing 31 = .ok (.goto (-27), 3) := dk_167 255 229 (dk_at dksX1_singing_1 9 rfl rfl)
theorem dX1_singing_34 : decode cX1_singing 34 = .ok (.iload_n 1, 1) := dk_27 (dk_at dksX1_singing_1 12 rfl rfl)
theorem dX1_singing_35 : decode cX1_singing 35 = .ok (.ireturn, 1) := dk_172 (dk_at dksX1_singing_1 13 rfl rfl)
theorem q52 : (Jvm.Cond.initialized "SongLamps$Mine") ∈ lw_all := lw_g (lw_at lw_m1 2 rfl) rfl
theorem q66 : (Jvm.Cond.instantiable "SongLamps$Mine" (17 : Nat)) ∈ lw_all := lw_g (lw_at lw_m1 16 rfl) rfl
theorem q68 : (Jvm.Cond.instanceMethod ({ cls := "SongLamps$Mine", name := "<init>", desc := "()V" } : Jvm.MethodName)) ∈ lw_all := lw_g (lw_at lw_m1 18 rfl) rfl
theorem q69 : (Jvm.Cond.code ({ cls := "SongLamps$Mine", name := "<init>", desc := "()V" } : Jvm.MethodName) prog_2_method_1_code (2 : Nat) (Option.none : Option Jvm.ClassFile.FieldType)) ∈ lw_all := lw_g (lw_at lw_m1 19 rfl) rfl
theorem q70 : (Jvm.Cond.methodLink "SongLamps$Mine" (3 : Nat) ({ cls := "java/lang/Object", name := "<init>", desc := "()V" } : Jvm.MethodName)) ∈ lw_all := lw_g (lw_at lw_m1 20 rfl) rfl
theorem q71 : (Jvm.Cond.methodLinkNest "SongLamps$Mine" (48 : Nat) ({ cls := "SongLamps", name := "fill", desc := "([II)V" } : Jvm.MethodName) "SongLamps") ∈ lw_tbl := lw_at lw_m1 21 rfl
theorem q74 : (Jvm.Cond.fieldLink "SongLamps$Mine" (9 : Nat) "SongLamps$Mine" "passages" "[I") ∈ lw_all := lw_g (lw_at lw_m1 24 rfl) rfl
theorem q76 : (Jvm.Cond.fieldLink "SongLamps$Mine" (15 : Nat) "SongLamps$Mine" "echo" "[I") ∈ lw_all := lw_g (lw_at lw_m1 26 rfl) rfl
theorem q78 : (Jvm.Cond.fieldLink "SongLamps$Mine" (18 : Nat) "SongLamps$Mine" "coal" "[I") ∈ lw_all := lw_g (lw_at lw_m1 28 rfl) rfl
theorem q80 : (Jvm.Cond.fieldLink "SongLamps$Mine" (56 : Nat) "SongLamps$Mine" "gas" "I") ∈ lw_all := lw_g (lw_at lw_m1 30 rfl) rfl
theorem q82 : (Jvm.Cond.fieldLink "SongLamps$Mine" (60 : Nat) "SongLamps$Mine" "closed" "I") ∈ lw_all := lw_g (lw_at lw_m1 32 rfl) rfl
theorem q84 : (Jvm.Cond.fieldLink "SongLamps$Mine" (63 : Nat) "SongLamps$Mine" "present" "I") ∈ lw_all := lw_g (lw_at lw_m1 34 rfl) rfl
theorem q86 : (Jvm.Cond.fieldLink "SongLamps$Mine" (21 : Nat) "SongLamps$Mine" "low" "[I") ∈ lw_all := lw_g (lw_at lw_m1 36 rfl) rfl
theorem q88 : (Jvm.Cond.fieldLink "SongLamps$Mine" (24 : Nat) "SongLamps$Mine" "high" "[I") ∈ lw_all := lw_g (lw_at lw_m1 38 rfl) rfl
theorem q90 : (Jvm.Cond.fieldLink "SongLamps$Mine" (27 : Nat) "SongLamps$Mine" "lungs" "[I") ∈ lw_all := lw_g (lw_at lw_m1 40 rfl) rfl
theorem q92 : (Jvm.Cond.fieldLink "SongLamps$Mine" (30 : Nat) "SongLamps$Mine" "breath" "[I") ∈ lw_all := lw_g (lw_at lw_m1 42 rfl) rfl
theorem q94 : (Jvm.Cond.fieldLink "SongLamps$Mine" (33 : Nat) "SongLamps$Mine" "place" "[I") ∈ lw_all := lw_g (lw_at lw_m1 44 rfl) rfl
theorem q96 : (Jvm.Cond.fieldLink "SongLamps$Mine" (36 : Nat) "SongLamps$Mine" "note" "[I") ∈ lw_all := lw_g (lw_at lw_m1 46 rfl) rfl
theorem q98 : (Jvm.Cond.fieldLink "SongLamps$Mine" (66 : Nat) "SongLamps$Mine" "beat" "I") ∈ lw_all := lw_g (lw_at lw_m1 48 rfl) rfl
theorem q100 : (Jvm.Cond.fieldLink "SongLamps$Mine" (39 : Nat) "SongLamps$Mine" "sightGallery" "[I") ∈ lw_all := lw_g (lw_at lw_m1 50 rfl) rfl
theorem q102 : (Jvm.Cond.fieldLink "SongLamps$Mine" (42 : Nat) "SongLamps$Mine" "sightNote" "[I") ∈ lw_all := lw_g (lw_at lw_m1 52 rfl) rfl
theorem q104 : (Jvm.Cond.fieldLink "SongLamps$Mine" (69 : Nat) "SongLamps$Mine" "sights" "I") ∈ lw_all := lw_g (lw_at lw_m1 54 rfl) rfl
theorem q106 : (Jvm.Cond.fieldLink "SongLamps$Mine" (45 : Nat) "SongLamps$Mine" "lights" "[I") ∈ lw_all := lw_g (lw_at lw_m1 56 rfl) rfl
theorem q107 : (Jvm.Cond.laysFinal "SongLamps$Mine" "SongLamps$Mine" "passages" "[I") ∈ lw_all := lw_g (lw_at lw_m1 57 rfl) rfl
theorem q108 : (Jvm.Cond.soleField "SongLamps$Mine" "passages") ∈ lw_all := lw_g (lw_at lw_m1 58 rfl) rfl
theorem q109 : (Jvm.Cond.laysFinal "SongLamps$Mine" "SongLamps$Mine" "echo" "[I") ∈ lw_all := lw_g (lw_at lw_m1 59 rfl) rfl
theorem q110 : (Jvm.Cond.soleField "SongLamps$Mine" "echo") ∈ lw_all := lw_g (lw_at lw_m1 60 rfl) rfl
theorem q111 : (Jvm.Cond.laysFinal "SongLamps$Mine" "SongLamps$Mine" "coal" "[I") ∈ lw_all := lw_g (lw_at lw_m1 61 rfl) rfl
theorem q112 : (Jvm.Cond.soleField "SongLamps$Mine" "coal") ∈ lw_all := lw_g (lw_at lw_m1 62 rfl) rfl
theorem q113 : (Jvm.Cond.lays "SongLamps$Mine" "SongLamps$Mine" "gas" "I") ∈ lw_all := lw_g (lw_at lw_m1 63 rfl) rfl
theorem q114 : (Jvm.Cond.soleField "SongLamps$Mine" "gas") ∈ lw_all := lw_g (lw_at lw_m1 64 rfl) rfl
theorem q115 : (Jvm.Cond.lays "SongLamps$Mine" "SongLamps$Mine" "closed" "I") ∈ lw_all := lw_g (lw_at lw_m1 65 rfl) rfl
theorem q116 : (Jvm.Cond.soleField "SongLamps$Mine" "closed") ∈ lw_all := lw_g (lw_at lw_m1 66 rfl) rfl
theorem q117 : (Jvm.Cond.lays "SongLamps$Mine" "SongLamps$Mine" "present" "I") ∈ lw_all := lw_g (lw_at lw_m1 67 rfl) rfl
theorem q118 : (Jvm.Cond.soleField "SongLamps$Mine" "present") ∈ lw_all := lw_g (lw_at lw_m1 68 rfl) rfl
theorem q119 : (Jvm.Cond.laysFinal "SongLamps$Mine" "SongLamps$Mine" "low" "[I") ∈ lw_all := lw_g (lw_at lw_m1 69 rfl) rfl
theorem q120 : (Jvm.Cond.soleField "SongLamps$Mine" "low") ∈ lw_all := lw_g (lw_at lw_m1 70 rfl) rfl
theorem q121 : (Jvm.Cond.laysFinal "SongLamps$Mine" "SongLamps$Mine" "high" "[I") ∈ lw_all := lw_g (lw_at lw_m1 71 rfl) rfl
theorem q122 : (Jvm.Cond.soleField "SongLamps$Mine" "high") ∈ lw_all := lw_g (lw_at lw_m1 72 rfl) rfl
theorem q123 : (Jvm.Cond.laysFinal "SongLamps$Mine" "SongLamps$Mine" "lungs" "[I") ∈ lw_all := lw_g (lw_at lw_m1 73 rfl) rfl
theorem q124 : (Jvm.Cond.soleField "SongLamps$Mine" "lungs") ∈ lw_all := lw_g (lw_at lw_m1 74 rfl) rfl
theorem q125 : (Jvm.Cond.laysFinal "SongLamps$Mine" "SongLamps$Mine" "breath" "[I") ∈ lw_all := lw_g (lw_at lw_m1 75 rfl) rfl
theorem q126 : (Jvm.Cond.soleField "SongLamps$Mine" "breath") ∈ lw_all := lw_g (lw_at lw_m1 76 rfl) rfl
theorem q127 : (Jvm.Cond.laysFinal "SongLamps$Mine" "SongLamps$Mine" "place" "[I") ∈ lw_all := lw_g (lw_at lw_m1 77 rfl) rfl
theorem q128 : (Jvm.Cond.soleField "SongLamps$Mine" "place") ∈ lw_all := lw_g (lw_at lw_m1 78 rfl) rfl
theorem q129 : (Jvm.Cond.laysFinal "SongLamps$Mine" "SongLamps$Mine" "note" "[I") ∈ lw_all := lw_g (lw_at lw_m1 79 rfl) rfl
theorem q130 : (Jvm.Cond.soleField "SongLamps$Mine" "note") ∈ lw_all := lw_g (lw_at lw_m1 80 rfl) rfl
theorem q131 : (Jvm.Cond.lays "SongLamps$Mine" "SongLamps$Mine" "beat" "I") ∈ lw_all := lw_g (lw_at lw_m1 81 rfl) rfl
theorem q132 : (Jvm.Cond.soleField "SongLamps$Mine" "beat") ∈ lw_all := lw_g (lw_at lw_m1 82 rfl) rfl
theorem q133 : (Jvm.Cond.laysFinal "SongLamps$Mine" "SongLamps$Mine" "sightGallery" "[I") ∈ lw_all := lw_g (lw_at lw_m1 83 rfl) rfl
theorem q134 : (Jvm.Cond.soleField "SongLamps$Mine" "sightGallery") ∈ lw_all := lw_g (lw_at lw_m1 84 rfl) rfl
theorem q135 : (Jvm.Cond.laysFinal "SongLamps$Mine" "SongLamps$Mine" "sightNote" "[I") ∈ lw_all := lw_g (lw_at lw_m1 85 rfl) rfl
theorem q136 : (Jvm.Cond.soleField "SongLamps$Mine" "sightNote") ∈ lw_all := lw_g (lw_at lw_m1 86 rfl) rfl
theorem q137 : (Jvm.Cond.lays "SongLamps$Mine" "SongLamps$Mine" "sights" "I") ∈ lw_all := lw_g (lw_at lw_m1 87 rfl) rfl
theorem q138 : (Jvm.Cond.soleField "SongLamps$Mine" "sights") ∈ lw_all := lw_g (lw_at lw_m1 88 rfl) rfl
theorem q139 : (Jvm.Cond.laysFinal "SongLamps$Mine" "SongLamps$Mine" "lights" "[I") ∈ lw_all := lw_g (lw_at lw_m1 89 rfl) rfl
theorem q140 : (Jvm.Cond.soleField "SongLamps$Mine" "lights") ∈ lw_all := lw_g (lw_at lw_m1 90 rfl) rfl
theorem q141 : (Jvm.Cond.superclass "SongLamps$Mine" "java/lang/Object") ∈ lw_all := lw_g (lw_at lw_m1 91 rfl) rfl
theorem q246 : (Jvm.Cond.instanceMethod ({ cls := "SongLamps$Mine", name := "isThere", desc := "(I)Z" } : Jvm.MethodName)) ∈ lw_all := lw_g (lw_at lw_m1 196 rfl) rfl
theorem q247 : (Jvm.Cond.selects "SongLamps$Mine" ({ cls := "SongLamps$Mine", name := "isThere", desc := "(I)Z" } : Jvm.MethodName) ({ cls := "SongLamps$Mine", name := "isThere", desc := "(I)Z" } : Jvm.MethodName)) ∈ lw_all := lw_g (lw_at lw_m1 197 rfl) rfl
theorem q248 : (Jvm.Cond.code ({ cls := "SongLamps$Mine", name := "isThere", desc := "(I)Z" } : Jvm.MethodName) prog_2_method_3_code (2 : Nat) (Option.some Jvm.ClassFile.FieldType.boolean)) ∈ lw_all := lw_g (lw_at lw_m1 198 rfl) rfl
theorem q249 : (Jvm.Cond.methodLinkNest "SongLamps$Mine" (72 : Nat) ({ cls := "SongLamps", name := "holds", desc := "(II)Z" } : Jvm.MethodName) "SongLamps") ∈ lw_tbl := lw_at lw_m1 199 rfl
theorem q299 : (Jvm.Cond.instanceMethod ({ cls := "SongLamps$Mine", name := "take", desc := "(LSongLamps$Mine;)V" } : Jvm.MethodName)) ∈ lw_all := lw_g (lw_at lw_m2 9 rfl) rfl
theorem q300 : (Jvm.Cond.selects "SongLamps$Mine" ({ cls := "SongLamps$Mine", name := "take", desc := "(LSongLamps$Mine;)V" } : Jvm.MethodName) ({ cls := "SongLamps$Mine", name := "take", desc := "(LSongLamps$Mine;)V" } : Jvm.MethodName)) ∈ lw_all := lw_g (lw_at lw_m2 10 rfl) rfl
theorem q301 : (Jvm.Cond.code ({ cls := "SongLamps$Mine", name := "take", desc := "(LSongLamps$Mine;)V" } : Jvm.MethodName) prog_2_method_2_code (2 : Nat) (Option.none : Option Jvm.ClassFile.FieldType)) ∈ lw_all := lw_g (lw_at lw_m2 11 rfl) rfl
theorem q302 : (Jvm.Cond.methodLinkNest "SongLamps$Mine" (52 : Nat) ({ cls := "SongLamps", name := "layOver", desc := "([I[I)V" } : Jvm.MethodName) "SongLamps") ∈ lw_tbl := lw_at lw_m2 12 rfl
theorem q309 : (Jvm.Cond.instanceMethod ({ cls := "SongLamps$Mine", name := "whyNot", desc := "(III)I" } : Jvm.MethodName)) ∈ lw_all := lw_g (lw_at lw_m2 19 rfl) rfl
theorem q310 : (Jvm.Cond.selects "SongLamps$Mine" ({ cls := "SongLamps$Mine", name := "whyNot", desc := "(III)I" } : Jvm.MethodName) ({ cls := "SongLamps$Mine", name := "whyNot", desc := "(III)I" } : Jvm.MethodName)) ∈ lw_all := lw_g (lw_at lw_m2 20 rfl) rfl
theorem q311 : (Jvm.Cond.code ({ cls := "SongLamps$Mine", name := "whyNot", desc := "(III)I" } : Jvm.MethodName) prog_2_method_11_code (4 : Nat) (Option.some Jvm.ClassFile.FieldType.int)) ∈ lw_all := lw_g (lw_at lw_m2 21 rfl) rfl
theorem q312 : (Jvm.Cond.methodLink "SongLamps$Mine" (76 : Nat) ({ cls := "SongLamps$Mine", name := "isThere", desc := "(I)Z" } : Jvm.MethodName)) ∈ lw_all := lw_g (lw_at lw_m2 22 rfl) rfl
theorem q313 : (Jvm.Cond.methodLink "SongLamps$Mine" (106 : Nat) ({ cls := "SongLamps$Mine", name := "whyNotSing", desc := "(II)I" } : Jvm.MethodName)) ∈ lw_all := lw_g (lw_at lw_m2 23 rfl) rfl
theorem q314 : (Jvm.Cond.privateMethod ({ cls := "SongLamps$Mine", name := "whyNotSing", desc := "(II)I" } : Jvm.MethodName)) ∈ lw_tbl := lw_at lw_m2 24 rfl
theorem q315 : (Jvm.Cond.instanceMethod ({ cls := "SongLamps$Mine", name := "whyNotSing", desc := "(II)I" } : Jvm.MethodName)) ∈ lw_all := lw_g (lw_at lw_m2 25 rfl) rfl
theorem q316 : (Jvm.Cond.code ({ cls := "SongLamps$Mine", name := "whyNotSing", desc := "(II)I" } : Jvm.MethodName) prog_2_method_9_code (3 : Nat) (Option.some Jvm.ClassFile.FieldType.int)) ∈ lw_all := lw_g (lw_at lw_m2 26 rfl) rfl
theorem q317 : (Jvm.Cond.methodLinkNest "SongLamps$Mine" (102 : Nat) ({ cls := "SongLamps", name := "isIn", desc := "(JJJ)Z" } : Jvm.MethodName) "SongLamps") ∈ lw_tbl := lw_at lw_m2 27 rfl
theorem q318 : (Jvm.Cond.methodLink "SongLamps$Mine" (109 : Nat) ({ cls := "SongLamps$Mine", name := "whyNotGo", desc := "(II)I" } : Jvm.MethodName)) ∈ lw_all := lw_g (lw_at lw_m2 28 rfl) rfl
theorem q319 : (Jvm.Cond.privateMethod ({ cls := "SongLamps$Mine", name := "whyNotGo", desc := "(II)I" } : Jvm.MethodName)) ∈ lw_tbl := lw_at lw_m2 29 rfl
theorem q320 : (Jvm.Cond.instanceMethod ({ cls := "SongLamps$Mine", name := "whyNotGo", desc := "(II)I" } : Jvm.MethodName)) ∈ lw_all := lw_g (lw_at lw_m2 30 rfl) rfl
theorem q321 : (Jvm.Cond.code ({ cls := "SongLamps$Mine", name := "whyNotGo", desc := "(II)I" } : Jvm.MethodName) prog_2_method_10_code (3 : Nat) (Option.some Jvm.ClassFile.FieldType.int)) ∈ lw_all := lw_g (lw_at lw_m2 31 rfl) rfl
theorem q323 : (Jvm.Cond.instanceMethod ({ cls := "SongLamps$Mine", name := "lamps", desc := "()I" } : Jvm.MethodName)) ∈ lw_all := lw_g (lw_at lw_m2 33 rfl) rfl
theorem q324 : (Jvm.Cond.selects "SongLamps$Mine" ({ cls := "SongLamps$Mine", name := "lamps", desc := "()I" } : Jvm.MethodName) ({ cls := "SongLamps$Mine", name := "lamps", desc := "()I" } : Jvm.MethodName)) ∈ lw_all := lw_g (lw_at lw_m2 34 rfl) rfl
theorem q325 : (Jvm.Cond.code ({ cls := "SongLamps$Mine", name := "lamps", desc := "()I" } : Jvm.MethodName) prog_2_method_8_code (3 : Nat) (Option.some Jvm.ClassFile.FieldType.int)) ∈ lw_all := lw_g (lw_at lw_m2 35 rfl) rfl
theorem q326 : (Jvm.Cond.methodLink "SongLamps$Mine" (99 : Nat) ({ cls := "SongLamps$Mine", name := "light", desc := "(I)I" } : Jvm.MethodName)) ∈ lw_all := lw_g (lw_at lw_m2 36 rfl) rfl
theorem q327 : (Jvm.Cond.instanceMethod ({ cls := "SongLamps$Mine", name := "light", desc := "(I)I" } : Jvm.MethodName)) ∈ lw_all := lw_g (lw_at lw_m2 37 rfl) rfl
theorem q328 : (Jvm.Cond.selects "SongLamps$Mine" ({ cls := "SongLamps$Mine", name := "light", desc := "(I)I" } : Jvm.MethodName) ({ cls := "SongLamps$Mine", name := "light", desc := "(I)I" } : Jvm.MethodName)) ∈ lw_all := lw_g (lw_at lw_m2 38 rfl) rfl
theorem q329 : (Jvm.Cond.code ({ cls := "SongLamps$Mine", name := "light", desc := "(I)I" } : Jvm.MethodName) prog_2_method_7_code (4 : Nat) (Option.some Jvm.ClassFile.FieldType.int)) ∈ lw_all := lw_g (lw_at lw_m2 39 rfl) rfl
theorem q330 : (Jvm.Cond.methodLink "SongLamps$Mine" (95 : Nat) ({ cls := "SongLamps$Mine", name := "sungIn", desc := "(I)I" } : Jvm.MethodName)) ∈ lw_all := lw_g (lw_at lw_m2 40 rfl) rfl
theorem q331 : (Jvm.Cond.privateMethod ({ cls := "SongLamps$Mine", name := "sungIn", desc := "(I)I" } : Jvm.MethodName)) ∈ lw_tbl := lw_at lw_m2 41 rfl
theorem q332 : (Jvm.Cond.instanceMethod ({ cls := "SongLamps$Mine", name := "sungIn", desc := "(I)I" } : Jvm.MethodName)) ∈ lw_all := lw_g (lw_at lw_m2 42 rfl) rfl
theorem q333 : (Jvm.Cond.code ({ cls := "SongLamps$Mine", name := "sungIn", desc := "(I)I" } : Jvm.MethodName) prog_2_method_6_code (5 : Nat) (Option.some Jvm.ClassFile.FieldType.int)) ∈ lw_all := lw_g (lw_at lw_m2 43 rfl) rfl
theorem q334 : (Jvm.Cond.methodLink "SongLamps$Mine" (80 : Nat) ({ cls := "SongLamps$Mine", name := "sings", desc := "(I)Z" } : Jvm.MethodName)) ∈ lw_all := lw_g (lw_at lw_m2 44 rfl) rfl
theorem q335 : (Jvm.Cond.instanceMethod ({ cls := "SongLamps$Mine", name := "sings", desc := "(I)Z" } : Jvm.MethodName)) ∈ lw_all := lw_g (lw_at lw_m2 45 rfl) rfl
theorem q336 : (Jvm.Cond.selects "SongLamps$Mine" ({ cls := "SongLamps$Mine", name := "sings", desc := "(I)Z" } : Jvm.MethodName) ({ cls := "SongLamps$Mine", name := "sings", desc := "(I)Z" } : Jvm.MethodName)) ∈ lw_all := lw_g (lw_at lw_m2 46 rfl) rfl
theorem q337 : (Jvm.Cond.code ({ cls := "SongLamps$Mine", name := "sings", desc := "(I)Z" } : Jvm.MethodName) prog_2_method_4_code (2 : Nat) (Option.some Jvm.ClassFile.FieldType.boolean)) ∈ lw_all := lw_g (lw_at lw_m2 47 rfl) rfl
theorem q338 : (Jvm.Cond.methodLink "SongLamps$Mine" (86 : Nat) ({ cls := "SongLamps$Mine", name := "isTaken", desc := "(I)Z" } : Jvm.MethodName)) ∈ lw_all := lw_g (lw_at lw_m2 48 rfl) rfl
theorem q339 : (Jvm.Cond.privateMethod ({ cls := "SongLamps$Mine", name := "isTaken", desc := "(I)Z" } : Jvm.MethodName)) ∈ lw_tbl := lw_at lw_m2 49 rfl
theorem q340 : (Jvm.Cond.instanceMethod ({ cls := "SongLamps$Mine", name := "isTaken", desc := "(I)Z" } : Jvm.MethodName)) ∈ lw_all := lw_g (lw_at lw_m2 50 rfl) rfl
theorem q341 : (Jvm.Cond.code ({ cls := "SongLamps$Mine", name := "isTaken", desc := "(I)Z" } : Jvm.MethodName) prog_2_method_5_code (3 : Nat) (Option.some Jvm.ClassFile.FieldType.boolean)) ∈ lw_all := lw_g (lw_at lw_m2 51 rfl) rfl
theorem q342 : (Jvm.Cond.methodLinkNest "SongLamps$Mine" (83 : Nat) ({ cls := "SongLamps", name := "isThird", desc := "(II)Z" } : Jvm.MethodName) "SongLamps") ∈ lw_tbl := lw_at lw_m2 52 rfl
theorem q350 : (Jvm.Cond.methodLink "SongLamps$Mine" (89 : Nat) ({ cls := "java/lang/Math", name := "max", desc := "(II)I" } : Jvm.MethodName)) ∈ lw_all := lw_g (lw_at lw_m2 60 rfl) rfl
theorem q354 : (Jvm.Cond.instanceMethod ({ cls := "SongLamps$Mine", name := "happen", desc := "(III)V" } : Jvm.MethodName)) ∈ lw_all := lw_g (lw_at lw_m2 64 rfl) rfl
theorem q355 : (Jvm.Cond.selects "SongLamps$Mine" ({ cls := "SongLamps$Mine", name := "happen", desc := "(III)V" } : Jvm.MethodName) ({ cls := "SongLamps$Mine", name := "happen", desc := "(III)V" } : Jvm.MethodName)) ∈ lw_all := lw_g (lw_at lw_m2 65 rfl) rfl
theorem q356 : (Jvm.Cond.code ({ cls := "SongLamps$Mine", name := "happen", desc := "(III)V" } : Jvm.MethodName) prog_2_method_15_code (4 : Nat) (Option.none : Option Jvm.ClassFile.FieldType)) ∈ lw_all := lw_g (lw_at lw_m2 66 rfl) rfl
theorem q357 : (Jvm.Cond.methodLink "SongLamps$Mine" (122 : Nat) ({ cls := "SongLamps$Mine", name := "pass", desc := "()V" } : Jvm.MethodName)) ∈ lw_all := lw_g (lw_at lw_m2 67 rfl) rfl
theorem q358 : (Jvm.Cond.privateMethod ({ cls := "SongLamps$Mine", name := "pass", desc := "()V" } : Jvm.MethodName)) ∈ lw_tbl := lw_at lw_m2 68 rfl
theorem q359 : (Jvm.Cond.instanceMethod ({ cls := "SongLamps$Mine", name := "pass", desc := "()V" } : Jvm.MethodName)) ∈ lw_all := lw_g (lw_at lw_m2 69 rfl) rfl
theorem q360 : (Jvm.Cond.code ({ cls := "SongLamps$Mine", name := "pass", desc := "()V" } : Jvm.MethodName) prog_2_method_14_code (2 : Nat) (Option.none : Option Jvm.ClassFile.FieldType)) ∈ lw_all := lw_g (lw_at lw_m2 70 rfl) rfl
theorem q361 : (Jvm.Cond.methodLink "SongLamps$Mine" (115 : Nat) ({ cls := "SongLamps$Mine", name := "cutCoal", desc := "()V" } : Jvm.MethodName)) ∈ lw_all := lw_g (lw_at lw_m2 71 rfl) rfl
theorem q362 : (Jvm.Cond.privateMethod ({ cls := "SongLamps$Mine", name := "cutCoal", desc := "()V" } : Jvm.MethodName)) ∈ lw_tbl := lw_at lw_m2 72 rfl
theorem q363 : (Jvm.Cond.instanceMethod ({ cls := "SongLamps$Mine", name := "cutCoal", desc := "()V" } : Jvm.MethodName)) ∈ lw_all := lw_g (lw_at lw_m2 73 rfl) rfl
theorem q364 : (Jvm.Cond.code ({ cls := "SongLamps$Mine", name := "cutCoal", desc := "()V" } : Jvm.MethodName) prog_2_method_12_code (4 : Nat) (Option.none : Option Jvm.ClassFile.FieldType)) ∈ lw_all := lw_g (lw_at lw_m2 74 rfl) rfl
theorem q365 : (Jvm.Cond.methodLink "SongLamps$Mine" (118 : Nat) ({ cls := "SongLamps$Mine", name := "breathe", desc := "(I)V" } : Jvm.MethodName)) ∈ lw_all := lw_g (lw_at lw_m2 75 rfl) rfl
theorem q366 : (Jvm.Cond.privateMethod ({ cls := "SongLamps$Mine", name := "breathe", desc := "(I)V" } : Jvm.MethodName)) ∈ lw_tbl := lw_at lw_m2 76 rfl
theorem q367 : (Jvm.Cond.instanceMethod ({ cls := "SongLamps$Mine", name := "breathe", desc := "(I)V" } : Jvm.MethodName)) ∈ lw_all := lw_g (lw_at lw_m2 77 rfl) rfl
theorem q368 : (Jvm.Cond.code ({ cls := "SongLamps$Mine", name := "breathe", desc := "(I)V" } : Jvm.MethodName) prog_2_method_13_code (2 : Nat) (Option.none : Option Jvm.ClassFile.FieldType)) ∈ lw_all := lw_g (lw_at lw_m2 78 rfl) rfl
theorem q369 : (Jvm.Cond.methodLink "SongLamps$Mine" (112 : Nat) ({ cls := "java/lang/Math", name := "min", desc := "(II)I" } : Jvm.MethodName)) ∈ lw_all := lw_g (lw_at lw_m2 79 rfl) rfl
theorem q399 : (Jvm.Cond.instanceMethod ({ cls := "SongLamps$Mine", name := "coalInAll", desc := "()I" } : Jvm.MethodName)) ∈ lw_all := lw_g (lw_at lw_m2 109 rfl) rfl
theorem q400 : (Jvm.Cond.selects "SongLamps$Mine" ({ cls := "SongLamps$Mine", name := "coalInAll", desc := "()I" } : Jvm.MethodName) ({ cls := "SongLamps$Mine", name := "coalInAll", desc := "()I" } : Jvm.MethodName)) ∈ lw_all := lw_g (lw_at lw_m2 110 rfl) rfl
theorem q401 : (Jvm.Cond.code ({ cls := "SongLamps$Mine", name := "coalInAll", desc := "()I" } : Jvm.MethodName) prog_2_method_16_code (3 : Nat) (Option.some Jvm.ClassFile.FieldType.int)) ∈ lw_all := lw_g (lw_at lw_m2 111 rfl) rfl
theorem q438 : (Jvm.Cond.instanceMethod ({ cls := "SongLamps$Mine", name := "singing", desc := "()I" } : Jvm.MethodName)) ∈ lw_all := lw_g (lw_at lw_m2 148 rfl) rfl
theorem q439 : (Jvm.Cond.selects "SongLamps$Mine" ({ cls := "SongLamps$Mine", name := "singing", desc := "()I" } : Jvm.MethodName) ({ cls := "SongLamps$Mine", name := "singing", desc := "()I" } : Jvm.MethodName)) ∈ lw_all := lw_g (lw_at lw_m2 149 rfl) rfl
theorem q440 : (Jvm.Cond.code ({ cls := "SongLamps$Mine", name := "singing", desc := "()I" } : Jvm.MethodName) prog_2_method_17_code (3 : Nat) (Option.some Jvm.ClassFile.FieldType.int)) ∈ lw_all := lw_g (lw_at lw_m2 150 rfl) rfl
theorem in_X1 : ∀ w ∈ wsX10, w ∈ lw_all := lw_in wsX10 [107, 109, 111, 113, 115, 117, 119, 121, 123, 125, 127, 129, 131, 133, 135, 137, 139] (by decide +kernel) (by decide +kernel)
