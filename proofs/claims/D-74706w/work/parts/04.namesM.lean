/-! AntennaTunerModel -/
set_option maxRecDepth 100000
def RX4 : String := "AntennaTunerModel"
def TX4 : u_T := fun k => match k with
  | 0 => ("AntennaTunerModel", "state", "[I", true)
  | 1 => ("AntennaTunerModel", "past", "[I", true)
  | 2 => ("AntennaTunerModel", "actions", "I", false)
  | 3 => ("AntennaTunerModel", "isLoaded", "Z", false)
  | 4 => ("AntennaTunerModel", "firstCoil", "I", false)
  | 5 => ("AntennaTunerModel", "quality", "I", false)
  | 6 => ("AntennaTunerModel", "firstCapacitor", "I", false)
  | 7 => ("AntennaTunerModel", "power", "I", false)
  | 8 => ("AntennaTunerModel", "standing", "I", false)
  | 9 => ("AntennaTunerModel", "allowed", "I", false)
  | 10 => ("AntennaTunerModel", "points", "I", false)
  | 11 => ("AntennaTunerModel", "pointFrequency", "[I", true)
  | 12 => ("AntennaTunerModel", "pointResistance", "[I", true)
  | 13 => ("AntennaTunerModel", "pointReactance", "[I", true)
  | 14 => ("AntennaTunerModel", "bands", "I", false)
  | 15 => ("AntennaTunerModel", "bandLow", "[I", true)
  | 16 => ("AntennaTunerModel", "bandHigh", "[I", true)
  | 17 => ("AntennaTunerModel", "buffer", "[I", true)
  | 18 => ("AntennaTunerModel", "buffered", "I", false)
  | 19 => ("AntennaTunerModel", "size", "I", false)
  | 20 => ("AntennaTunerModel", "at", "I", false)
  | 21 => ("AntennaTunerModel", "start", "I", false)
  | 22 => ("AntennaTunerModel", "token", "I", false)
  | 23 => ("AntennaTunerModel", "number", "I", false)
  | 24 => ("AntennaTunerModel", "errorCode", "I", false)
  | 25 => ("AntennaTunerModel", "errorAt", "I", false)
  | 26 => ("AntennaTunerModel", "head", "[I", true)
  | 27 => ("AntennaTunerModel", "draftPoints", "I", false)
  | 28 => ("AntennaTunerModel", "draftFrequency", "[I", true)
  | 29 => ("AntennaTunerModel", "draftResistance", "[I", true)
  | 30 => ("AntennaTunerModel", "draftReactance", "[I", true)
  | 31 => ("AntennaTunerModel", "draftBands", "I", false)
  | 32 => ("AntennaTunerModel", "draftLow", "[I", true)
  | 33 => ("AntennaTunerModel", "draftHigh", "[I", true)
  | 34 => ("AntennaTunerModel", "r", "J", false)
  | 35 => ("AntennaTunerModel", "x", "J", false)
  | 36 => ("AntennaTunerModel", "loadedR", "J", false)
  | 37 => ("AntennaTunerModel", "loadedX", "J", false)
  | 38 => ("AntennaTunerModel", "loss", "J", false)
  | 39 => ("AntennaTunerModel", "evaluated", "I", false)
  | 40 => ("AntennaTunerModel", "found", "I", false)
  | 41 => ("AntennaTunerModel", "foundRatio", "I", false)
  | 42 => ("AntennaTunerModel", "candidate", "I", false)
  | 43 => ("AntennaTunerModel", "candidateRatio", "I", false)
  | 44 => ("AntennaTunerModel", "links", "I", false)
  | 45 => ("AntennaTunerModel", "kind", "[I", true)
  | _ => ("AntennaTunerModel", "value", "[I", true)
def tyX4 : Nat → FieldType := fun k => match k with
  | 0 => .array .int
  | 1 => .array .int
  | 2 => .int
  | 3 => .boolean
  | 4 => .int
  | 5 => .int
  | 6 => .int
  | 7 => .int
  | 8 => .int
  | 9 => .int
  | 10 => .int
  | 11 => .array .int
  | 12 => .array .int
  | 13 => .array .int
  | 14 => .int
  | 15 => .array .int
  | 16 => .array .int
  | 17 => .array .int
  | 18 => .int
  | 19 => .int
  | 20 => .int
  | 21 => .int
  | 22 => .int
  | 23 => .int
  | 24 => .int
  | 25 => .int
  | 26 => .array .int
  | 27 => .int
  | 28 => .array .int
  | 29 => .array .int
  | 30 => .array .int
  | 31 => .int
  | 32 => .array .int
  | 33 => .array .int
  | 34 => .long
  | 35 => .long
  | 36 => .long
  | 37 => .long
  | 38 => .long
  | 39 => .int
  | 40 => .int
  | 41 => .int
  | 42 => .int
  | 43 => .int
  | 44 => .int
  | 45 => .array .int
  | _ => .array .int
abbrev wsX40 : List Cond := u_ws RX4 TX4 47
set_option maxRecDepth 100000 in
theorem nmX4 : ∀ a, a < 47 → ∀ b, b < 47 → a ≠ b → (TX4 a).2.1 ≠ (TX4 b).2.1 := by decide +kernel
set_option maxRecDepth 100000 in
theorem tyX4_ok : ∀ k, k < 47 → parseFieldDescriptor (TX4 k).2.2.1 = some (tyX4 k) := by decide +kernel
abbrev cX4_init : ByteArray := prog_21_method_1_code
def yX4_init : MethodName := ⟨RX4, "<init>", "()V"⟩
def dkwX4_init_5 : List UInt8 := [188, 10, 181, 0, 55, 42, 6, 188, 10, 181, 0, 58, 42, 6, 188, 10, 181, 0, 61, 177]
abbrev dktX4_init_5 : List UInt8 := dkwX4_init_5 ++ []
def dkwX4_init_4 : List UInt8 := [188, 10, 181, 0, 46, 42, 16, 16, 188, 10, 181, 0, 49, 42, 16, 8, 188, 10, 181, 0, 52, 42, 16, 8]
abbrev dktX4_init_4 : List UInt8 := dkwX4_init_4 ++ dktX4_init_5
def dkwX4_init_3 : List UInt8 := [42, 2, 181, 0, 36, 42, 16, 6, 188, 10, 181, 0, 40, 42, 16, 16, 188, 10, 181, 0, 43, 42, 16, 16]
abbrev dktX4_init_3 : List UInt8 := dkwX4_init_3 ++ dktX4_init_4
def dkwX4_init_2 : List UInt8 := [16, 8, 188, 10, 181, 0, 27, 42, 16, 8, 188, 10, 181, 0, 30, 42, 17, 1, 244, 188, 10, 181, 0, 33]
abbrev dktX4_init_2 : List UInt8 := dkwX4_init_2 ++ dktX4_init_3
def dkwX4_init_1 : List UInt8 := [16, 16, 188, 10, 181, 0, 18, 42, 16, 16, 188, 10, 181, 0, 21, 42, 16, 16, 188, 10, 181, 0, 24, 42]
abbrev dktX4_init_1 : List UInt8 := dkwX4_init_1 ++ dktX4_init_2
def dkwX4_init_0 : List UInt8 := [42, 183, 0, 3, 42, 17, 0, 254, 188, 10, 181, 0, 9, 42, 17, 11, 232, 188, 10, 181, 0, 15, 42]
abbrev dktX4_init_0 : List UInt8 := dkwX4_init_0 ++ dktX4_init_1
theorem dksX4_init_0 : cX4_init.data.toList.drop 0 = dktX4_init_0 := by decide +kernel
theorem dksX4_init_1 : cX4_init.data.toList.drop 23 = dktX4_init_1 := dk_seg dksX4_init_0 23 rfl rfl
theorem dksX4_init_2 : cX4_init.data.toList.drop 47 = dktX4_init_2 := dk_seg dksX4_init_1 24 rfl rfl
theorem dksX4_init_3 : cX4_init.data.toList.drop 71 = dktX4_init_3 := dk_seg dksX4_init_2 24 rfl rfl
theorem dksX4_init_4 : cX4_init.data.toList.drop 95 = dktX4_init_4 := dk_seg dksX4_init_3 24 rfl rfl
theorem dksX4_init_5 : cX4_init.data.toList.drop 119 = dktX4_init_5 := dk_seg dksX4_init_4 24 rfl rfl
theorem dX4_init_0 : decode cX4_init 0 = .ok (.aload_n 0, 1) := dk_42 (dk_at dksX4_init_0 0 rfl rfl)
theorem dX4_init_1 : decode cX4_init 1 = .ok (.invokespecial 3, 3) := dk_183 0 3 (dk_at dksX4_init_0 1 rfl rfl)
theorem dX4_init_4 : decode cX4_init 4 = .ok (.aload_n 0, 1) := dk_42 (dk_at dksX4_init_0 4 rfl rfl)
theorem dX4_init_5 : decode cX4_init 5 = .ok (.sipush 254, 3) := dk_17 0 254 (dk_at dksX4_init_0 5 rfl rfl)
theorem dX4_init_8 : decode cX4_init 8 = .ok (.newarray .int, 2) := dk_188_10 (dk_at dksX4_init_0 8 rfl rfl)
theorem dX4_init_10 : decode cX4_init 10 = .ok (.putfield 9, 3) := dk_181 0 9 (dk_at dksX4_init_0 10 rfl rfl)
theorem dX4_init_13 : decode cX4_init 13 = .ok (.aload_n 0, 1) := dk_42 (dk_at dksX4_init_0 13 rfl rfl)
theorem dX4_init_14 : decode cX4_init 14 = .ok (.sipush 3048, 3) := dk_17 11 232 (dk_at dksX4_init_0 14 rfl rfl)
theorem dX4_init_17 : decode cX4_init 17 = .ok (.newarray .int, 2) := dk_188_10 (dk_at dksX4_init_0 17 rfl rfl)
theorem dX4_init_19 : decode cX4_init 19 = .ok (.putfield 15, 3) := dk_181 0 15 (dk_at dksX4_init_0 19 rfl rfl)
theorem dX4_init_22 : decode cX4_init 22 = .ok (.aload_n 0, 1) := dk_42 (dk_at dksX4_init_0 22 rfl rfl)
theorem dX4_init_23 : decode cX4_init 23 = .ok (.bipush 16, 2) := dk_16 16 (dk_at dksX4_init_1 0 rfl rfl)
theorem dX4_init_25 : decode cX4_init 25 = .ok (.newarray .int, 2) := dk_188_10 (dk_at dksX4_init_1 2 rfl rfl)
theorem dX4_init_27 : decode cX4_init 27 = .ok (.putfield 18, 3) := dk_181 0 18 (dk_at dksX4_init_1 4 rfl rfl)
theorem dX4_init_30 : decode cX4_init 30 = .ok (.aload_n 0, 1) := dk_42 (dk_at dksX4_init_1 7 rfl rfl)
theorem dX4_init_31 : decode cX4_init 31 = .ok (.bipush 16, 2) := dk_16 16 (dk_at dksX4_init_1 8 rfl rfl)
theorem dX4_init_33 : decode cX4_init 33 = .ok (.newarray .int, 2) := dk_188_10 (dk_at dksX4_init_1 10 rfl rfl)
theorem dX4_init_35 : decode cX4_init 35 = .ok (.putfield 21, 3) := dk_181 0 21 (dk_at dksX4_init_1 12 rfl rfl)
theorem dX4_init_38 : decode cX4_init 38 = .ok (.aload_n 0, 1) := dk_42 (dk_at dksX4_init_1 15 rfl rfl)
theorem dX4_init_39 : decode cX4_init 39 = .ok (.bipush 16, 2) := dk_16 16 (dk_at dksX4_init_1 16 rfl rfl)
theorem dX4_init_41 : decode cX4_init 41 = .ok (.newarray .int, 2) := dk_188_10 (dk_at dksX4_init_1 18 rfl rfl)
theorem dX4_init_43 : decode cX4_init 43 = .ok (.putfield 24, 3) := dk_181 0 24 (dk_at dksX4_init_1 20 rfl rfl)
theorem dX4_init_46 : decode cX4_init 46 = .ok (.aload_n 0, 1) := dk_42 (dk_at dksX4_init_1 23 rfl rfl)
theorem dX4_init_47 : decode cX4_init 47 = .ok (.bipush 8, 2) := dk_16 8 (dk_at dksX4_init_2 0 rfl rfl)
theorem dX4_init_49 : decode cX4_init 49 = .ok (.newarray .int, 2) := dk_188_10 (dk_at dksX4_init_2 2 rfl rfl)
theorem dX4_init_51 : decode cX4_init 51 = .ok (.putfield 27, 3) := dk_181 0 27 (dk_at dksX4_init_2 4 rfl rfl)
theorem dX4_init_54 : decode cX4_init 54 = .ok (.aload_n 0, 1) := dk_42 (dk_at dksX4_init_2 7 rfl rfl)
theorem dX4_init_55 : decode cX4_init 55 = .ok (.bipush 8, 2) := dk_16 8 (dk_at dksX4_init_2 8 rfl rfl)
theorem dX4_init_57 : decode cX4_init 57 = .ok (.newarray .int, 2) := dk_188_10 (dk_at dksX4_init_2 10 rfl rfl)
theorem dX4_init_59 : decode cX4_init 59 = .ok (.putfield 30, 3) := dk_181 0 30 (dk_at dksX4_init_2 12 rfl rfl)
theorem dX4_init_62 : decode cX4_init 62 = .ok (.aload_n 0, 1) := dk_42 (dk_at dksX4_init_2 15 rfl rfl)
theorem dX4_init_63 : decode cX4_init 63 = .ok (.sipush 500, 3) := dk_17 1 244 (dk_at dksX4_init_2 16 rfl rfl)
theorem dX4_init_66 : decode cX4_init 66 = .ok (.newarray .int, 2) := dk_188_10 (dk_at dksX4_init_2 19 rfl rfl)
theorem dX4_init_68 : decode cX4_init 68 = .ok (.putfield 33, 3) := dk_181 0 33 (dk_at dksX4_init_2 21 rfl rfl)
theorem dX4_init_71 : decode cX4_init 71 = .ok (.aload_n 0, 1) := dk_42 (dk_at dksX4_init_3 0 rfl rfl)
theorem dX4_init_72 : decode cX4_init 72 = .ok (.iconst (-1), 1) := dk_2 (dk_at dksX4_init_3 1 rfl rfl)
theorem dX4_init_73 : decode cX4_init 73 = .ok (.putfield 36, 3) := dk_181 0 36 (dk_at dksX4_init_3 2 rfl rfl)
theorem dX4_init_76 : decode cX4_init 76 = .ok (.aload_n 0, 1) := dk_42 (dk_at dksX4_init_3 5 rfl rfl)
theorem dX4_init_77 : decode cX4_init 77 = .ok (.bipush 6, 2) := dk_16 6 (dk_at dksX4_init_3 6 rfl rfl)
theorem dX4_init_79 : decode cX4_init 79 = .ok (.newarray .int, 2) := dk_188_10 (dk_at dksX4_init_3 8 rfl rfl)
theorem dX4_init_81 : decode cX4_init 81 = .ok (.putfield 40, 3) := dk_181 0 40 (dk_at dksX4_init_3 10 rfl rfl)
theorem dX4_init_84 : decode cX4_init 84 = .ok (.aload_n 0, 1) := dk_42 (dk_at dksX4_init_3 13 rfl rfl)
theorem dX4_init_85 : decode cX4_init 85 = .ok (.bipush 16, 2) := dk_16 16 (dk_at dksX4_init_3 14 rfl rfl)
theorem dX4_init_87 : decode cX4_init 87 = .ok (.newarray .int, 2) := dk_188_10 (dk_at dksX4_init_3 16 rfl rfl)
theorem dX4_init_89 : decode cX4_init 89 = .ok (.putfield 43, 3) := dk_181 0 43 (dk_at dksX4_init_3 18 rfl rfl)
theorem dX4_init_92 : decode cX4_init 92 = .ok (.aload_n 0, 1) := dk_42 (dk_at dksX4_init_3 21 rfl rfl)
theorem dX4_init_93 : decode cX4_init 93 = .ok (.bipush 16, 2) := dk_16 16 (dk_at dksX4_init_3 22 rfl rfl)
theorem dX4_init_95 : decode cX4_init 95 = .ok (.newarray .int, 2) := dk_188_10 (dk_at dksX4_init_4 0 rfl rfl)
theorem dX4_init_97 : decode cX4_init 97 = .ok (.putfield 46, 3) := dk_181 0 46 (dk_at dksX4_init_4 2 rfl rfl)
theorem dX4_init_100 : decode cX4_init 100 = .ok (.aload_n 0, 1) := dk_42 (dk_at dksX4_init_4 5 rfl rfl)
theorem dX4_init_101 : decode cX4_init 101 = .ok (.bipush 16, 2) := dk_16 16 (dk_at dksX4_init_4 6 rfl rfl)
theorem dX4_init_103 : decode cX4_init 103 = .ok (.newarray .int, 2) := dk_188_10 (dk_at dksX4_init_4 8 rfl rfl)
theorem dX4_init_105 : decode cX4_init 105 = .ok (.putfield 49, 3) := dk_181 0 49 (dk_at dksX4_init_4 10 rfl rfl)
theorem dX4_init_108 : decode cX4_init 108 = .ok (.aload_n 0, 1) := dk_42 (dk_at dksX4_init_4 13 rfl rfl)
theorem dX4_init_109 : decode cX4_init 109 = .ok (.bipush 8, 2) := dk_16 8 (dk_at dksX4_init_4 14 rfl rfl)
theorem dX4_init_111 : decode cX4_init 111 = .ok (.newarray .int, 2) := dk_188_10 (dk_at dksX4_init_4 16 rfl rfl)
theorem dX4_init_113 : decode cX4_init 113 = .ok (.putfield 52, 3) := dk_181 0 52 (dk_at dksX4_init_4 18 rfl rfl)
theorem dX4_init_116 : decode cX4_init 116 = .ok (.aload_n 0, 1) := dk_42 (dk_at dksX4_init_4 21 rfl rfl)
theorem dX4_init_117 : decode cX4_init 117 = .ok (.bipush 8, 2) := dk_16 8 (dk_at dksX4_init_4 22 rfl rfl)
theorem dX4_init_119 : decode cX4_init 119 = .ok (.newarray .int, 2) := dk_188_10 (dk_at dksX4_init_5 0 rfl rfl)
theorem dX4_init_121 : decode cX4_init 121 = .ok (.putfield 55, 3) := dk_181 0 55 (dk_at dksX4_init_5 2 rfl rfl)
theorem dX4_init_124 : decode cX4_init 124 = .ok (.aload_n 0, 1) := dk_42 (dk_at dksX4_init_5 5 rfl rfl)
theorem dX4_init_125 : decode cX4_init 125 = .ok (.iconst 3, 1) := dk_6 (dk_at dksX4_init_5 6 rfl rfl)
theorem dX4_init_126 : decode cX4_init 126 = .ok (.newarray .int, 2) := dk_188_10 (dk_at dksX4_init_5 7 rfl rfl)
theorem dX4_init_128 : decode cX4_init 128 = .ok (.putfield 58, 3) := dk_181 0 58 (dk_at dksX4_init_5 9 rfl rfl)
theorem dX4_init_131 : decode cX4_init 131 = .ok (.aload_n 0, 1) := dk_42 (dk_at dksX4_init_5 12 rfl rfl)
theorem dX4_init_132 : decode cX4_init 132 = .ok (.iconst 3, 1) := dk_6 (dk_at dksX4_init_5 13 rfl rfl)
theorem dX4_init_133 : decode cX4_init 133 = .ok (.newarray .int, 2) := dk_188_10 (dk_at dksX4_init_5 14 rfl rfl)
theorem dX4_init_135 : decode cX4_init 135 = .ok (.putfield 61, 3) := dk_181 0 61 (dk_at dksX4_init_5 16 rfl rfl)
theorem dX4_init_138 : decode cX4_init 138 = .ok (.return_, 1) := dk_177 (dk_at dksX4_init_5 19 rfl rfl)
abbrev cX4_append : ByteArray := prog_21_method_6_code
def yX4_append : MethodName := ⟨RX4, "append", "(IIIII)I"⟩
def dkwX4_append_2 : List UInt8 := [172]
abbrev dktX4_append_2 : List UInt8 := dkwX4_append_2 ++ []
def dkwX4_append_1 : List UInt8 := [182, 0, 71, 42, 29, 182, 0, 71, 42, 21, 4, 182, 0, 71, 42, 21, 5, 182, 0, 71, 42, 180, 0, 68]
abbrev dktX4_append_1 : List UInt8 := dkwX4_append_1 ++ dktX4_append_2
def dkwX4_append_0 : List UInt8 := [42, 180, 0, 68, 16, 20, 96, 17, 1, 244, 164, 0, 6, 16, 254, 172, 42, 27, 182, 0, 71, 42, 28]
abbrev dktX4_append_0 : List UInt8 := dkwX4_append_0 ++ dktX4_append_1
theorem dksX4_append_0 : cX4_append.data.toList.drop 0 = dktX4_append_0 := by decide +kernel
theorem dksX4_append_1 : cX4_append.data.toList.drop 23 = dktX4_append_1 := dk_seg dksX4_append_0 23 rfl rfl
theorem dksX4_append_2 : cX4_append.data.toList.drop 47 = dktX4_append_2 := dk_seg dksX4_append_1 24 rfl rfl
theorem dX4_append_0 : decode cX4_append 0 = .ok (.aload_n 0, 1) := dk_42 (dk_at dksX4_append_0 0 rfl rfl)
theorem dX4_append_1 : decode cX4_append 1 = .ok (.getfield 68, 3) := dk_180 0 68 (dk_at dksX4_append_0 1 rfl rfl)
theorem dX4_append_4 : decode cX4_append 4 = .ok (.bipush 20, 2) := dk_16 20 (dk_at dksX4_append_0 4 rfl rfl)
theorem dX4_append_6 : decode cX4_append 6 = .ok (.iadd, 1) := dk_96 (dk_at dksX4_append_0 6 rfl rfl)
theorem dX4_append_7 : decode cX4_append 7 = .ok (.sipush 500, 3) := dk_17 1 244 (dk_at dksX4_append_0 7 rfl rfl)
theorem dX4_append_10 : decode cX4_append 10 = .ok (.if_icmp .le 6, 3) := dk_164 0 6 (dk_at dksX4_append_0 10 rfl rfl)
theorem dX4_append_13 : decode cX4_append 13 = .ok (.bipush (-2), 2) := dk_16 254 (dk_at dksX4_append_0 13 rfl rfl)
theorem dX4_append_15 : decode cX4_append 15 = .ok (.ireturn, 1) := dk_172 (dk_at dksX4_append_0 15 rfl rfl)
theorem dX4_append_16 : decode cX4_append 16 = .ok (.aload_n 0, 1) := dk_42 (dk_at dksX4_append_0 16 rfl rfl)
theorem dX4_append_17 : decode cX4_append 17 = .ok (.iload_n 1, 1) := dk_27 (dk_at dksX4_append_0 17 rfl rfl)
theorem dX4_append_18 : decode cX4_append 18 = .ok (.invokevirtual 71, 3) := dk_182 0 71 (dk_at dksX4_append_0 18 rfl rfl)
theorem dX4_append_21 : decode cX4_append 21 = .ok (.aload_n 0, 1) := dk_42 (dk_at dksX4_append_0 21 rfl rfl)
theorem dX4_append_22 : decode cX4_append 22 = .ok (.iload_n 2, 1) := dk_28 (dk_at dksX4_append_0 22 rfl rfl)
theorem dX4_append_23 : decode cX4_append 23 = .ok (.invokevirtual 71, 3) := dk_182 0 71 (dk_at dksX4_append_1 0 rfl rfl)
theorem dX4_append_26 : decode cX4_append 26 = .ok (.aload_n 0, 1) := dk_42 (dk_at dksX4_append_1 3 rfl rfl)
theorem dX4_append_27 : decode cX4_append 27 = .ok (.iload_n 3, 1) := dk_29 (dk_at dksX4_append_1 4 rfl rfl)
theorem dX4_append_28 : decode cX4_append 28 = .ok (.invokevirtual 71, 3) := dk_182 0 71 (dk_at dksX4_append_1 5 rfl rfl)
theorem dX4_append_31 : decode cX4_append 31 = .ok (.aload_n 0, 1) := dk_42 (dk_at dksX4_append_1 8 rfl rfl)
theorem dX4_append_32 : decode cX4_append 32 = .ok (.iload 4, 2) := dk_21 4 (dk_at dksX4_append_1 9 rfl rfl)
theorem dX4_append_34 : decode cX4_append 34 = .ok (.invokevirtual 71, 3) := dk_182 0 71 (dk_at dksX4_append_1 11 rfl rfl)
theorem dX4_append_37 : decode cX4_append 37 = .ok (.aload_n 0, 1) := dk_42 (dk_at dksX4_append_1 14 rfl rfl)
theorem dX4_append_38 : decode cX4_append 38 = .ok (.iload 5, 2) := dk_21 5 (dk_at dksX4_append_1 15 rfl rfl)
theorem dX4_append_40 : decode cX4_append 40 = .ok (.invokevirtual 71, 3) := dk_182 0 71 (dk_at dksX4_append_1 17 rfl rfl)
theorem dX4_append_43 : decode cX4_append 43 = .ok (.aload_n 0, 1) := dk_42 (dk_at dksX4_append_1 20 rfl rfl)
theorem dX4_append_44 : decode cX4_append 44 = .ok (.getfield 68, 3) := dk_180 0 68 (dk_at dksX4_append_1 21 rfl rfl)
theorem dX4_append_47 : decode cX4_append 47 = .ok (.ireturn, 1) := dk_172 (dk_at dksX4_append_2 0 rfl rfl)
abbrev cX4_put : ByteArray := prog_21_method_5_code
def yX4_put : MethodName := ⟨RX4, "put", "(I)V"⟩
def dkwX4_put_1 : List UInt8 := [89, 180, 0, 68, 4, 96, 181, 0, 68, 132, 2, 248, 167, 255, 223, 177]
abbrev dktX4_put_1 : List UInt8 := dkwX4_put_1 ++ []
def dkwX4_put_0 : List UInt8 := [16, 24, 61, 28, 155, 0, 35, 42, 180, 0, 33, 42, 180, 0, 68, 27, 28, 122, 17, 0, 255, 126, 79, 42]
abbrev dktX4_put_0 : List UInt8 := dkwX4_put_0 ++ dktX4_put_1
theorem dksX4_put_0 : cX4_put.data.toList.drop 0 = dktX4_put_0 := by decide +kernel
theorem dksX4_put_1 : cX4_put.data.toList.drop 24 = dktX4_put_1 := dk_seg dksX4_put_0 24 rfl rfl
theorem dX4_put_0 : decode cX4_put 0 = .ok (.bipush 24, 2) := dk_16 24 (dk_at dksX4_put_0 0 rfl rfl)
theorem dX4_put_2 : decode cX4_put 2 = .ok (.istore_n 2, 1) := dk_61 (dk_at dksX4_put_0 2 rfl rfl)
theorem dX4_put_3 : decode cX4_put 3 = .ok (.iload_n 2, 1) := dk_28 (dk_at dksX4_put_0 3 rfl rfl)
theorem dX4_put_4 : decode cX4_put 4 = .ok (.ifCond .lt 35, 3) := dk_155 0 35 (dk_at dksX4_put_0 4 rfl rfl)
theorem dX4_put_7 : decode cX4_put 7 = .ok (.aload_n 0, 1) := dk_42 (dk_at dksX4_put_0 7 rfl rfl)
theorem dX4_put_8 : decode cX4_put 8 = .ok (.getfield 33, 3) := dk_180 0 33 (dk_at dksX4_put_0 8 rfl rfl)
theorem dX4_put_11 : decode cX4_put 11 = .ok (.aload_n 0, 1) := dk_42 (dk_at dksX4_put_0 11 rfl rfl)
theorem dX4_put_12 : decode cX4_put 12 = .ok (.getfield 68, 3) := dk_180 0 68 (dk_at dksX4_put_0 12 rfl rfl)
theorem dX4_put_15 : decode cX4_put 15 = .ok (.iload_n 1, 1) := dk_27 (dk_at dksX4_put_0 15 rfl rfl)
theorem dX4_put_16 : decode cX4_put 16 = .ok (.iload_n 2, 1) := dk_28 (dk_at dksX4_put_0 16 rfl rfl)
theorem dX4_put_17 : decode cX4_put 17 = .ok (.ishr, 1) := dk_122 (dk_at dksX4_put_0 17 rfl rfl)
theorem dX4_put_18 : decode cX4_put 18 = .ok (.sipush 255, 3) := dk_17 0 255 (dk_at dksX4_put_0 18 rfl rfl)
theorem dX4_put_21 : decode cX4_put 21 = .ok (.iand, 1) := dk_126 (dk_at dksX4_put_0 21 rfl rfl)
theorem dX4_put_22 : decode cX4_put 22 = .ok (.iastore, 1) := dk_79 (dk_at dksX4_put_0 22 rfl rfl)
theorem dX4_put_23 : decode cX4_put 23 = .ok (.aload_n 0, 1) := dk_42 (dk_at dksX4_put_0 23 rfl rfl)
theorem dX4_put_24 : decode cX4_put 24 = .ok (.dup, 1) := dk_89 (dk_at dksX4_put_1 0 rfl rfl)
theorem dX4_put_25 : decode cX4_put 25 = .ok (.getfield 68, 3) := dk_180 0 68 (dk_at dksX4_put_1 1 rfl rfl)
theorem dX4_put_28 : decode cX4_put 28 = .ok (.iconst 1, 1) := dk_4 (dk_at dksX4_put_1 4 rfl rfl)
theorem dX4_put_29 : decode cX4_put 29 = .ok (.iadd, 1) := dk_96 (dk_at dksX4_put_1 5 rfl rfl)
theorem dX4_put_30 : decode cX4_put 30 = .ok (.putfield 68, 3) := dk_181 0 68 (dk_at dksX4_put_1 6 rfl rfl)
theorem dX4_put_33 : decode cX4_put 33 = .ok (.iinc 2 (-8), 3) := dk_132 2 248 (dk_at dksX4_put_1 9 rfl rfl)
theorem dX4_put_36 : decode cX4_put 36 = .ok (.goto (-33), 3) := dk_167 255 223 (dk_at dksX4_put_1 12 rfl rfl)
theorem dX4_put_39 : decode cX4_put 39 = .ok (.return_, 1) := dk_177 (dk_at dksX4_put_1 15 rfl rfl)
abbrev cX4_truncate : ByteArray := prog_21_method_7_code
def yX4_truncate : MethodName := ⟨RX4, "truncate", "(I)I"⟩
def dkwX4_truncate_1 : List UInt8 := [180, 0, 68, 172]
abbrev dktX4_truncate_1 : List UInt8 := dkwX4_truncate_1 ++ []
def dkwX4_truncate_0 : List UInt8 := [27, 133, 9, 42, 180, 0, 68, 133, 184, 0, 75, 154, 0, 5, 2, 172, 42, 27, 181, 0, 68, 42]
abbrev dktX4_truncate_0 : List UInt8 := dkwX4_truncate_0 ++ dktX4_truncate_1
theorem dksX4_truncate_0 : cX4_truncate.data.toList.drop 0 = dktX4_truncate_0 := by decide +kernel
theorem dksX4_truncate_1 : cX4_truncate.data.toList.drop 22 = dktX4_truncate_1 := dk_seg dksX4_truncate_0 22 rfl rfl
theorem dX4_truncate_0 : decode cX4_truncate 0 = .ok (.iload_n 1, 1) := dk_27 (dk_at dksX4_truncate_0 0 rfl rfl)
theorem dX4_truncate_1 : decode cX4_truncate 1 = .ok (.i2l, 1) := dk_133 (dk_at dksX4_truncate_0 1 rfl rfl)
theorem dX4_truncate_2 : decode cX4_truncate 2 = .ok (.lconst 0, 1) := dk_9 (dk_at dksX4_truncate_0 2 rfl rfl)
theorem dX4_truncate_3 : decode cX4_truncate 3 = .ok (.aload_n 0, 1) := dk_42 (dk_at dksX4_truncate_0 3 rfl rfl)
theorem dX4_truncate_4 : decode cX4_truncate 4 = .ok (.getfield 68, 3) := dk_180 0 68 (dk_at dksX4_truncate_0 4 rfl rfl)
theorem dX4_truncate_7 : decode cX4_truncate 7 = .ok (.i2l, 1) := dk_133 (dk_at dksX4_truncate_0 7 rfl rfl)
theorem dX4_truncate_8 : decode cX4_truncate 8 = .ok (.invokestatic 75, 3) := dk_184 0 75 (dk_at dksX4_truncate_0 8 rfl rfl)
theorem dX4_truncate_11 : decode cX4_truncate 11 = .ok (.ifCond .ne 5, 3) := dk_154 0 5 (dk_at dksX4_truncate_0 11 rfl rfl)
theorem dX4_truncate_14 : decode cX4_truncate 14 = .ok (.iconst (-1), 1) := dk_2 (dk_at dksX4_truncate_0 14 rfl rfl)
theorem dX4_truncate_15 : decode cX4_truncate 15 = .ok (.ireturn, 1) := dk_172 (dk_at dksX4_truncate_0 15 rfl rfl)
theorem dX4_truncate_16 : decode cX4_truncate 16 = .ok (.aload_n 0, 1) := dk_42 (dk_at dksX4_truncate_0 16 rfl rfl)
theorem dX4_truncate_17 : decode cX4_truncate 17 = .ok (.iload_n 1, 1) := dk_27 (dk_at dksX4_truncate_0 17 rfl rfl)
theorem dX4_truncate_18 : decode cX4_truncate 18 = .ok (.putfield 68, 3) := dk_181 0 68 (dk_at dksX4_truncate_0 18 rfl rfl)
theorem dX4_truncate_21 : decode cX4_truncate 21 = .ok (.aload_n 0, 1) := dk_42 (dk_at dksX4_truncate_0 21 rfl rfl)
theorem dX4_truncate_22 : decode cX4_truncate 22 = .ok (.getfield 68, 3) := dk_180 0 68 (dk_at dksX4_truncate_1 0 rfl rfl)
theorem dX4_truncate_25 : decode cX4_truncate 25 = .ok (.ireturn, 1) := dk_172 (dk_at dksX4_truncate_1 3 rfl rfl)
abbrev cX4_isIn : ByteArray := prog_21_method_2_code
def yX4_isIn : MethodName := ⟨RX4, "isIn", "(JJJ)Z"⟩
def dkwX4_isIn_0 : List UInt8 := [30, 32, 148, 155, 0, 14, 30, 22, 4, 148, 157, 0, 7, 4, 167, 0, 4, 3, 172]
abbrev dktX4_isIn_0 : List UInt8 := dkwX4_isIn_0 ++ []
theorem dksX4_isIn_0 : cX4_isIn.data.toList.drop 0 = dktX4_isIn_0 := by decide +kernel
theorem dX4_isIn_0 : decode cX4_isIn 0 = .ok (.lload_n 0, 1) := dk_30 (dk_at dksX4_isIn_0 0 rfl rfl)
theorem dX4_isIn_1 : decode cX4_isIn 1 = .ok (.lload_n 2, 1) := dk_32 (dk_at dksX4_isIn_0 1 rfl rfl)
theorem dX4_isIn_2 : decode cX4_isIn 2 = .ok (.lcmp, 1) := dk_148 (dk_at dksX4_isIn_0 2 rfl rfl)
theorem dX4_isIn_3 : decode cX4_isIn 3 = .ok (.ifCond .lt 14, 3) := dk_155 0 14 (dk_at dksX4_isIn_0 3 rfl rfl)
theorem dX4_isIn_6 : decode cX4_isIn 6 = .ok (.lload_n 0, 1) := dk_30 (dk_at dksX4_isIn_0 6 rfl rfl)
theorem dX4_isIn_7 : decode cX4_isIn 7 = .ok (.lload 4, 2) := dk_22 4 (dk_at dksX4_isIn_0 7 rfl rfl)
theorem dX4_isIn_9 : decode cX4_isIn 9 = .ok (.lcmp, 1) := dk_148 (dk_at dksX4_isIn_0 9 rfl rfl)
theorem dX4_isIn_10 : decode cX4_isIn 10 = .ok (.ifCond .gt 7, 3) := dk_157 0 7 (dk_at dksX4_isIn_0 10 rfl rfl)
theorem dX4_isIn_13 : decode cX4_isIn 13 = .ok (.iconst 1, 1) := dk_4 (dk_at dksX4_isIn_0 13 rfl rfl)
theorem dX4_isIn_14 : decode cX4_isIn 14 = .ok (.goto 4, 3) := dk_167 0 4 (dk_at dksX4_isIn_0 14 rfl rfl)
theorem dX4_isIn_17 : decode cX4_isIn 17 = .ok (.iconst 0, 1) := dk_3 (dk_at dksX4_isIn_0 17 rfl rfl)
theorem dX4_isIn_18 : decode cX4_isIn 18 = .ok (.ireturn, 1) := dk_172 (dk_at dksX4_isIn_0 18 rfl rfl)
abbrev cX4_load : ByteArray := prog_21_method_24_code
def yX4_load : MethodName := ⟨RX4, "load", "()I"⟩
def dkwX4_load_2 : List UInt8 := [182, 0, 188, 42, 180, 0, 191, 172]
abbrev dktX4_load_2 : List UInt8 := dkwX4_load_2 ++ []
def dkwX4_load_1 : List UInt8 := [2, 181, 0, 36, 42, 182, 0, 185, 42, 182, 0, 112, 154, 0, 11, 16, 246, 42, 180, 0, 109, 100, 172, 42]
abbrev dktX4_load_1 : List UInt8 := dkwX4_load_1 ++ dktX4_load_2
def dkwX4_load_0 : List UInt8 := [42, 42, 180, 0, 68, 181, 0, 79, 42, 3, 181, 0, 68, 42, 3, 181, 0, 94, 42, 3, 181, 0, 109, 42]
abbrev dktX4_load_0 : List UInt8 := dkwX4_load_0 ++ dktX4_load_1
theorem dksX4_load_0 : cX4_load.data.toList.drop 0 = dktX4_load_0 := by decide +kernel
theorem dksX4_load_1 : cX4_load.data.toList.drop 24 = dktX4_load_1 := dk_seg dksX4_load_0 24 rfl rfl
theorem dksX4_load_2 : cX4_load.data.toList.drop 48 = dktX4_load_2 := dk_seg dksX4_load_1 24 rfl rfl
theorem dX4_load_0 : decode cX4_load 0 = .ok (.aload_n 0, 1) := dk_42 (dk_at dksX4_load_0 0 rfl rfl)
theorem dX4_load_1 : decode cX4_load 1 = .ok (.aload_n 0, 1) := dk_42 (dk_at dksX4_load_0 1 rfl rfl)
theorem dX4_load_2 : decode cX4_load 2 = .ok (.getfield 68, 3) := dk_180 0 68 (dk_at dksX4_load_0 2 rfl rfl)
theorem dX4_load_5 : decode cX4_load 5 = .ok (.putfield 79, 3) := dk_181 0 79 (dk_at dksX4_load_0 5 rfl rfl)
theorem dX4_load_8 : decode cX4_load 8 = .ok (.aload_n 0, 1) := dk_42 (dk_at dksX4_load_0 8 rfl rfl)
theorem dX4_load_9 : decode cX4_load 9 = .ok (.iconst 0, 1) := dk_3 (dk_at dksX4_load_0 9 rfl rfl)
theorem dX4_load_10 : decode cX4_load 10 = .ok (.putfield 68, 3) := dk_181 0 68 (dk_at dksX4_load_0 10 rfl rfl)
theorem dX4_load_13 : decode cX4_load 13 = .ok (.aload_n 0, 1) := dk_42 (dk_at dksX4_load_0 13 rfl rfl)
theorem dX4_load_14 : decode cX4_load 14 = .ok (.iconst 0, 1) := dk_3 (dk_at dksX4_load_0 14 rfl rfl)
theorem dX4_load_15 : decode cX4_load 15 = .ok (.putfield 94, 3) := dk_181 0 94 (dk_at dksX4_load_0 15 rfl rfl)
theorem dX4_load_18 : decode cX4_load 18 = .ok (.aload_n 0, 1) := dk_42 (dk_at dksX4_load_0 18 rfl rfl)
theorem dX4_load_19 : decode cX4_load 19 = .ok (.iconst 0, 1) := dk_3 (dk_at dksX4_load_0 19 rfl rfl)
theorem dX4_load_20 : decode cX4_load 20 = .ok (.putfield 109, 3) := dk_181 0 109 (dk_at dksX4_load_0 20 rfl rfl)
theorem dX4_load_23 : decode cX4_load 23 = .ok (.aload_n 0, 1) := dk_42 (dk_at dksX4_load_0 23 rfl rfl)
theorem dX4_load_24 : decode cX4_load 24 = .ok (.iconst (-1), 1) := dk_2 (dk_at dksX4_load_1 0 rfl rfl)
theorem dX4_load_25 : decode cX4_load 25 = .ok (.putfield 36, 3) := dk_181 0 36 (dk_at dksX4_load_1 1 rfl rfl)
theorem dX4_load_28 : decode cX4_load 28 = .ok (.aload_n 0, 1) := dk_42 (dk_at dksX4_load_1 4 rfl rfl)
theorem dX4_load_29 : decode cX4_load 29 = .ok (.invokevirtual 185, 3) := dk_182 0 185 (dk_at dksX4_load_1 5 rfl rfl)
theorem dX4_load_32 : decode cX4_load 32 = .ok (.aload_n 0, 1) := dk_42 (dk_at dksX4_load_1 8 rfl rfl)
theorem dX4_load_33 : decode cX4_load 33 = .ok (.invokevirtual 112, 3) := dk_182 0 112 (dk_at dksX4_load_1 9 rfl rfl)
theorem dX4_load_36 : decode cX4_load 36 = .ok (.ifCond .ne 11, 3) := dk_154 0 11 (dk_at dksX4_load_1 12 rfl rfl)
theorem dX4_load_39 : decode cX4_load 39 = .ok (.bipush (-10), 2) := dk_16 246 (dk_at dksX4_load_1 15 rfl rfl)
theorem dX4_load_41 : decode cX4_load 41 = .ok (.aload_n 0, 1) := dk_42 (dk_at dksX4_load_1 17 rfl rfl)
theorem dX4_load_42 : decode cX4_load 42 = .ok (.getfield 109, 3) := dk_180 0 109 (dk_at dksX4_load_1 18 rfl rfl)
theorem dX4_load_45 : decode cX4_load 45 = .ok (.isub, 1) := dk_100 (dk_at dksX4_load_1 21 rfl rfl)
theorem dX4_load_46 : decode cX4_load 46 = .ok (.ireturn, 1) := dk_172 (dk_at dksX4_load_1 22 rfl rfl)
theorem dX4_load_47 : decode cX4_load 47 = .ok (.aload_n 0, 1) := dk_42 (dk_at dksX4_load_1 23 rfl rfl)
theorem dX4_load_48 : decode cX4_load 48 = .ok (.invokevirtual 188, 3) := dk_182 0 188 (dk_at dksX4_load_2 0 rfl rfl)
theorem dX4_load_51 : decode cX4_load 51 = .ok (.aload_n 0, 1) := dk_42 (dk_at dksX4_load_2 3 rfl rfl)
theorem dX4_load_52 : decode cX4_load 52 = .ok (.getfield 191, 3) := dk_180 0 191 (dk_at dksX4_load_2 4 rfl rfl)
theorem dX4_load_55 : decode cX4_load 55 = .ok (.ireturn, 1) := dk_172 (dk_at dksX4_load_2 7 rfl rfl)
abbrev cX4_parse : ByteArray := prog_21_method_23_code
def yX4_parse : MethodName := ⟨RX4, "parse", "()V"⟩
def dkwX4_parse_2 : List UInt8 := [180, 0, 106, 153, 0, 10, 42, 182, 0, 182, 167, 255, 238, 177]
abbrev dktX4_parse_2 : List UInt8 := dkwX4_parse_2 ++ []
def dkwX4_parse_1 : List UInt8 := [182, 0, 112, 153, 0, 12, 42, 18, 166, 182, 0, 135, 154, 255, 239, 42, 182, 0, 112, 153, 0, 17, 42]
abbrev dktX4_parse_1 : List UInt8 := dkwX4_parse_1 ++ dktX4_parse_2
def dkwX4_parse_0 : List UInt8 := [42, 3, 181, 0, 168, 42, 3, 181, 0, 173, 42, 182, 0, 142, 42, 182, 0, 176, 42, 182, 0, 179, 42]
abbrev dktX4_parse_0 : List UInt8 := dkwX4_parse_0 ++ dktX4_parse_1
theorem dksX4_parse_0 : cX4_parse.data.toList.drop 0 = dktX4_parse_0 := by decide +kernel
theorem dksX4_parse_1 : cX4_parse.data.toList.drop 23 = dktX4_parse_1 := dk_seg dksX4_parse_0 23 rfl rfl
theorem dksX4_parse_2 : cX4_parse.data.toList.drop 46 = dktX4_parse_2 := dk_seg dksX4_parse_1 23 rfl rfl
theorem dX4_parse_0 : decode cX4_parse 0 = .ok (.aload_n 0, 1) := dk_42 (dk_at dksX4_parse_0 0 rfl rfl)
theorem dX4_parse_1 : decode cX4_parse 1 = .ok (.iconst 0, 1) := dk_3 (dk_at dksX4_parse_0 1 rfl rfl)
theorem dX4_parse_2 : decode cX4_parse 2 = .ok (.putfield 168, 3) := dk_181 0 168 (dk_at dksX4_parse_0 2 rfl rfl)
theorem dX4_parse_5 : decode cX4_parse 5 = .ok (.aload_n 0, 1) := dk_42 (dk_at dksX4_parse_0 5 rfl rfl)
theorem dX4_parse_6 : decode cX4_parse 6 = .ok (.iconst 0, 1) := dk_3 (dk_at dksX4_parse_0 6 rfl rfl)
theorem dX4_parse_7 : decode cX4_parse 7 = .ok (.putfield 173, 3) := dk_181 0 173 (dk_at dksX4_parse_0 7 rfl rfl)
theorem dX4_parse_10 : decode cX4_parse 10 = .ok (.aload_n 0, 1) := dk_42 (dk_at dksX4_parse_0 10 rfl rfl)
theorem dX4_parse_11 : decode cX4_parse 11 = .ok (.invokevirtual 142, 3) := dk_182 0 142 (dk_at dksX4_parse_0 11 rfl rfl)
theorem dX4_parse_14 : decode cX4_parse 14 = .ok (.aload_n 0, 1) := dk_42 (dk_at dksX4_parse_0 14 rfl rfl)
theorem dX4_parse_15 : decode cX4_parse 15 = .ok (.invokevirtual 176, 3) := dk_182 0 176 (dk_at dksX4_parse_0 15 rfl rfl)
theorem dX4_parse_18 : decode cX4_parse 18 = .ok (.aload_n 0, 1) := dk_42 (dk_at dksX4_parse_0 18 rfl rfl)
theorem dX4_parse_19 : decode cX4_parse 19 = .ok (.invokevirtual 179, 3) := dk_182 0 179 (dk_at dksX4_parse_0 19 rfl rfl)
theorem dX4_parse_22 : decode cX4_parse 22 = .ok (.aload_n 0, 1) := dk_42 (dk_at dksX4_parse_0 22 rfl rfl)
theorem dX4_parse_23 : decode cX4_parse 23 = .ok (.invokevirtual 112, 3) := dk_182 0 112 (dk_at dksX4_parse_1 0 rfl rfl)
theorem dX4_parse_26 : decode cX4_parse 26 = .ok (.ifCond .eq 12, 3) := dk_153 0 12 (dk_at dksX4_parse_1 3 rfl rfl)
theorem dX4_parse_29 : decode cX4_parse 29 = .ok (.aload_n 0, 1) := dk_42 (dk_at dksX4_parse_1 6 rfl rfl)
theorem dX4_parse_30 : decode cX4_parse 30 = .ok (.ldc 166, 2) := dk_18 166 (dk_at dksX4_parse_1 7 rfl rfl)
theorem dX4_parse_32 : decode cX4_parse 32 = .ok (.invokevirtual 135, 3) := dk_182 0 135 (dk_at dksX4_parse_1 9 rfl rfl)
theorem dX4_parse_35 : decode cX4_parse 35 = .ok (.ifCond .ne (-17), 3) := dk_154 255 239 (dk_at dksX4_parse_1 12 rfl rfl)
theorem dX4_parse_38 : decode cX4_parse 38 = .ok (.aload_n 0, 1) := dk_42 (dk_at dksX4_parse_1 15 rfl rfl)
theorem dX4_parse_39 : decode cX4_parse 39 = .ok (.invokevirtual 112, 3) := dk_182 0 112 (dk_at dksX4_parse_1 16 rfl rfl)
theorem dX4_parse_42 : decode cX4_parse 42 = .ok (.ifCond .eq 17, 3) := dk_153 0 17 (dk_at dksX4_parse_1 19 rfl rfl)
theorem dX4_parse_45 : decode cX4_parse 45 = .ok (.aload_n 0, 1) := dk_42 (dk_at dksX4_parse_1 22 rfl rfl)
theorem dX4_parse_46 : decode cX4_parse 46 = .ok (.getfield 106, 3) := dk_180 0 106 (dk_at dksX4_parse_2 0 rfl rfl)
theorem dX4_parse_49 : decode cX4_parse 49 = .ok (.ifCond .eq 10, 3) := dk_153 0 10 (dk_at dksX4_parse_2 3 rfl rfl)
theorem dX4_parse_52 : decode cX4_parse 52 = .ok (.aload_n 0, 1) := dk_42 (dk_at dksX4_parse_2 6 rfl rfl)
theorem dX4_parse_53 : decode cX4_parse 53 = .ok (.invokevirtual 182, 3) := dk_182 0 182 (dk_at dksX4_parse_2 7 rfl rfl)
theorem dX4_parse_56 : decode cX4_parse 56 = .ok (.goto (-18), 3) := dk_167 255 238 (dk_at dksX4_parse_2 10 rfl rfl)
theorem dX4_parse_59 : decode cX4_parse 59 = .ok (.return_, 1) := dk_177 (dk_at dksX4_parse_2 13 rfl rfl)
abbrev cX4_next : ByteArray := prog_21_method_13_code
def yX4_next : MethodName := ⟨RX4, "next", "()V"⟩
def dkwX4_next_7 : List UInt8 := [167, 0, 4, 4, 181, 0, 106, 42, 89, 180, 0, 94, 4, 96, 181, 0, 94, 177]
abbrev dktX4_next_7 : List UInt8 := dkwX4_next_7 ++ []
def dkwX4_next_6 : List UInt8 := [42, 182, 0, 122, 167, 0, 35, 42, 42, 42, 180, 0, 94, 182, 0, 82, 16, 59, 160, 0, 7, 7]
abbrev dktX4_next_6 : List UInt8 := dkwX4_next_6 ++ dktX4_next_7
def dkwX4_next_5 : List UInt8 := [42, 42, 180, 0, 94, 182, 0, 100, 154, 0, 16, 42, 42, 180, 0, 94, 182, 0, 82, 16, 45, 160, 0, 10]
abbrev dktX4_next_5 : List UInt8 := dkwX4_next_5 ++ dktX4_next_6
def dkwX4_next_4 : List UInt8 := [153, 0, 16, 42, 89, 180, 0, 94, 4, 96, 181, 0, 94, 167, 255, 235, 42, 5, 181, 0, 106, 167, 0, 66]
abbrev dktX4_next_4 : List UInt8 := dkwX4_next_4 ++ dktX4_next_5
def dkwX4_next_3 : List UInt8 := [167, 0, 109, 42, 42, 180, 0, 94, 182, 0, 119, 153, 0, 35, 42, 42, 180, 0, 94, 182, 0, 119]
abbrev dktX4_next_3 : List UInt8 := dkwX4_next_3 ++ dktX4_next_4
def dkwX4_next_2 : List UInt8 := [42, 42, 180, 0, 94, 181, 0, 116, 42, 180, 0, 94, 42, 180, 0, 79, 160, 0, 11, 42, 3, 181, 0, 106]
abbrev dktX4_next_2 : List UInt8 := dkwX4_next_2 ++ dktX4_next_3
def dkwX4_next_1 : List UInt8 := [180, 0, 94, 182, 0, 82, 16, 10, 160, 0, 16, 42, 89, 180, 0, 94, 4, 96, 181, 0, 94, 167, 255, 220]
abbrev dktX4_next_1 : List UInt8 := dkwX4_next_1 ++ dktX4_next_2
def dkwX4_next_0 : List UInt8 := [42, 182, 0, 112, 154, 0, 4, 177, 42, 42, 180, 0, 94, 182, 0, 82, 16, 32, 159, 0, 16, 42, 42]
abbrev dktX4_next_0 : List UInt8 := dkwX4_next_0 ++ dktX4_next_1
theorem dksX4_next_0 : cX4_next.data.toList.drop 0 = dktX4_next_0 := by decide +kernel
theorem dksX4_next_1 : cX4_next.data.toList.drop 23 = dktX4_next_1 := dk_seg dksX4_next_0 23 rfl rfl
theorem dksX4_next_2 : cX4_next.data.toList.drop 47 = dktX4_next_2 := dk_seg dksX4_next_1 24 rfl rfl
theorem dksX4_next_3 : cX4_next.data.toList.drop 71 = dktX4_next_3 := dk_seg dksX4_next_2 24 rfl rfl
theorem dksX4_next_4 : cX4_next.data.toList.drop 93 = dktX4_next_4 := dk_seg dksX4_next_3 22 rfl rfl
theorem dksX4_next_5 : cX4_next.data.toList.drop 117 = dktX4_next_5 := dk_seg dksX4_next_4 24 rfl rfl
theorem dksX4_next_6 : cX4_next.data.toList.drop 141 = dktX4_next_6 := dk_seg dksX4_next_5 24 rfl rfl
theorem dksX4_next_7 : cX4_next.data.toList.drop 163 = dktX4_next_7 := dk_seg dksX4_next_6 22 rfl rfl
theorem dX4_next_0 : decode cX4_next 0 = .ok (.aload_n 0, 1) := dk_42 (dk_at dksX4_next_0 0 rfl rfl)
theorem dX4_next_1 : decode cX4_next 1 = .ok (.invokevirtual 112, 3) := dk_182 0 112 (dk_at dksX4_next_0 1 rfl rfl)
theorem dX4_next_4 : decode cX4_next 4 = .ok (.ifCond .ne 4, 3) := dk_154 0 4 (dk_at dksX4_next_0 4 rfl rfl)
theorem dX4_next_7 : decode cX4_next 7 = .ok (.return_, 1) := dk_177 (dk_at dksX4_next_0 7 rfl rfl)
theorem dX4_next_8 : decode cX4_next 8 = .ok (.aload_n 0, 1) := dk_42 (dk_at dksX4_next_0 8 rfl rfl)
theorem dX4_next_9 : decode cX4_next 9 = .ok (.aload_n 0, 1) := dk_42 (dk_at dksX4_next_0 9 rfl rfl)
theorem dX4_next_10 : decode cX4_next 10 = .ok (.getfield 94, 3) := dk_180 0 94 (dk_at dksX4_next_0 10 rfl rfl)
theorem dX4_next_13 : decode cX4_next 13 = .ok (.invokevirtual 82, 3) := dk_182 0 82 (dk_at dksX4_next_0 13 rfl rfl)
theorem dX4_next_16 : decode cX4_next 16 = .ok (.bipush 32, 2) := dk_16 32 (dk_at dksX4_next_0 16 rfl rfl)
theorem dX4_next_18 : decode cX4_next 18 = .ok (.if_icmp .eq 16, 3) := dk_159 0 16 (dk_at dksX4_next_0 18 rfl rfl)
theorem dX4_next_21 : decode cX4_next 21 = .ok (.aload_n 0, 1) := dk_42 (dk_at dksX4_next_0 21 rfl rfl)
theorem dX4_next_22 : decode cX4_next 22 = .ok (.aload_n 0, 1) := dk_42 (dk_at dksX4_next_0 22 rfl rfl)
theorem dX4_next_23 : decode cX4_next 23 = .ok (.getfield 94, 3) := dk_180 0 94 (dk_at dksX4_next_1 0 rfl rfl)
theorem dX4_next_26 : decode cX4_next 26 = .ok (.invokevirtual 82, 3) := dk_182 0 82 (dk_at dksX4_next_1 3 rfl rfl)
theorem dX4_next_29 : decode cX4_next 29 = .ok (.bipush 10, 2) := dk_16 10 (dk_at dksX4_next_1 6 rfl rfl)
theorem dX4_next_31 : decode cX4_next 31 = .ok (.if_icmp .ne 16, 3) := dk_160 0 16 (dk_at dksX4_next_1 8 rfl rfl)
theorem dX4_next_34 : decode cX4_next 34 = .ok (.aload_n 0, 1) := dk_42 (dk_at dksX4_next_1 11 rfl rfl)
theorem dX4_next_35 : decode cX4_next 35 = .ok (.dup, 1) := dk_89 (dk_at dksX4_next_1 12 rfl rfl)
theorem dX4_next_36 : decode cX4_next 36 = .ok (.getfield 94, 3) := dk_180 0 94 (dk_at dksX4_next_1 13 rfl rfl)
theorem dX4_next_39 : decode cX4_next 39 = .ok (.iconst 1, 1) := dk_4 (dk_at dksX4_next_1 16 rfl rfl)
theorem dX4_next_40 : decode cX4_next 40 = .ok (.iadd, 1) := dk_96 (dk_at dksX4_next_1 17 rfl rfl)
theorem dX4_next_41 : decode cX4_next 41 = .ok (.putfield 94, 3) := dk_181 0 94 (dk_at dksX4_next_1 18 rfl rfl)
theorem dX4_next_44 : decode cX4_next 44 = .ok (.goto (-36), 3) := dk_167 255 220 (dk_at dksX4_next_1 21 rfl rfl)
theorem dX4_next_47 : decode cX4_next 47 = .ok (.aload_n 0, 1) := dk_42 (dk_at dksX4_next_2 0 rfl rfl)
theorem dX4_next_48 : decode cX4_next 48 = .ok (.aload_n 0, 1) := dk_42 (dk_at dksX4_next_2 1 rfl rfl)
theorem dX4_next_49 : decode cX4_next 49 = .ok (.getfield 94, 3) := dk_180 0 94 (dk_at dksX4_next_2 2 rfl rfl)
theorem dX4_next_52 : decode cX4_next 52 = .ok (.putfield 116, 3) := dk_181 0 116 (dk_at dksX4_next_2 5 rfl rfl)
theorem dX4_next_55 : decode cX4_next 55 = .ok (.aload_n 0, 1) := dk_42 (dk_at dksX4_next_2 8 rfl rfl)
theorem dX4_next_56 : decode cX4_next 56 = .ok (.getfield 94, 3) := dk_180 0 94 (dk_at dksX4_next_2 9 rfl rfl)
theorem dX4_next_59 : decode cX4_next 59 = .ok (.aload_n 0, 1) := dk_42 (dk_at dksX4_next_2 12 rfl rfl)
theorem dX4_next_60 : decode cX4_next 60 = .ok (.getfield 79, 3) := dk_180 0 79 (dk_at dksX4_next_2 13 rfl rfl)
theorem dX4_next_63 : decode cX4_next 63 = .ok (.if_icmp .ne 11, 3) := dk_160 0 11 (dk_at dksX4_next_2 16 rfl rfl)
theorem dX4_next_66 : decode cX4_next 66 = .ok (.aload_n 0, 1) := dk_42 (dk_at dksX4_next_2 19 rfl rfl)
theorem dX4_next_67 : decode cX4_next 67 = .ok (.iconst 0, 1) := dk_3 (dk_at dksX4_next_2 20 rfl rfl)
theorem dX4_next_68 : decode cX4_next 68 = .ok (.putfield 106, 3) := dk_181 0 106 (dk_at dksX4_next_2 21 rfl rfl)
theorem dX4_next_71 : decode cX4_next 71 = .ok (.goto 109, 3) := dk_167 0 109 (dk_at dksX4_next_3 0 rfl rfl)
theorem dX4_next_74 : decode cX4_next 74 = .ok (.aload_n 0, 1) := dk_42 (dk_at dksX4_next_3 3 rfl rfl)
theorem dX4_next_75 : decode cX4_next 75 = .ok (.aload_n 0, 1) := dk_42 (dk_at dksX4_next_3 4 rfl rfl)
theorem dX4_next_76 : decode cX4_next 76 = .ok (.getfield 94, 3) := dk_180 0 94 (dk_at dksX4_next_3 5 rfl rfl)
theorem dX4_next_79 : decode cX4_next 79 = .ok (.invokevirtual 119, 3) := dk_182 0 119 (dk_at dksX4_next_3 8 rfl rfl)
theorem dX4_next_82 : decode cX4_next 82 = .ok (.ifCond .eq 35, 3) := dk_153 0 35 (dk_at dksX4_next_3 11 rfl rfl)
theorem dX4_next_85 : decode cX4_next 85 = .ok (.aload_n 0, 1) := dk_42 (dk_at dksX4_next_3 14 rfl rfl)
theorem dX4_next_86 : decode cX4_next 86 = .ok (.aload_n 0, 1) := dk_42 (dk_at dksX4_next_3 15 rfl rfl)
theorem dX4_next_87 : decode cX4_next 87 = .ok (.getfield 94, 3) := dk_180 0 94 (dk_at dksX4_next_3 16 rfl rfl)
theorem dX4_next_90 : decode cX4_next 90 = .ok (.invokevirtual 119, 3) := dk_182 0 119 (dk_at dksX4_next_3 19 rfl rfl)
theorem dX4_next_93 : decode cX4_next 93 = .ok (.ifCond .eq 16, 3) := dk_153 0 16 (dk_at dksX4_next_4 0 rfl rfl)
theorem dX4_next_96 : decode cX4_next 96 = .ok (.aload_n 0, 1) := dk_42 (dk_at dksX4_next_4 3 rfl rfl)
theorem dX4_next_97 : decode cX4_next 97 = .ok (.dup, 1) := dk_89 (dk_at dksX4_next_4 4 rfl rfl)
theorem dX4_next_98 : decode cX4_next 98 = .ok (.getfield 94, 3) := dk_180 0 94 (dk_at dksX4_next_4 5 rfl rfl)
theorem dX4_next_101 : decode cX4_next 101 = .ok (.iconst 1, 1) := dk_4 (dk_at dksX4_next_4 8 rfl rfl)
theorem dX4_next_102 : decode cX4_next 102 = .ok (.iadd, 1) := dk_96 (dk_at dksX4_next_4 9 rfl rfl)
theorem dX4_next_103 : decode cX4_next 103 = .ok (.putfield 94, 3) := dk_181 0 94 (dk_at dksX4_next_4 10 rfl rfl)
theorem dX4_next_106 : decode cX4_next 106 = .ok (.goto (-21), 3) := dk_167 255 235 (dk_at dksX4_next_4 13 rfl rfl)
theorem dX4_next_109 : decode cX4_next 109 = .ok (.aload_n 0, 1) := dk_42 (dk_at dksX4_next_4 16 rfl rfl)
theorem dX4_next_110 : decode cX4_next 110 = .ok (.iconst 2, 1) := dk_5 (dk_at dksX4_next_4 17 rfl rfl)
theorem dX4_next_111 : decode cX4_next 111 = .ok (.putfield 106, 3) := dk_181 0 106 (dk_at dksX4_next_4 18 rfl rfl)
theorem dX4_next_114 : decode cX4_next 114 = .ok (.goto 66, 3) := dk_167 0 66 (dk_at dksX4_next_4 21 rfl rfl)
theorem dX4_next_117 : decode cX4_next 117 = .ok (.aload_n 0, 1) := dk_42 (dk_at dksX4_next_5 0 rfl rfl)
theorem dX4_next_118 : decode cX4_next 118 = .ok (.aload_n 0, 1) := dk_42 (dk_at dksX4_next_5 1 rfl rfl)
theorem dX4_next_119 : decode cX4_next 119 = .ok (.getfield 94, 3) := dk_180 0 94 (dk_at dksX4_next_5 2 rfl rfl)
theorem dX4_next_122 : decode cX4_next 122 = .ok (.invokevirtual 100, 3) := dk_182 0 100 (dk_at dksX4_next_5 5 rfl rfl)
theorem dX4_next_125 : decode cX4_next 125 = .ok (.ifCond .ne 16, 3) := dk_154 0 16 (dk_at dksX4_next_5 8 rfl rfl)
theorem dX4_next_128 : decode cX4_next 128 = .ok (.aload_n 0, 1) := dk_42 (dk_at dksX4_next_5 11 rfl rfl)
theorem dX4_next_129 : decode cX4_next 129 = .ok (.aload_n 0, 1) := dk_42 (dk_at dksX4_next_5 12 rfl rfl)
theorem dX4_next_130 : decode cX4_next 130 = .ok (.getfield 94, 3) := dk_180 0 94 (dk_at dksX4_next_5 13 rfl rfl)
theorem dX4_next_133 : decode cX4_next 133 = .ok (.invokevirtual 82, 3) := dk_182 0 82 (dk_at dksX4_next_5 16 rfl rfl)
theorem dX4_next_136 : decode cX4_next 136 = .ok (.bipush 45, 2) := dk_16 45 (dk_at dksX4_next_5 19 rfl rfl)
theorem dX4_next_138 : decode cX4_next 138 = .ok (.if_icmp .ne 10, 3) := dk_160 0 10 (dk_at dksX4_next_5 21 rfl rfl)
theorem dX4_next_141 : decode cX4_next 141 = .ok (.aload_n 0, 1) := dk_42 (dk_at dksX4_next_6 0 rfl rfl)
theorem dX4_next_142 : decode cX4_next 142 = .ok (.invokevirtual 122, 3) := dk_182 0 122 (dk_at dksX4_next_6 1 rfl rfl)
theorem dX4_next_145 : decode cX4_next 145 = .ok (.goto 35, 3) := dk_167 0 35 (dk_at dksX4_next_6 4 rfl rfl)
theorem dX4_next_148 : decode cX4_next 148 = .ok (.aload_n 0, 1) := dk_42 (dk_at dksX4_next_6 7 rfl rfl)
theorem dX4_next_149 : decode cX4_next 149 = .ok (.aload_n 0, 1) := dk_42 (dk_at dksX4_next_6 8 rfl rfl)
theorem dX4_next_150 : decode cX4_next 150 = .ok (.aload_n 0, 1) := dk_42 (dk_at dksX4_next_6 9 rfl rfl)
theorem dX4_next_151 : decode cX4_next 151 = .ok (.getfield 94, 3) := dk_180 0 94 (dk_at dksX4_next_6 10 rfl rfl)
theorem dX4_next_154 : decode cX4_next 154 = .ok (.invokevirtual 82, 3) := dk_182 0 82 (dk_at dksX4_next_6 13 rfl rfl)
theorem dX4_next_157 : decode cX4_next 157 = .ok (.bipush 59, 2) := dk_16 59 (dk_at dksX4_next_6 16 rfl rfl)
theorem dX4_next_159 : decode cX4_next 159 = .ok (.if_icmp .ne 7, 3) := dk_160 0 7 (dk_at dksX4_next_6 18 rfl rfl)
theorem dX4_next_162 : decode cX4_next 162 = .ok (.iconst 4, 1) := dk_7 (dk_at dksX4_next_6 21 rfl rfl)
theorem dX4_next_163 : decode cX4_next 163 = .ok (.goto 4, 3) := dk_167 0 4 (dk_at dksX4_next_7 0 rfl rfl)
theorem dX4_next_166 : decode cX4_next 166 = .ok (.iconst 1, 1) := dk_4 (dk_at dksX4_next_7 3 rfl rfl)
theorem dX4_next_167 : decode cX4_next 167 = .ok (.putfield 106, 3) := dk_181 0 106 (dk_at dksX4_next_7 4 rfl rfl)
theorem dX4_next_170 : decode cX4_next 170 = .ok (.aload_n 0, 1) := dk_42 (dk_at dksX4_next_7 7 rfl rfl)
theorem dX4_next_171 : decode cX4_next 171 = .ok (.dup, 1) := dk_89 (dk_at dksX4_next_7 8 rfl rfl)
theorem dX4_next_172 : decode cX4_next 172 = .ok (.getfield 94, 3) := dk_180 0 94 (dk_at dksX4_next_7 9 rfl rfl)
theorem dX4_next_175 : decode cX4_next 175 = .ok (.iconst 1, 1) := dk_4 (dk_at dksX4_next_7 12 rfl rfl)
theorem dX4_next_176 : decode cX4_next 176 = .ok (.iadd, 1) := dk_96 (dk_at dksX4_next_7 13 rfl rfl)
theorem dX4_next_177 : decode cX4_next 177 = .ok (.putfield 94, 3) := dk_181 0 94 (dk_at dksX4_next_7 14 rfl rfl)
theorem dX4_next_180 : decode cX4_next 180 = .ok (.return_, 1) := dk_177 (dk_at dksX4_next_7 17 rfl rfl)
abbrev cX4_isFine : ByteArray := prog_21_method_12_code
def yX4_isFine : MethodName := ⟨RX4, "isFine", "()Z"⟩
def dkwX4_isFine_0 : List UInt8 := [42, 180, 0, 109, 154, 0, 7, 4, 167, 0, 4, 3, 172]
abbrev dktX4_isFine_0 : List UInt8 := dkwX4_isFine_0 ++ []
theorem dksX4_isFine_0 : cX4_isFine.data.toList.drop 0 = dktX4_isFine_0 := by decide +kernel
theorem dX4_isFine_0 : decode cX4_isFine 0 = .ok (.aload_n 0, 1) := dk_42 (dk_at dksX4_isFine_0 0 rfl rfl)
theorem dX4_isFine_1 : decode cX4_isFine 1 = .ok (.getfield 109, 3) := dk_180 0 109 (dk_at dksX4_isFine_0 1 rfl rfl)
theorem dX4_isFine_4 : decode cX4_isFine 4 = .ok (.ifCond .ne 7, 3) := dk_154 0 7 (dk_at dksX4_isFine_0 4 rfl rfl)
theorem dX4_isFine_7 : decode cX4_isFine 7 = .ok (.iconst 1, 1) := dk_4 (dk_at dksX4_isFine_0 7 rfl rfl)
theorem dX4_isFine_8 : decode cX4_isFine 8 = .ok (.goto 4, 3) := dk_167 0 4 (dk_at dksX4_isFine_0 8 rfl rfl)
theorem dX4_isFine_11 : decode cX4_isFine 11 = .ok (.iconst 0, 1) := dk_3 (dk_at dksX4_isFine_0 11 rfl rfl)
theorem dX4_isFine_12 : decode cX4_isFine 12 = .ok (.ireturn, 1) := dk_172 (dk_at dksX4_isFine_0 12 rfl rfl)
abbrev cX4_byteAt : ByteArray := prog_21_method_8_code
def yX4_byteAt : MethodName := ⟨RX4, "byteAt", "(I)I"⟩
def dkwX4_byteAt_0 : List UInt8 := [27, 42, 180, 0, 79, 162, 0, 12, 42, 180, 0, 33, 27, 46, 167, 0, 4, 2, 172]
abbrev dktX4_byteAt_0 : List UInt8 := dkwX4_byteAt_0 ++ []
theorem dksX4_byteAt_0 : cX4_byteAt.data.toList.drop 0 = dktX4_byteAt_0 := by decide +kernel
theorem dX4_byteAt_0 : decode cX4_byteAt 0 = .ok (.iload_n 1, 1) := dk_27 (dk_at dksX4_byteAt_0 0 rfl rfl)
theorem dX4_byteAt_1 : decode cX4_byteAt 1 = .ok (.aload_n 0, 1) := dk_42 (dk_at dksX4_byteAt_0 1 rfl rfl)
theorem dX4_byteAt_2 : decode cX4_byteAt 2 = .ok (.getfield 79, 3) := dk_180 0 79 (dk_at dksX4_byteAt_0 2 rfl rfl)
theorem dX4_byteAt_5 : decode cX4_byteAt 5 = .ok (.if_icmp .ge 12, 3) := dk_162 0 12 (dk_at dksX4_byteAt_0 5 rfl rfl)
theorem dX4_byteAt_8 : decode cX4_byteAt 8 = .ok (.aload_n 0, 1) := dk_42 (dk_at dksX4_byteAt_0 8 rfl rfl)
theorem dX4_byteAt_9 : decode cX4_byteAt 9 = .ok (.getfield 33, 3) := dk_180 0 33 (dk_at dksX4_byteAt_0 9 rfl rfl)
theorem dX4_byteAt_12 : decode cX4_byteAt 12 = .ok (.iload_n 1, 1) := dk_27 (dk_at dksX4_byteAt_0 12 rfl rfl)
theorem dX4_byteAt_13 : decode cX4_byteAt 13 = .ok (.iaload, 1) := dk_46 (dk_at dksX4_byteAt_0 13 rfl rfl)
theorem dX4_byteAt_14 : decode cX4_byteAt 14 = .ok (.goto 4, 3) := dk_167 0 4 (dk_at dksX4_byteAt_0 14 rfl rfl)
theorem dX4_byteAt_17 : decode cX4_byteAt 17 = .ok (.iconst (-1), 1) := dk_2 (dk_at dksX4_byteAt_0 17 rfl rfl)
theorem dX4_byteAt_18 : decode cX4_byteAt 18 = .ok (.ireturn, 1) := dk_172 (dk_at dksX4_byteAt_0 18 rfl rfl)
abbrev cX4_isLetterAt : ByteArray := prog_21_method_9_code
def yX4_isLetterAt : MethodName := ⟨RX4, "isLetterAt", "(I)Z"⟩
def dkwX4_isLetterAt_0 : List UInt8 := [42, 27, 182, 0, 82, 133, 20, 0, 86, 20, 0, 88, 184, 0, 75, 172]
abbrev dktX4_isLetterAt_0 : List UInt8 := dkwX4_isLetterAt_0 ++ []
theorem dksX4_isLetterAt_0 : cX4_isLetterAt.data.toList.drop 0 = dktX4_isLetterAt_0 := by decide +kernel
theorem dX4_isLetterAt_0 : decode cX4_isLetterAt 0 = .ok (.aload_n 0, 1) := dk_42 (dk_at dksX4_isLetterAt_0 0 rfl rfl)
theorem dX4_isLetterAt_1 : decode cX4_isLetterAt 1 = .ok (.iload_n 1, 1) := dk_27 (dk_at dksX4_isLetterAt_0 1 rfl rfl)
theorem dX4_isLetterAt_2 : decode cX4_isLetterAt 2 = .ok (.invokevirtual 82, 3) := dk_182 0 82 (dk_at dksX4_isLetterAt_0 2 rfl rfl)
theorem dX4_isLetterAt_5 : decode cX4_isLetterAt 5 = .ok (.i2l, 1) := dk_133 (dk_at dksX4_isLetterAt_0 5 rfl rfl)
theorem dX4_isLetterAt_6 : decode cX4_isLetterAt 6 = .ok (.ldc2_w 86, 3) := dk_20 0 86 (dk_at dksX4_isLetterAt_0 6 rfl rfl)
theorem dX4_isLetterAt_9 : decode cX4_isLetterAt 9 = .ok (.ldc2_w 88, 3) := dk_20 0 88 (dk_at dksX4_isLetterAt_0 9 rfl rfl)
theorem dX4_isLetterAt_12 : decode cX4_isLetterAt 12 = .ok (.invokestatic 75, 3) := dk_184 0 75 (dk_at dksX4_isLetterAt_0 12 rfl rfl)
theorem dX4_isLetterAt_15 : decode cX4_isLetterAt 15 = .ok (.ireturn, 1) := dk_172 (dk_at dksX4_isLetterAt_0 15 rfl rfl)
abbrev cX4_isDigitAt : ByteArray := prog_21_method_10_code
def yX4_isDigitAt : MethodName := ⟨RX4, "isDigitAt", "(I)Z"⟩
def dkwX4_isDigitAt_0 : List UInt8 := [42, 27, 182, 0, 82, 133, 20, 0, 90, 20, 0, 92, 184, 0, 75, 172]
abbrev dktX4_isDigitAt_0 : List UInt8 := dkwX4_isDigitAt_0 ++ []
theorem dksX4_isDigitAt_0 : cX4_isDigitAt.data.toList.drop 0 = dktX4_isDigitAt_0 := by decide +kernel
theorem dX4_isDigitAt_0 : decode cX4_isDigitAt 0 = .ok (.aload_n 0, 1) := dk_42 (dk_at dksX4_isDigitAt_0 0 rfl rfl)
theorem dX4_isDigitAt_1 : decode cX4_isDigitAt 1 = .ok (.iload_n 1, 1) := dk_27 (dk_at dksX4_isDigitAt_0 1 rfl rfl)
theorem dX4_isDigitAt_2 : decode cX4_isDigitAt 2 = .ok (.invokevirtual 82, 3) := dk_182 0 82 (dk_at dksX4_isDigitAt_0 2 rfl rfl)
theorem dX4_isDigitAt_5 : decode cX4_isDigitAt 5 = .ok (.i2l, 1) := dk_133 (dk_at dksX4_isDigitAt_0 5 rfl rfl)
theorem dX4_isDigitAt_6 : decode cX4_isDigitAt 6 = .ok (.ldc2_w 90, 3) := dk_20 0 90 (dk_at dksX4_isDigitAt_0 6 rfl rfl)
theorem dX4_isDigitAt_9 : decode cX4_isDigitAt 9 = .ok (.ldc2_w 92, 3) := dk_20 0 92 (dk_at dksX4_isDigitAt_0 9 rfl rfl)
theorem dX4_isDigitAt_12 : decode cX4_isDigitAt 12 = .ok (.invokestatic 75, 3) := dk_184 0 75 (dk_at dksX4_isDigitAt_0 12 rfl rfl)
theorem dX4_isDigitAt_15 : decode cX4_isDigitAt 15 = .ok (.ireturn, 1) := dk_172 (dk_at dksX4_isDigitAt_0 15 rfl rfl)
abbrev cX4_readNumber : ByteArray := prog_21_method_11_code
def yX4_readNumber : MethodName := ⟨RX4, "readNumber", "()V"⟩
def dkwX4_readNumber_5 : List UInt8 := [153, 0, 7, 6, 167, 0, 4, 4, 181, 0, 106, 177]
abbrev dktX4_readNumber_5 : List UInt8 := dkwX4_readNumber_5 ++ []
def dkwX4_readNumber_4 : List UInt8 := [153, 0, 12, 42, 42, 180, 0, 97, 116, 181, 0, 97, 42, 28, 133, 10, 20, 0, 104, 184, 0, 75]
abbrev dktX4_readNumber_4 : List UInt8 := dkwX4_readNumber_4 ++ dktX4_readNumber_5
def dkwX4_readNumber_3 : List UInt8 := [96, 16, 48, 100, 181, 0, 97, 132, 2, 1, 42, 89, 180, 0, 94, 4, 96, 181, 0, 94, 167, 255, 204, 27]
abbrev dktX4_readNumber_3 : List UInt8 := dkwX4_readNumber_3 ++ dktX4_readNumber_4
def dkwX4_readNumber_2 : List UInt8 := [153, 0, 47, 28, 8, 162, 0, 26, 42, 16, 10, 42, 180, 0, 97, 104, 42, 42, 180, 0, 94, 182, 0, 82]
abbrev dktX4_readNumber_2 : List UInt8 := dkwX4_readNumber_2 ++ dktX4_readNumber_3
def dkwX4_readNumber_1 : List UInt8 := [89, 180, 0, 94, 4, 96, 181, 0, 94, 3, 61, 42, 3, 181, 0, 97, 42, 42, 180, 0, 94, 182, 0, 100]
abbrev dktX4_readNumber_1 : List UInt8 := dkwX4_readNumber_1 ++ dktX4_readNumber_2
def dkwX4_readNumber_0 : List UInt8 := [42, 42, 180, 0, 94, 182, 0, 82, 16, 45, 160, 0, 7, 4, 167, 0, 4, 3, 60, 27, 153, 0, 13, 42]
abbrev dktX4_readNumber_0 : List UInt8 := dkwX4_readNumber_0 ++ dktX4_readNumber_1
theorem dksX4_readNumber_0 : cX4_readNumber.data.toList.drop 0 = dktX4_readNumber_0 := by decide +kernel
theorem dksX4_readNumber_1 : cX4_readNumber.data.toList.drop 24 = dktX4_readNumber_1 := dk_seg dksX4_readNumber_0 24 rfl rfl
theorem dksX4_readNumber_2 : cX4_readNumber.data.toList.drop 48 = dktX4_readNumber_2 := dk_seg dksX4_readNumber_1 24 rfl rfl
theorem dksX4_readNumber_3 : cX4_readNumber.data.toList.drop 72 = dktX4_readNumber_3 := dk_seg dksX4_readNumber_2 24 rfl rfl
theorem dksX4_readNumber_4 : cX4_readNumber.data.toList.drop 96 = dktX4_readNumber_4 := dk_seg dksX4_readNumber_3 24 rfl rfl
theorem dksX4_readNumber_5 : cX4_readNumber.data.toList.drop 118 = dktX4_readNumber_5 := dk_seg dksX4_readNumber_4 22 rfl rfl
theorem dX4_readNumber_0 : decode cX4_readNumber 0 = .ok (.aload_n 0, 1) := dk_42 (dk_at dksX4_readNumber_0 0 rfl rfl)
theorem dX4_readNumber_1 : decode cX4_readNumber 1 = .ok (.aload_n 0, 1) := dk_42 (dk_at dksX4_readNumber_0 1 rfl rfl)
theorem dX4_readNumber_2 : decode cX4_readNumber 2 = .ok (.getfield 94, 3) := dk_180 0 94 (dk_at dksX4_readNumber_0 2 rfl rfl)
theorem dX4_readNumber_5 : decode cX4_readNumber 5 = .ok (.invokevirtual 82, 3) := dk_182 0 82 (dk_at dksX4_readNumber_0 5 rfl rfl)
theorem dX4_readNumber_8 : decode cX4_readNumber 8 = .ok (.bipush 45, 2) := dk_16 45 (dk_at dksX4_readNumber_0 8 rfl rfl)
theorem dX4_readNumber_10 : decode cX4_readNumber 10 = .ok (.if_icmp .ne 7, 3) := dk_160 0 7 (dk_at dksX4_readNumber_0 10 rfl rfl)
theorem dX4_readNumber_13 : decode cX4_readNumber 13 = .ok (.iconst 1, 1) := dk_4 (dk_at dksX4_readNumber_0 13 rfl rfl)
theorem dX4_readNumber_14 : decode cX4_readNumber 14 = .ok (.goto 4, 3) := dk_167 0 4 (dk_at dksX4_readNumber_0 14 rfl rfl)
theorem dX4_readNumber_17 : decode cX4_readNumber 17 = .ok (.iconst 0, 1) := dk_3 (dk_at dksX4_readNumber_0 17 rfl rfl)
theorem dX4_readNumber_18 : decode cX4_readNumber 18 = .ok (.istore_n 1, 1) := dk_60 (dk_at dksX4_readNumber_0 18 rfl rfl)
theorem dX4_readNumber_19 : decode cX4_readNumber 19 = .ok (.iload_n 1, 1) := dk_27 (dk_at dksX4_readNumber_0 19 rfl rfl)
theorem dX4_readNumber_20 : decode cX4_readNumber 20 = .ok (.ifCond .eq 13, 3) := dk_153 0 13 (dk_at dksX4_readNumber_0 20 rfl rfl)
theorem dX4_readNumber_23 : decode cX4_readNumber 23 = .ok (.aload_n 0, 1) := dk_42 (dk_at dksX4_readNumber_0 23 rfl rfl)
theorem dX4_readNumber_24 : decode cX4_readNumber 24 = .ok (.dup, 1) := dk_89 (dk_at dksX4_readNumber_1 0 rfl rfl)
theorem dX4_readNumber_25 : decode cX4_readNumber 25 = .ok (.getfield 94, 3) := dk_180 0 94 (dk_at dksX4_readNumber_1 1 rfl rfl)
theorem dX4_readNumber_28 : decode cX4_readNumber 28 = .ok (.iconst 1, 1) := dk_4 (dk_at dksX4_readNumber_1 4 rfl rfl)
theorem dX4_readNumber_29 : decode cX4_readNumber 29 = .ok (.iadd, 1) := dk_96 (dk_at dksX4_readNumber_1 5 rfl rfl)
theorem dX4_readNumber_30 : decode cX4_readNumber 30 = .ok (.putfield 94, 3) := dk_181 0 94 (dk_at dksX4_readNumber_1 6 rfl rfl)
theorem dX4_readNumber_33 : decode cX4_readNumber 33 = .ok (.iconst 0, 1) := dk_3 (dk_at dksX4_readNumber_1 9 rfl rfl)
theorem dX4_readNumber_34 : decode cX4_readNumber 34 = .ok (.istore_n 2, 1) := dk_61 (dk_at dksX4_readNumber_1 10 rfl rfl)
theorem dX4_readNumber_35 : decode cX4_readNumber 35 = .ok (.aload_n 0, 1) := dk_42 (dk_at dksX4_readNumber_1 11 rfl rfl)
theorem dX4_readNumber_36 : decode cX4_readNumber 36 = .ok (.iconst 0, 1) := dk_3 (dk_at dksX4_readNumber_1 12 rfl rfl)
theorem dX4_readNumber_37 : decode cX4_readNumber 37 = .ok (.putfield 97, 3) := dk_181 0 97 (dk_at dksX4_readNumber_1 13 rfl rfl)
theorem dX4_readNumber_40 : decode cX4_readNumber 40 = .ok (.aload_n 0, 1) := dk_42 (dk_at dksX4_readNumber_1 16 rfl rfl)
theorem dX4_readNumber_41 : decode cX4_readNumber 41 = .ok (.aload_n 0, 1) := dk_42 (dk_at dksX4_readNumber_1 17 rfl rfl)
theorem dX4_readNumber_42 : decode cX4_readNumber 42 = .ok (.getfield 94, 3) := dk_180 0 94 (dk_at dksX4_readNumber_1 18 rfl rfl)
theorem dX4_readNumber_45 : decode cX4_readNumber 45 = .ok (.invokevirtual 100, 3) := dk_182 0 100 (dk_at dksX4_readNumber_1 21 rfl rfl)
theorem dX4_readNumber_48 : decode cX4_readNumber 48 = .ok (.ifCond .eq 47, 3) := dk_153 0 47 (dk_at dksX4_readNumber_2 0 rfl rfl)
theorem dX4_readNumber_51 : decode cX4_readNumber 51 = .ok (.iload_n 2, 1) := dk_28 (dk_at dksX4_readNumber_2 3 rfl rfl)
theorem dX4_readNumber_52 : decode cX4_readNumber 52 = .ok (.iconst 5, 1) := dk_8 (dk_at dksX4_readNumber_2 4 rfl rfl)
theorem dX4_readNumber_53 : decode cX4_readNumber 53 = .ok (.if_icmp .ge 26, 3) := dk_162 0 26 (dk_at dksX4_readNumber_2 5 rfl rfl)
theorem dX4_readNumber_56 : decode cX4_readNumber 56 = .ok (.aload_n 0, 1) := dk_42 (dk_at dksX4_readNumber_2 8 rfl rfl)
theorem dX4_readNumber_57 : decode cX4_readNumber 57 = .ok (.bipush 10, 2) := dk_16 10 (dk_at dksX4_readNumber_2 9 rfl rfl)
theorem dX4_readNumber_59 : decode cX4_readNumber 59 = .ok (.aload_n 0, 1) := dk_42 (dk_at dksX4_readNumber_2 11 rfl rfl)
theorem dX4_readNumber_60 : decode cX4_readNumber 60 = .ok (.getfield 97, 3) := dk_180 0 97 (dk_at dksX4_readNumber_2 12 rfl rfl)
theorem dX4_readNumber_63 : decode cX4_readNumber 63 = .ok (.imul, 1) := dk_104 (dk_at dksX4_readNumber_2 15 rfl rfl)
theorem dX4_readNumber_64 : decode cX4_readNumber 64 = .ok (.aload_n 0, 1) := dk_42 (dk_at dksX4_readNumber_2 16 rfl rfl)
theorem dX4_readNumber_65 : decode cX4_readNumber 65 = .ok (.aload_n 0, 1) := dk_42 (dk_at dksX4_readNumber_2 17 rfl rfl)
theorem dX4_readNumber_66 : decode cX4_readNumber 66 = .ok (.getfield 94, 3) := dk_180 0 94 (dk_at dksX4_readNumber_2 18 rfl rfl)
theorem dX4_readNumber_69 : decode cX4_readNumber 69 = .ok (.invokevirtual 82, 3) := dk_182 0 82 (dk_at dksX4_readNumber_2 21 rfl rfl)
theorem dX4_readNumber_72 : decode cX4_readNumber 72 = .ok (.iadd, 1) := dk_96 (dk_at dksX4_readNumber_3 0 rfl rfl)
theorem dX4_readNumber_73 : decode cX4_readNumber 73 = .ok (.bipush 48, 2) := dk_16 48 (dk_at dksX4_readNumber_3 1 rfl rfl)
theorem dX4_readNumber_75 : decode cX4_readNumber 75 = .ok (.isub, 1) := dk_100 (dk_at dksX4_readNumber_3 3 rfl rfl)
theorem dX4_readNumber_76 : decode cX4_readNumber 76 = .ok (.putfield 97, 3) := dk_181 0 97 (dk_at dksX4_readNumber_3 4 rfl rfl)
theorem dX4_readNumber_79 : decode cX4_readNumber 79 = .ok (.iinc 2 1, 3) := dk_132 2 1 (dk_at dksX4_readNumber_3 7 rfl rfl)
theorem dX4_readNumber_82 : decode cX4_readNumber 82 = .ok (.aload_n 0, 1) := dk_42 (dk_at dksX4_readNumber_3 10 rfl rfl)
theorem dX4_readNumber_83 : decode cX4_readNumber 83 = .ok (.dup, 1) := dk_89 (dk_at dksX4_readNumber_3 11 rfl rfl)
theorem dX4_readNumber_84 : decode cX4_readNumber 84 = .ok (.getfield 94, 3) := dk_180 0 94 (dk_at dksX4_readNumber_3 12 rfl rfl)
theorem dX4_readNumber_87 : decode cX4_readNumber 87 = .ok (.iconst 1, 1) := dk_4 (dk_at dksX4_readNumber_3 15 rfl rfl)
theorem dX4_readNumber_88 : decode cX4_readNumber 88 = .ok (.iadd, 1) := dk_96 (dk_at dksX4_readNumber_3 16 rfl rfl)
theorem dX4_readNumber_89 : decode cX4_readNumber 89 = .ok (.putfield 94, 3) := dk_181 0 94 (dk_at dksX4_readNumber_3 17 rfl rfl)
theorem dX4_readNumber_92 : decode cX4_readNumber 92 = .ok (.goto (-52), 3) := dk_167 255 204 (dk_at dksX4_readNumber_3 20 rfl rfl)
theorem dX4_readNumber_95 : decode cX4_readNumber 95 = .ok (.iload_n 1, 1) := dk_27 (dk_at dksX4_readNumber_3 23 rfl rfl)
theorem dX4_readNumber_96 : decode cX4_readNumber 96 = .ok (.ifCond .eq 12, 3) := dk_153 0 12 (dk_at dksX4_readNumber_4 0 rfl rfl)
theorem dX4_readNumber_99 : decode cX4_readNumber 99 = .ok (.aload_n 0, 1) := dk_42 (dk_at dksX4_readNumber_4 3 rfl rfl)
theorem dX4_readNumber_100 : decode cX4_readNumber 100 = .ok (.aload_n 0, 1) := dk_42 (dk_at dksX4_readNumber_4 4 rfl rfl)
theorem dX4_readNumber_101 : decode cX4_readNumber 101 = .ok (.getfield 97, 3) := dk_180 0 97 (dk_at dksX4_readNumber_4 5 rfl rfl)
theorem dX4_readNumber_104 : decode cX4_readNumber 104 = .ok (.ineg, 1) := dk_116 (dk_at dksX4_readNumber_4 8 rfl rfl)
theorem dX4_readNumber_105 : decode cX4_readNumber 105 = .ok (.putfield 97, 3) := dk_181 0 97 (dk_at dksX4_readNumber_4 9 rfl rfl)
theorem dX4_readNumber_108 : decode cX4_readNumber 108 = .ok (.aload_n 0, 1) := dk_42 (dk_at dksX4_readNumber_4 12 rfl rfl)
theorem dX4_readNumber_109 : decode cX4_readNumber 109 = .ok (.iload_n 2, 1) := dk_28 (dk_at dksX4_readNumber_4 13 rfl rfl)
theorem dX4_readNumber_110 : decode cX4_readNumber 110 = .ok (.i2l, 1) := dk_133 (dk_at dksX4_readNumber_4 14 rfl rfl)
theorem dX4_readNumber_111 : decode cX4_readNumber 111 = .ok (.lconst 1, 1) := dk_10 (dk_at dksX4_readNumber_4 15 rfl rfl)
theorem dX4_readNumber_112 : decode cX4_readNumber 112 = .ok (.ldc2_w 104, 3) := dk_20 0 104 (dk_at dksX4_readNumber_4 16 rfl rfl)
theorem dX4_readNumber_115 : decode cX4_readNumber 115 = .ok (.invokestatic 75, 3) := dk_184 0 75 (dk_at dksX4_readNumber_4 19 rfl rfl)
theorem dX4_readNumber_118 : decode cX4_readNumber 118 = .ok (.ifCond .eq 7, 3) := dk_153 0 7 (dk_at dksX4_readNumber_5 0 rfl rfl)
theorem dX4_readNumber_121 : decode cX4_readNumber 121 = .ok (.iconst 3, 1) := dk_6 (dk_at dksX4_readNumber_5 3 rfl rfl)
theorem dX4_readNumber_122 : decode cX4_readNumber 122 = .ok (.goto 4, 3) := dk_167 0 4 (dk_at dksX4_readNumber_5 4 rfl rfl)
theorem dX4_readNumber_125 : decode cX4_readNumber 125 = .ok (.iconst 1, 1) := dk_4 (dk_at dksX4_readNumber_5 7 rfl rfl)
theorem dX4_readNumber_126 : decode cX4_readNumber 126 = .ok (.putfield 106, 3) := dk_181 0 106 (dk_at dksX4_readNumber_5 8 rfl rfl)
theorem dX4_readNumber_129 : decode cX4_readNumber 129 = .ok (.return_, 1) := dk_177 (dk_at dksX4_readNumber_5 11 rfl rfl)
abbrev cX4_parseHead : ByteArray := prog_21_method_20_code
def yX4_parseHead : MethodName := ⟨RX4, "parseHead", "()V"⟩
def dkwX4_parseHead_4 : List UInt8 := [182, 0, 155, 79, 42, 180, 0, 40, 8, 42, 16, 101, 17, 3, 232, 182, 0, 155, 79, 42, 182, 0, 159, 177]
abbrev dktX4_parseHead_4 : List UInt8 := dkwX4_parseHead_4 ++ []
def dkwX4_parseHead_3 : List UInt8 := [180, 0, 40, 6, 42, 4, 17, 5, 220, 182, 0, 155, 79, 42, 180, 0, 40, 7, 42, 16, 100, 17, 19, 136]
abbrev dktX4_parseHead_3 : List UInt8 := dkwX4_parseHead_3 ++ dktX4_parseHead_4
def dkwX4_parseHead_2 : List UInt8 := [42, 180, 0, 40, 5, 42, 4, 16, 50, 182, 0, 155, 79, 42, 182, 0, 159, 42, 18, 164, 182, 0, 151, 42]
abbrev dktX4_parseHead_2 : List UInt8 := dkwX4_parseHead_2 ++ dktX4_parseHead_3
def dkwX4_parseHead_1 : List UInt8 := [180, 0, 40, 4, 42, 16, 20, 17, 1, 244, 182, 0, 155, 79, 42, 182, 0, 159, 42, 18, 162, 182, 0, 151]
abbrev dktX4_parseHead_1 : List UInt8 := dkwX4_parseHead_1 ++ dktX4_parseHead_2
def dkwX4_parseHead_0 : List UInt8 := [42, 18, 149, 182, 0, 151, 42, 180, 0, 40, 3, 42, 16, 10, 17, 1, 244, 182, 0, 155, 79, 42]
abbrev dktX4_parseHead_0 : List UInt8 := dkwX4_parseHead_0 ++ dktX4_parseHead_1
theorem dksX4_parseHead_0 : cX4_parseHead.data.toList.drop 0 = dktX4_parseHead_0 := by decide +kernel
theorem dksX4_parseHead_1 : cX4_parseHead.data.toList.drop 22 = dktX4_parseHead_1 := dk_seg dksX4_parseHead_0 22 rfl rfl
theorem dksX4_parseHead_2 : cX4_parseHead.data.toList.drop 46 = dktX4_parseHead_2 := dk_seg dksX4_parseHead_1 24 rfl rfl
theorem dksX4_parseHead_3 : cX4_parseHead.data.toList.drop 70 = dktX4_parseHead_3 := dk_seg dksX4_parseHead_2 24 rfl rfl
theorem dksX4_parseHead_4 : cX4_parseHead.data.toList.drop 94 = dktX4_parseHead_4 := dk_seg dksX4_parseHead_3 24 rfl rfl
theorem dX4_parseHead_0 : decode cX4_parseHead 0 = .ok (.aload_n 0, 1) := dk_42 (dk_at dksX4_parseHead_0 0 rfl rfl)
theorem dX4_parseHead_1 : decode cX4_parseHead 1 = .ok (.ldc 149, 2) := dk_18 149 (dk_at dksX4_parseHead_0 1 rfl rfl)
theorem dX4_parseHead_3 : decode cX4_parseHead 3 = .ok (.invokevirtual 151, 3) := dk_182 0 151 (dk_at dksX4_parseHead_0 3 rfl rfl)
theorem dX4_parseHead_6 : decode cX4_parseHead 6 = .ok (.aload_n 0, 1) := dk_42 (dk_at dksX4_parseHead_0 6 rfl rfl)
theorem dX4_parseHead_7 : decode cX4_parseHead 7 = .ok (.getfield 40, 3) := dk_180 0 40 (dk_at dksX4_parseHead_0 7 rfl rfl)
theorem dX4_parseHead_10 : decode cX4_parseHead 10 = .ok (.iconst 0, 1) := dk_3 (dk_at dksX4_parseHead_0 10 rfl rfl)
theorem dX4_parseHead_11 : decode cX4_parseHead 11 = .ok (.aload_n 0, 1) := dk_42 (dk_at dksX4_parseHead_0 11 rfl rfl)
theorem dX4_parseHead_12 : decode cX4_parseHead 12 = .ok (.bipush 10, 2) := dk_16 10 (dk_at dksX4_parseHead_0 12 rfl rfl)
theorem dX4_parseHead_14 : decode cX4_parseHead 14 = .ok (.sipush 500, 3) := dk_17 1 244 (dk_at dksX4_parseHead_0 14 rfl rfl)
theorem dX4_parseHead_17 : decode cX4_parseHead 17 = .ok (.invokevirtual 155, 3) := dk_182 0 155 (dk_at dksX4_parseHead_0 17 rfl rfl)
theorem dX4_parseHead_20 : decode cX4_parseHead 20 = .ok (.iastore, 1) := dk_79 (dk_at dksX4_parseHead_0 20 rfl rfl)
theorem dX4_parseHead_21 : decode cX4_parseHead 21 = .ok (.aload_n 0, 1) := dk_42 (dk_at dksX4_parseHead_0 21 rfl rfl)
theorem dX4_parseHead_22 : decode cX4_parseHead 22 = .ok (.getfield 40, 3) := dk_180 0 40 (dk_at dksX4_parseHead_1 0 rfl rfl)
theorem dX4_parseHead_25 : decode cX4_parseHead 25 = .ok (.iconst 1, 1) := dk_4 (dk_at dksX4_parseHead_1 3 rfl rfl)
theorem dX4_parseHead_26 : decode cX4_parseHead 26 = .ok (.aload_n 0, 1) := dk_42 (dk_at dksX4_parseHead_1 4 rfl rfl)
theorem dX4_parseHead_27 : decode cX4_parseHead 27 = .ok (.bipush 20, 2) := dk_16 20 (dk_at dksX4_parseHead_1 5 rfl rfl)
theorem dX4_parseHead_29 : decode cX4_parseHead 29 = .ok (.sipush 500, 3) := dk_17 1 244 (dk_at dksX4_parseHead_1 7 rfl rfl)
theorem dX4_parseHead_32 : decode cX4_parseHead 32 = .ok (.invokevirtual 155, 3) := dk_182 0 155 (dk_at dksX4_parseHead_1 10 rfl rfl)
theorem dX4_parseHead_35 : decode cX4_parseHead 35 = .ok (.iastore, 1) := dk_79 (dk_at dksX4_parseHead_1 13 rfl rfl)
theorem dX4_parseHead_36 : decode cX4_parseHead 36 = .ok (.aload_n 0, 1) := dk_42 (dk_at dksX4_parseHead_1 14 rfl rfl)
theorem dX4_parseHead_37 : decode cX4_parseHead 37 = .ok (.invokevirtual 159, 3) := dk_182 0 159 (dk_at dksX4_parseHead_1 15 rfl rfl)
theorem dX4_parseHead_40 : decode cX4_parseHead 40 = .ok (.aload_n 0, 1) := dk_42 (dk_at dksX4_parseHead_1 18 rfl rfl)
theorem dX4_parseHead_41 : decode cX4_parseHead 41 = .ok (.ldc 162, 2) := dk_18 162 (dk_at dksX4_parseHead_1 19 rfl rfl)
theorem dX4_parseHead_43 : decode cX4_parseHead 43 = .ok (.invokevirtual 151, 3) := dk_182 0 151 (dk_at dksX4_parseHead_1 21 rfl rfl)
theorem dX4_parseHead_46 : decode cX4_parseHead 46 = .ok (.aload_n 0, 1) := dk_42 (dk_at dksX4_parseHead_2 0 rfl rfl)
theorem dX4_parseHead_47 : decode cX4_parseHead 47 = .ok (.getfield 40, 3) := dk_180 0 40 (dk_at dksX4_parseHead_2 1 rfl rfl)
theorem dX4_parseHead_50 : decode cX4_parseHead 50 = .ok (.iconst 2, 1) := dk_5 (dk_at dksX4_parseHead_2 4 rfl rfl)
theorem dX4_parseHead_51 : decode cX4_parseHead 51 = .ok (.aload_n 0, 1) := dk_42 (dk_at dksX4_parseHead_2 5 rfl rfl)
theorem dX4_parseHead_52 : decode cX4_parseHead 52 = .ok (.iconst 1, 1) := dk_4 (dk_at dksX4_parseHead_2 6 rfl rfl)
theorem dX4_parseHead_53 : decode cX4_parseHead 53 = .ok (.bipush 50, 2) := dk_16 50 (dk_at dksX4_parseHead_2 7 rfl rfl)
theorem dX4_parseHead_55 : decode cX4_parseHead 55 = .ok (.invokevirtual 155, 3) := dk_182 0 155 (dk_at dksX4_parseHead_2 9 rfl rfl)
theorem dX4_parseHead_58 : decode cX4_parseHead 58 = .ok (.iastore, 1) := dk_79 (dk_at dksX4_parseHead_2 12 rfl rfl)
theorem dX4_parseHead_59 : decode cX4_parseHead 59 = .ok (.aload_n 0, 1) := dk_42 (dk_at dksX4_parseHead_2 13 rfl rfl)
theorem dX4_parseHead_60 : decode cX4_parseHead 60 = .ok (.invokevirtual 159, 3) := dk_182 0 159 (dk_at dksX4_parseHead_2 14 rfl rfl)
theorem dX4_parseHead_63 : decode cX4_parseHead 63 = .ok (.aload_n 0, 1) := dk_42 (dk_at dksX4_parseHead_2 17 rfl rfl)
theorem dX4_parseHead_64 : decode cX4_parseHead 64 = .ok (.ldc 164, 2) := dk_18 164 (dk_at dksX4_parseHead_2 18 rfl rfl)
theorem dX4_parseHead_66 : decode cX4_parseHead 66 = .ok (.invokevirtual 151, 3) := dk_182 0 151 (dk_at dksX4_parseHead_2 20 rfl rfl)
theorem dX4_parseHead_69 : decode cX4_parseHead 69 = .ok (.aload_n 0, 1) := dk_42 (dk_at dksX4_parseHead_2 23 rfl rfl)
theorem dX4_parseHead_70 : decode cX4_parseHead 70 = .ok (.getfield 40, 3) := dk_180 0 40 (dk_at dksX4_parseHead_3 0 rfl rfl)
theorem dX4_parseHead_73 : decode cX4_parseHead 73 = .ok (.iconst 3, 1) := dk_6 (dk_at dksX4_parseHead_3 3 rfl rfl)
theorem dX4_parseHead_74 : decode cX4_parseHead 74 = .ok (.aload_n 0, 1) := dk_42 (dk_at dksX4_parseHead_3 4 rfl rfl)
theorem dX4_parseHead_75 : decode cX4_parseHead 75 = .ok (.iconst 1, 1) := dk_4 (dk_at dksX4_parseHead_3 5 rfl rfl)
theorem dX4_parseHead_76 : decode cX4_parseHead 76 = .ok (.sipush 1500, 3) := dk_17 5 220 (dk_at dksX4_parseHead_3 6 rfl rfl)
theorem dX4_parseHead_79 : decode cX4_parseHead 79 = .ok (.invokevirtual 155, 3) := dk_182 0 155 (dk_at dksX4_parseHead_3 9 rfl rfl)
theorem dX4_parseHead_82 : decode cX4_parseHead 82 = .ok (.iastore, 1) := dk_79 (dk_at dksX4_parseHead_3 12 rfl rfl)
theorem dX4_parseHead_83 : decode cX4_parseHead 83 = .ok (.aload_n 0, 1) := dk_42 (dk_at dksX4_parseHead_3 13 rfl rfl)
theorem dX4_parseHead_84 : decode cX4_parseHead 84 = .ok (.getfield 40, 3) := dk_180 0 40 (dk_at dksX4_parseHead_3 14 rfl rfl)
theorem dX4_parseHead_87 : decode cX4_parseHead 87 = .ok (.iconst 4, 1) := dk_7 (dk_at dksX4_parseHead_3 17 rfl rfl)
theorem dX4_parseHead_88 : decode cX4_parseHead 88 = .ok (.aload_n 0, 1) := dk_42 (dk_at dksX4_parseHead_3 18 rfl rfl)
theorem dX4_parseHead_89 : decode cX4_parseHead 89 = .ok (.bipush 100, 2) := dk_16 100 (dk_at dksX4_parseHead_3 19 rfl rfl)
theorem dX4_parseHead_91 : decode cX4_parseHead 91 = .ok (.sipush 5000, 3) := dk_17 19 136 (dk_at dksX4_parseHead_3 21 rfl rfl)
theorem dX4_parseHead_94 : decode cX4_parseHead 94 = .ok (.invokevirtual 155, 3) := dk_182 0 155 (dk_at dksX4_parseHead_4 0 rfl rfl)
theorem dX4_parseHead_97 : decode cX4_parseHead 97 = .ok (.iastore, 1) := dk_79 (dk_at dksX4_parseHead_4 3 rfl rfl)
theorem dX4_parseHead_98 : decode cX4_parseHead 98 = .ok (.aload_n 0, 1) := dk_42 (dk_at dksX4_parseHead_4 4 rfl rfl)
theorem dX4_parseHead_99 : decode cX4_parseHead 99 = .ok (.getfield 40, 3) := dk_180 0 40 (dk_at dksX4_parseHead_4 5 rfl rfl)
theorem dX4_parseHead_102 : decode cX4_parseHead 102 = .ok (.iconst 5, 1) := dk_8 (dk_at dksX4_parseHead_4 8 rfl rfl)
theorem dX4_parseHead_103 : decode cX4_parseHead 103 = .ok (.aload_n 0, 1) := dk_42 (dk_at dksX4_parseHead_4 9 rfl rfl)
theorem dX4_parseHead_104 : decode cX4_parseHead 104 = .ok (.bipush 101, 2) := dk_16 101 (dk_at dksX4_parseHead_4 10 rfl rfl)
theorem dX4_parseHead_106 : decode cX4_parseHead 106 = .ok (.sipush 1000, 3) := dk_17 3 232 (dk_at dksX4_parseHead_4 12 rfl rfl)
theorem dX4_parseHead_109 : decode cX4_parseHead 109 = .ok (.invokevirtual 155, 3) := dk_182 0 155 (dk_at dksX4_parseHead_4 15 rfl rfl)
theorem dX4_parseHead_112 : decode cX4_parseHead 112 = .ok (.iastore, 1) := dk_79 (dk_at dksX4_parseHead_4 18 rfl rfl)
theorem dX4_parseHead_113 : decode cX4_parseHead 113 = .ok (.aload_n 0, 1) := dk_42 (dk_at dksX4_parseHead_4 19 rfl rfl)
theorem dX4_parseHead_114 : decode cX4_parseHead 114 = .ok (.invokevirtual 159, 3) := dk_182 0 159 (dk_at dksX4_parseHead_4 20 rfl rfl)
theorem dX4_parseHead_117 : decode cX4_parseHead 117 = .ok (.return_, 1) := dk_177 (dk_at dksX4_parseHead_4 23 rfl rfl)
abbrev cX4_expectKeyword : ByteArray := prog_21_method_16_code
def yX4_expectKeyword : MethodName := ⟨RX4, "expectKeyword", "(Ljava/lang/String;)V"⟩
def dkwX4_expectKeyword_0 : List UInt8 := [42, 43, 182, 0, 135, 154, 0, 8, 42, 4, 182, 0, 139, 42, 182, 0, 142, 177]
abbrev dktX4_expectKeyword_0 : List UInt8 := dkwX4_expectKeyword_0 ++ []
theorem dksX4_expectKeyword_0 : cX4_expectKeyword.data.toList.drop 0 = dktX4_expectKeyword_0 := by decide +kernel
theorem dX4_expectKeyword_0 : decode cX4_expectKeyword 0 = .ok (.aload_n 0, 1) := dk_42 (dk_at dksX4_expectKeyword_0 0 rfl rfl)
theorem dX4_expectKeyword_1 : decode cX4_expectKeyword 1 = .ok (.aload_n 1, 1) := dk_43 (dk_at dksX4_expectKeyword_0 1 rfl rfl)
theorem dX4_expectKeyword_2 : decode cX4_expectKeyword 2 = .ok (.invokevirtual 135, 3) := dk_182 0 135 (dk_at dksX4_expectKeyword_0 2 rfl rfl)
theorem dX4_expectKeyword_5 : decode cX4_expectKeyword 5 = .ok (.ifCond .ne 8, 3) := dk_154 0 8 (dk_at dksX4_expectKeyword_0 5 rfl rfl)
theorem dX4_expectKeyword_8 : decode cX4_expectKeyword 8 = .ok (.aload_n 0, 1) := dk_42 (dk_at dksX4_expectKeyword_0 8 rfl rfl)
theorem dX4_expectKeyword_9 : decode cX4_expectKeyword 9 = .ok (.iconst 1, 1) := dk_4 (dk_at dksX4_expectKeyword_0 9 rfl rfl)
theorem dX4_expectKeyword_10 : decode cX4_expectKeyword 10 = .ok (.invokevirtual 139, 3) := dk_182 0 139 (dk_at dksX4_expectKeyword_0 10 rfl rfl)
theorem dX4_expectKeyword_13 : decode cX4_expectKeyword 13 = .ok (.aload_n 0, 1) := dk_42 (dk_at dksX4_expectKeyword_0 13 rfl rfl)
theorem dX4_expectKeyword_14 : decode cX4_expectKeyword 14 = .ok (.invokevirtual 142, 3) := dk_182 0 142 (dk_at dksX4_expectKeyword_0 14 rfl rfl)
theorem dX4_expectKeyword_17 : decode cX4_expectKeyword 17 = .ok (.return_, 1) := dk_177 (dk_at dksX4_expectKeyword_0 17 rfl rfl)
abbrev cX4_isKeyword : ByteArray := prog_21_method_15_code
def yX4_isKeyword : MethodName := ⟨RX4, "isKeyword", "(Ljava/lang/String;)Z"⟩
def dkwX4_isKeyword_2 : List UInt8 := [28, 182, 0, 131, 159, 0, 5, 3, 172, 132, 2, 1, 167, 255, 224, 4, 172]
abbrev dktX4_isKeyword_2 : List UInt8 := dkwX4_isKeyword_2 ++ []
def dkwX4_isKeyword_1 : List UInt8 := [3, 172, 3, 61, 28, 43, 182, 0, 125, 162, 0, 30, 42, 180, 0, 33, 42, 180, 0, 116, 28, 96, 46, 43]
abbrev dktX4_isKeyword_1 : List UInt8 := dkwX4_isKeyword_1 ++ dktX4_isKeyword_2
def dkwX4_isKeyword_0 : List UInt8 := [42, 180, 0, 106, 5, 160, 0, 19, 42, 180, 0, 94, 42, 180, 0, 116, 100, 43, 182, 0, 125, 159, 0, 5]
abbrev dktX4_isKeyword_0 : List UInt8 := dkwX4_isKeyword_0 ++ dktX4_isKeyword_1
theorem dksX4_isKeyword_0 : cX4_isKeyword.data.toList.drop 0 = dktX4_isKeyword_0 := by decide +kernel
theorem dksX4_isKeyword_1 : cX4_isKeyword.data.toList.drop 24 = dktX4_isKeyword_1 := dk_seg dksX4_isKeyword_0 24 rfl rfl
theorem dksX4_isKeyword_2 : cX4_isKeyword.data.toList.drop 48 = dktX4_isKeyword_2 := dk_seg dksX4_isKeyword_1 24 rfl rfl
theorem dX4_isKeyword_0 : decode cX4_isKeyword 0 = .ok (.aload_n 0, 1) := dk_42 (dk_at dksX4_isKeyword_0 0 rfl rfl)
theorem dX4_isKeyword_1 : decode cX4_isKeyword 1 = .ok (.getfield 106, 3) := dk_180 0 106 (dk_at dksX4_isKeyword_0 1 rfl rfl)
theorem dX4_isKeyword_4 : decode cX4_isKeyword 4 = .ok (.iconst 2, 1) := dk_5 (dk_at dksX4_isKeyword_0 4 rfl rfl)
theorem dX4_isKeyword_5 : decode cX4_isKeyword 5 = .ok (.if_icmp .ne 19, 3) := dk_160 0 19 (dk_at dksX4_isKeyword_0 5 rfl rfl)
theorem dX4_isKeyword_8 : decode cX4_isKeyword 8 = .ok (.aload_n 0, 1) := dk_42 (dk_at dksX4_isKeyword_0 8 rfl rfl)
theorem dX4_isKeyword_9 : decode cX4_isKeyword 9 = .ok (.getfield 94, 3) := dk_180 0 94 (dk_at dksX4_isKeyword_0 9 rfl rfl)
theorem dX4_isKeyword_12 : decode cX4_isKeyword 12 = .ok (.aload_n 0, 1) := dk_42 (dk_at dksX4_isKeyword_0 12 rfl rfl)
theorem dX4_isKeyword_13 : decode cX4_isKeyword 13 = .ok (.getfield 116, 3) := dk_180 0 116 (dk_at dksX4_isKeyword_0 13 rfl rfl)
theorem dX4_isKeyword_16 : decode cX4_isKeyword 16 = .ok (.isub, 1) := dk_100 (dk_at dksX4_isKeyword_0 16 rfl rfl)
theorem dX4_isKeyword_17 : decode cX4_isKeyword 17 = .ok (.aload_n 1, 1) := dk_43 (dk_at dksX4_isKeyword_0 17 rfl rfl)
theorem dX4_isKeyword_18 : decode cX4_isKeyword 18 = .ok (.invokevirtual 125, 3) := dk_182 0 125 (dk_at dksX4_isKeyword_0 18 rfl rfl)
theorem dX4_isKeyword_21 : decode cX4_isKeyword 21 = .ok (.if_icmp .eq 5, 3) := dk_159 0 5 (dk_at dksX4_isKeyword_0 21 rfl rfl)
theorem dX4_isKeyword_24 : decode cX4_isKeyword 24 = .ok (.iconst 0, 1) := dk_3 (dk_at dksX4_isKeyword_1 0 rfl rfl)
theorem dX4_isKeyword_25 : decode cX4_isKeyword 25 = .ok (.ireturn, 1) := dk_172 (dk_at dksX4_isKeyword_1 1 rfl rfl)
theorem dX4_isKeyword_26 : decode cX4_isKeyword 26 = .ok (.iconst 0, 1) := dk_3 (dk_at dksX4_isKeyword_1 2 rfl rfl)
theorem dX4_isKeyword_27 : decode cX4_isKeyword 27 = .ok (.istore_n 2, 1) := dk_61 (dk_at dksX4_isKeyword_1 3 rfl rfl)
theorem dX4_isKeyword_28 : decode cX4_isKeyword 28 = .ok (.iload_n 2, 1) := dk_28 (dk_at dksX4_isKeyword_1 4 rfl rfl)
theorem dX4_isKeyword_29 : decode cX4_isKeyword 29 = .ok (.aload_n 1, 1) := dk_43 (dk_at dksX4_isKeyword_1 5 rfl rfl)
theorem dX4_isKeyword_30 : decode cX4_isKeyword 30 = .ok (.invokevirtual 125, 3) := dk_182 0 125 (dk_at dksX4_isKeyword_1 6 rfl rfl)
theorem dX4_isKeyword_33 : decode cX4_isKeyword 33 = .ok (.if_icmp .ge 30, 3) := dk_162 0 30 (dk_at dksX4_isKeyword_1 9 rfl rfl)
theorem dX4_isKeyword_36 : decode cX4_isKeyword 36 = .ok (.aload_n 0, 1) := dk_42 (dk_at dksX4_isKeyword_1 12 rfl rfl)
theorem dX4_isKeyword_37 : decode cX4_isKeyword 37 = .ok (.getfield 33, 3) := dk_180 0 33 (dk_at dksX4_isKeyword_1 13 rfl rfl)
theorem dX4_isKeyword_40 : decode cX4_isKeyword 40 = .ok (.aload_n 0, 1) := dk_42 (dk_at dksX4_isKeyword_1 16 rfl rfl)
theorem dX4_isKeyword_41 : decode cX4_isKeyword 41 = .ok (.getfield 116, 3) := dk_180 0 116 (dk_at dksX4_isKeyword_1 17 rfl rfl)
theorem dX4_isKeyword_44 : decode cX4_isKeyword 44 = .ok (.iload_n 2, 1) := dk_28 (dk_at dksX4_isKeyword_1 20 rfl rfl)
theorem dX4_isKeyword_45 : decode cX4_isKeyword 45 = .ok (.iadd, 1) := dk_96 (dk_at dksX4_isKeyword_1 21 rfl rfl)
theorem dX4_isKeyword_46 : decode cX4_isKeyword 46 = .ok (.iaload, 1) := dk_46 (dk_at dksX4_isKeyword_1 22 rfl rfl)
theorem dX4_isKeyword_47 : decode cX4_isKeyword 47 = .ok (.aload_n 1, 1) := dk_43 (dk_at dksX4_isKeyword_1 23 rfl rfl)
theorem dX4_isKeyword_48 : decode cX4_isKeyword 48 = .ok (.iload_n 2, 1) := dk_28 (dk_at dksX4_isKeyword_2 0 rfl rfl)
theorem dX4_isKeyword_49 : decode cX4_isKeyword 49 = .ok (.invokevirtual 131, 3) := dk_182 0 131 (dk_at dksX4_isKeyword_2 1 rfl rfl)
theorem dX4_isKeyword_52 : decode cX4_isKeyword 52 = .ok (.if_icmp .eq 5, 3) := dk_159 0 5 (dk_at dksX4_isKeyword_2 4 rfl rfl)
theorem dX4_isKeyword_55 : decode cX4_isKeyword 55 = .ok (.iconst 0, 1) := dk_3 (dk_at dksX4_isKeyword_2 7 rfl rfl)
theorem dX4_isKeyword_56 : decode cX4_isKeyword 56 = .ok (.ireturn, 1) := dk_172 (dk_at dksX4_isKeyword_2 8 rfl rfl)
theorem dX4_isKeyword_57 : decode cX4_isKeyword 57 = .ok (.iinc 2 1, 3) := dk_132 2 1 (dk_at dksX4_isKeyword_2 9 rfl rfl)
theorem dX4_isKeyword_60 : decode cX4_isKeyword 60 = .ok (.goto (-32), 3) := dk_167 255 224 (dk_at dksX4_isKeyword_2 12 rfl rfl)
theorem dX4_isKeyword_63 : decode cX4_isKeyword 63 = .ok (.iconst 1, 1) := dk_4 (dk_at dksX4_isKeyword_2 15 rfl rfl)
theorem dX4_isKeyword_64 : decode cX4_isKeyword 64 = .ok (.ireturn, 1) := dk_172 (dk_at dksX4_isKeyword_2 16 rfl rfl)
abbrev cX4_fail : ByteArray := prog_21_method_14_code
def yX4_fail : MethodName := ⟨RX4, "fail", "(I)V"⟩
def dkwX4_fail_0 : List UInt8 := [42, 182, 0, 112, 153, 0, 16, 42, 27, 181, 0, 109, 42, 42, 180, 0, 116, 181, 0, 36, 177]
abbrev dktX4_fail_0 : List UInt8 := dkwX4_fail_0 ++ []
theorem dksX4_fail_0 : cX4_fail.data.toList.drop 0 = dktX4_fail_0 := by decide +kernel
theorem dX4_fail_0 : decode cX4_fail 0 = .ok (.aload_n 0, 1) := dk_42 (dk_at dksX4_fail_0 0 rfl rfl)
theorem dX4_fail_1 : decode cX4_fail 1 = .ok (.invokevirtual 112, 3) := dk_182 0 112 (dk_at dksX4_fail_0 1 rfl rfl)
theorem dX4_fail_4 : decode cX4_fail 4 = .ok (.ifCond .eq 16, 3) := dk_153 0 16 (dk_at dksX4_fail_0 4 rfl rfl)
theorem dX4_fail_7 : decode cX4_fail 7 = .ok (.aload_n 0, 1) := dk_42 (dk_at dksX4_fail_0 7 rfl rfl)
theorem dX4_fail_8 : decode cX4_fail 8 = .ok (.iload_n 1, 1) := dk_27 (dk_at dksX4_fail_0 8 rfl rfl)
theorem dX4_fail_9 : decode cX4_fail 9 = .ok (.putfield 109, 3) := dk_181 0 109 (dk_at dksX4_fail_0 9 rfl rfl)
theorem dX4_fail_12 : decode cX4_fail 12 = .ok (.aload_n 0, 1) := dk_42 (dk_at dksX4_fail_0 12 rfl rfl)
theorem dX4_fail_13 : decode cX4_fail 13 = .ok (.aload_n 0, 1) := dk_42 (dk_at dksX4_fail_0 13 rfl rfl)
theorem dX4_fail_14 : decode cX4_fail 14 = .ok (.getfield 116, 3) := dk_180 0 116 (dk_at dksX4_fail_0 14 rfl rfl)
theorem dX4_fail_17 : decode cX4_fail 17 = .ok (.putfield 36, 3) := dk_181 0 36 (dk_at dksX4_fail_0 17 rfl rfl)
theorem dX4_fail_20 : decode cX4_fail 20 = .ok (.return_, 1) := dk_177 (dk_at dksX4_fail_0 20 rfl rfl)
abbrev cX4_readIn : ByteArray := prog_21_method_19_code
def yX4_readIn : MethodName := ⟨RX4, "readIn", "(II)I"⟩
def dkwX4_readIn_0 : List UInt8 := [42, 27, 28, 27, 4, 100, 182, 0, 145, 172]
abbrev dktX4_readIn_0 : List UInt8 := dkwX4_readIn_0 ++ []
theorem dksX4_readIn_0 : cX4_readIn.data.toList.drop 0 = dktX4_readIn_0 := by decide +kernel
theorem dX4_readIn_0 : decode cX4_readIn 0 = .ok (.aload_n 0, 1) := dk_42 (dk_at dksX4_readIn_0 0 rfl rfl)
theorem dX4_readIn_1 : decode cX4_readIn 1 = .ok (.iload_n 1, 1) := dk_27 (dk_at dksX4_readIn_0 1 rfl rfl)
theorem dX4_readIn_2 : decode cX4_readIn 2 = .ok (.iload_n 2, 1) := dk_28 (dk_at dksX4_readIn_0 2 rfl rfl)
theorem dX4_readIn_3 : decode cX4_readIn 3 = .ok (.iload_n 1, 1) := dk_27 (dk_at dksX4_readIn_0 3 rfl rfl)
theorem dX4_readIn_4 : decode cX4_readIn 4 = .ok (.iconst 1, 1) := dk_4 (dk_at dksX4_readIn_0 4 rfl rfl)
theorem dX4_readIn_5 : decode cX4_readIn 5 = .ok (.isub, 1) := dk_100 (dk_at dksX4_readIn_0 5 rfl rfl)
theorem dX4_readIn_6 : decode cX4_readIn 6 = .ok (.invokevirtual 145, 3) := dk_182 0 145 (dk_at dksX4_readIn_0 6 rfl rfl)
theorem dX4_readIn_9 : decode cX4_readIn 9 = .ok (.ireturn, 1) := dk_172 (dk_at dksX4_readIn_0 9 rfl rfl)
abbrev cX4_readAbove : ByteArray := prog_21_method_18_code
def yX4_readAbove : MethodName := ⟨RX4, "readAbove", "(III)I"⟩
def dkwX4_readAbove_2 : List UInt8 := [6, 182, 0, 139, 42, 180, 0, 97, 54, 4, 42, 182, 0, 142, 21, 4, 172]
abbrev dktX4_readAbove_2 : List UInt8 := dkwX4_readAbove_2 ++ []
def dkwX4_readAbove_1 : List UInt8 := [133, 184, 0, 75, 154, 0, 11, 42, 5, 182, 0, 139, 167, 0, 16, 42, 180, 0, 97, 29, 163, 0, 8, 42]
abbrev dktX4_readAbove_1 : List UInt8 := dkwX4_readAbove_1 ++ dktX4_readAbove_2
def dkwX4_readAbove_0 : List UInt8 := [42, 180, 0, 106, 6, 159, 0, 11, 42, 4, 182, 0, 139, 167, 0, 39, 42, 180, 0, 97, 133, 27, 133, 28]
abbrev dktX4_readAbove_0 : List UInt8 := dkwX4_readAbove_0 ++ dktX4_readAbove_1
theorem dksX4_readAbove_0 : cX4_readAbove.data.toList.drop 0 = dktX4_readAbove_0 := by decide +kernel
theorem dksX4_readAbove_1 : cX4_readAbove.data.toList.drop 24 = dktX4_readAbove_1 := dk_seg dksX4_readAbove_0 24 rfl rfl
theorem dksX4_readAbove_2 : cX4_readAbove.data.toList.drop 48 = dktX4_readAbove_2 := dk_seg dksX4_readAbove_1 24 rfl rfl
theorem dX4_readAbove_0 : decode cX4_readAbove 0 = .ok (.aload_n 0, 1) := dk_42 (dk_at dksX4_readAbove_0 0 rfl rfl)
theorem dX4_readAbove_1 : decode cX4_readAbove 1 = .ok (.getfield 106, 3) := dk_180 0 106 (dk_at dksX4_readAbove_0 1 rfl rfl)
theorem dX4_readAbove_4 : decode cX4_readAbove 4 = .ok (.iconst 3, 1) := dk_6 (dk_at dksX4_readAbove_0 4 rfl rfl)
theorem dX4_readAbove_5 : decode cX4_readAbove 5 = .ok (.if_icmp .eq 11, 3) := dk_159 0 11 (dk_at dksX4_readAbove_0 5 rfl rfl)
theorem dX4_readAbove_8 : decode cX4_readAbove 8 = .ok (.aload_n 0, 1) := dk_42 (dk_at dksX4_readAbove_0 8 rfl rfl)
theorem dX4_readAbove_9 : decode cX4_readAbove 9 = .ok (.iconst 1, 1) := dk_4 (dk_at dksX4_readAbove_0 9 rfl rfl)
theorem dX4_readAbove_10 : decode cX4_readAbove 10 = .ok (.invokevirtual 139, 3) := dk_182 0 139 (dk_at dksX4_readAbove_0 10 rfl rfl)
theorem dX4_readAbove_13 : decode cX4_readAbove 13 = .ok (.goto 39, 3) := dk_167 0 39 (dk_at dksX4_readAbove_0 13 rfl rfl)
theorem dX4_readAbove_16 : decode cX4_readAbove 16 = .ok (.aload_n 0, 1) := dk_42 (dk_at dksX4_readAbove_0 16 rfl rfl)
theorem dX4_readAbove_17 : decode cX4_readAbove 17 = .ok (.getfield 97, 3) := dk_180 0 97 (dk_at dksX4_readAbove_0 17 rfl rfl)
theorem dX4_readAbove_20 : decode cX4_readAbove 20 = .ok (.i2l, 1) := dk_133 (dk_at dksX4_readAbove_0 20 rfl rfl)
theorem dX4_readAbove_21 : decode cX4_readAbove 21 = .ok (.iload_n 1, 1) := dk_27 (dk_at dksX4_readAbove_0 21 rfl rfl)
theorem dX4_readAbove_22 : decode cX4_readAbove 22 = .ok (.i2l, 1) := dk_133 (dk_at dksX4_readAbove_0 22 rfl rfl)
theorem dX4_readAbove_23 : decode cX4_readAbove 23 = .ok (.iload_n 2, 1) := dk_28 (dk_at dksX4_readAbove_0 23 rfl rfl)
theorem dX4_readAbove_24 : decode cX4_readAbove 24 = .ok (.i2l, 1) := dk_133 (dk_at dksX4_readAbove_1 0 rfl rfl)
theorem dX4_readAbove_25 : decode cX4_readAbove 25 = .ok (.invokestatic 75, 3) := dk_184 0 75 (dk_at dksX4_readAbove_1 1 rfl rfl)
theorem dX4_readAbove_28 : decode cX4_readAbove 28 = .ok (.ifCond .ne 11, 3) := dk_154 0 11 (dk_at dksX4_readAbove_1 4 rfl rfl)
theorem dX4_readAbove_31 : decode cX4_readAbove 31 = .ok (.aload_n 0, 1) := dk_42 (dk_at dksX4_readAbove_1 7 rfl rfl)
theorem dX4_readAbove_32 : decode cX4_readAbove 32 = .ok (.iconst 2, 1) := dk_5 (dk_at dksX4_readAbove_1 8 rfl rfl)
theorem dX4_readAbove_33 : decode cX4_readAbove 33 = .ok (.invokevirtual 139, 3) := dk_182 0 139 (dk_at dksX4_readAbove_1 9 rfl rfl)
theorem dX4_readAbove_36 : decode cX4_readAbove 36 = .ok (.goto 16, 3) := dk_167 0 16 (dk_at dksX4_readAbove_1 12 rfl rfl)
theorem dX4_readAbove_39 : decode cX4_readAbove 39 = .ok (.aload_n 0, 1) := dk_42 (dk_at dksX4_readAbove_1 15 rfl rfl)
theorem dX4_readAbove_40 : decode cX4_readAbove 40 = .ok (.getfield 97, 3) := dk_180 0 97 (dk_at dksX4_readAbove_1 16 rfl rfl)
theorem dX4_readAbove_43 : decode cX4_readAbove 43 = .ok (.iload_n 3, 1) := dk_29 (dk_at dksX4_readAbove_1 19 rfl rfl)
theorem dX4_readAbove_44 : decode cX4_readAbove 44 = .ok (.if_icmp .gt 8, 3) := dk_163 0 8 (dk_at dksX4_readAbove_1 20 rfl rfl)
theorem dX4_readAbove_47 : decode cX4_readAbove 47 = .ok (.aload_n 0, 1) := dk_42 (dk_at dksX4_readAbove_1 23 rfl rfl)
theorem dX4_readAbove_48 : decode cX4_readAbove 48 = .ok (.iconst 3, 1) := dk_6 (dk_at dksX4_readAbove_2 0 rfl rfl)
theorem dX4_readAbove_49 : decode cX4_readAbove 49 = .ok (.invokevirtual 139, 3) := dk_182 0 139 (dk_at dksX4_readAbove_2 1 rfl rfl)
theorem dX4_readAbove_52 : decode cX4_readAbove 52 = .ok (.aload_n 0, 1) := dk_42 (dk_at dksX4_readAbove_2 4 rfl rfl)
theorem dX4_readAbove_53 : decode cX4_readAbove 53 = .ok (.getfield 97, 3) := dk_180 0 97 (dk_at dksX4_readAbove_2 5 rfl rfl)
theorem dX4_readAbove_56 : decode cX4_readAbove 56 = .ok (.istore 4, 2) := dk_54 4 (dk_at dksX4_readAbove_2 8 rfl rfl)
theorem dX4_readAbove_58 : decode cX4_readAbove 58 = .ok (.aload_n 0, 1) := dk_42 (dk_at dksX4_readAbove_2 10 rfl rfl)
theorem dX4_readAbove_59 : decode cX4_readAbove 59 = .ok (.invokevirtual 142, 3) := dk_182 0 142 (dk_at dksX4_readAbove_2 11 rfl rfl)
theorem dX4_readAbove_62 : decode cX4_readAbove 62 = .ok (.iload 4, 2) := dk_21 4 (dk_at dksX4_readAbove_2 14 rfl rfl)
theorem dX4_readAbove_64 : decode cX4_readAbove 64 = .ok (.ireturn, 1) := dk_172 (dk_at dksX4_readAbove_2 16 rfl rfl)
abbrev cX4_expectSemicolon : ByteArray := prog_21_method_17_code
def yX4_expectSemicolon : MethodName := ⟨RX4, "expectSemicolon", "()V"⟩
def dkwX4_expectSemicolon_0 : List UInt8 := [42, 180, 0, 106, 7, 159, 0, 8, 42, 4, 182, 0, 139, 42, 182, 0, 142, 177]
abbrev dktX4_expectSemicolon_0 : List UInt8 := dkwX4_expectSemicolon_0 ++ []
theorem dksX4_expectSemicolon_0 : cX4_expectSemicolon.data.toList.drop 0 = dktX4_expectSemicolon_0 := by decide +kernel
theorem dX4_expectSemicolon_0 : decode cX4_expectSemicolon 0 = .ok (.aload_n 0, 1) := dk_42 (dk_at dksX4_expectSemicolon_0 0 rfl rfl)
theorem dX4_expectSemicolon_1 : decode cX4_expectSemicolon 1 = .ok (.getfield 106, 3) := dk_180 0 106 (dk_at dksX4_expectSemicolon_0 1 rfl rfl)
theorem dX4_expectSemicolon_4 : decode cX4_expectSemicolon 4 = .ok (.iconst 4, 1) := dk_7 (dk_at dksX4_expectSemicolon_0 4 rfl rfl)
theorem dX4_expectSemicolon_5 : decode cX4_expectSemicolon 5 = .ok (.if_icmp .eq 8, 3) := dk_159 0 8 (dk_at dksX4_expectSemicolon_0 5 rfl rfl)
theorem dX4_expectSemicolon_8 : decode cX4_expectSemicolon 8 = .ok (.aload_n 0, 1) := dk_42 (dk_at dksX4_expectSemicolon_0 8 rfl rfl)
theorem dX4_expectSemicolon_9 : decode cX4_expectSemicolon 9 = .ok (.iconst 1, 1) := dk_4 (dk_at dksX4_expectSemicolon_0 9 rfl rfl)
theorem dX4_expectSemicolon_10 : decode cX4_expectSemicolon 10 = .ok (.invokevirtual 139, 3) := dk_182 0 139 (dk_at dksX4_expectSemicolon_0 10 rfl rfl)
theorem dX4_expectSemicolon_13 : decode cX4_expectSemicolon 13 = .ok (.aload_n 0, 1) := dk_42 (dk_at dksX4_expectSemicolon_0 13 rfl rfl)
theorem dX4_expectSemicolon_14 : decode cX4_expectSemicolon 14 = .ok (.invokevirtual 142, 3) := dk_182 0 142 (dk_at dksX4_expectSemicolon_0 14 rfl rfl)
theorem dX4_expectSemicolon_17 : decode cX4_expectSemicolon 17 = .ok (.return_, 1) := dk_177 (dk_at dksX4_expectSemicolon_0 17 rfl rfl)
abbrev cX4_parsePoint : ByteArray := prog_21_method_21_code
def yX4_parsePoint : MethodName := ⟨RX4, "parsePoint", "()V"⟩
def dkwX4_parsePoint_6 : List UInt8 := [180, 0, 168, 4, 96, 181, 0, 168, 177]
abbrev dktX4_parsePoint_6 : List UInt8 := dkwX4_parsePoint_6 ++ []
def dkwX4_parsePoint_5 : List UInt8 := [17, 3, 232, 28, 104, 79, 42, 180, 0, 49, 42, 180, 0, 168, 17, 3, 232, 29, 104, 79, 42, 89]
abbrev dktX4_parsePoint_5 : List UInt8 := dkwX4_parsePoint_5 ++ dktX4_parsePoint_6
def dkwX4_parsePoint_4 : List UInt8 := [182, 0, 112, 153, 0, 51, 42, 180, 0, 43, 42, 180, 0, 168, 27, 79, 42, 180, 0, 46, 42, 180, 0, 168]
abbrev dktX4_parsePoint_4 : List UInt8 := dkwX4_parsePoint_4 ++ dktX4_parsePoint_5
def dkwX4_parsePoint_3 : List UInt8 := [17, 11, 184, 182, 0, 155, 61, 42, 17, 244, 72, 17, 11, 184, 182, 0, 155, 62, 42, 182, 0, 159, 42]
abbrev dktX4_parsePoint_3 : List UInt8 := dkwX4_parsePoint_3 ++ dktX4_parsePoint_4
def dkwX4_parsePoint_2 : List UInt8 := [154, 0, 7, 3, 167, 0, 14, 42, 180, 0, 43, 42, 180, 0, 168, 4, 100, 46, 182, 0, 145, 60, 42, 4]
abbrev dktX4_parsePoint_2 : List UInt8 := dkwX4_parsePoint_2 ++ dktX4_parsePoint_3
def dkwX4_parsePoint_1 : List UInt8 := [160, 0, 8, 42, 7, 182, 0, 139, 42, 182, 0, 142, 42, 17, 5, 220, 17, 117, 48, 42, 180, 0, 168]
abbrev dktX4_parsePoint_1 : List UInt8 := dkwX4_parsePoint_1 ++ dktX4_parsePoint_2
def dkwX4_parsePoint_0 : List UInt8 := [42, 18, 166, 182, 0, 135, 154, 0, 11, 42, 4, 182, 0, 139, 167, 0, 17, 42, 180, 0, 168, 16, 16]
abbrev dktX4_parsePoint_0 : List UInt8 := dkwX4_parsePoint_0 ++ dktX4_parsePoint_1
theorem dksX4_parsePoint_0 : cX4_parsePoint.data.toList.drop 0 = dktX4_parsePoint_0 := by decide +kernel
theorem dksX4_parsePoint_1 : cX4_parsePoint.data.toList.drop 23 = dktX4_parsePoint_1 := dk_seg dksX4_parsePoint_0 23 rfl rfl
theorem dksX4_parsePoint_2 : cX4_parsePoint.data.toList.drop 46 = dktX4_parsePoint_2 := dk_seg dksX4_parsePoint_1 23 rfl rfl
theorem dksX4_parsePoint_3 : cX4_parsePoint.data.toList.drop 70 = dktX4_parsePoint_3 := dk_seg dksX4_parsePoint_2 24 rfl rfl
theorem dksX4_parsePoint_4 : cX4_parsePoint.data.toList.drop 93 = dktX4_parsePoint_4 := dk_seg dksX4_parsePoint_3 23 rfl rfl
theorem dksX4_parsePoint_5 : cX4_parsePoint.data.toList.drop 117 = dktX4_parsePoint_5 := dk_seg dksX4_parsePoint_4 24 rfl rfl
theorem dksX4_parsePoint_6 : cX4_parsePoint.data.toList.drop 139 = dktX4_parsePoint_6 := dk_seg dksX4_parsePoint_5 22 rfl rfl
theorem dX4_parsePoint_0 : decode cX4_parsePoint 0 = .ok (.aload_n 0, 1) := dk_42 (dk_at dksX4_parsePoint_0 0 rfl rfl)
theorem dX4_parsePoint_1 : decode cX4_parsePoint 1 = .ok (.ldc 166, 2) := dk_18 166 (dk_at dksX4_parsePoint_0 1 rfl rfl)
theorem dX4_parsePoint_3 : decode cX4_parsePoint 3 = .ok (.invokevirtual 135, 3) := dk_182 0 135 (dk_at dksX4_parsePoint_0 3 rfl rfl)
theorem dX4_parsePoint_6 : decode cX4_parsePoint 6 = .ok (.ifCond .ne 11, 3) := dk_154 0 11 (dk_at dksX4_parsePoint_0 6 rfl rfl)
theorem dX4_parsePoint_9 : decode cX4_parsePoint 9 = .ok (.aload_n 0, 1) := dk_42 (dk_at dksX4_parsePoint_0 9 rfl rfl)
theorem dX4_parsePoint_10 : decode cX4_parsePoint 10 = .ok (.iconst 1, 1) := dk_4 (dk_at dksX4_parsePoint_0 10 rfl rfl)
theorem dX4_parsePoint_11 : decode cX4_parsePoint 11 = .ok (.invokevirtual 139, 3) := dk_182 0 139 (dk_at dksX4_parsePoint_0 11 rfl rfl)
theorem dX4_parsePoint_14 : decode cX4_parsePoint 14 = .ok (.goto 17, 3) := dk_167 0 17 (dk_at dksX4_parsePoint_0 14 rfl rfl)
theorem dX4_parsePoint_17 : decode cX4_parsePoint 17 = .ok (.aload_n 0, 1) := dk_42 (dk_at dksX4_parsePoint_0 17 rfl rfl)
theorem dX4_parsePoint_18 : decode cX4_parsePoint 18 = .ok (.getfield 168, 3) := dk_180 0 168 (dk_at dksX4_parsePoint_0 18 rfl rfl)
theorem dX4_parsePoint_21 : decode cX4_parsePoint 21 = .ok (.bipush 16, 2) := dk_16 16 (dk_at dksX4_parsePoint_0 21 rfl rfl)
theorem dX4_parsePoint_23 : decode cX4_parsePoint 23 = .ok (.if_icmp .ne 8, 3) := dk_160 0 8 (dk_at dksX4_parsePoint_1 0 rfl rfl)
theorem dX4_parsePoint_26 : decode cX4_parsePoint 26 = .ok (.aload_n 0, 1) := dk_42 (dk_at dksX4_parsePoint_1 3 rfl rfl)
theorem dX4_parsePoint_27 : decode cX4_parsePoint 27 = .ok (.iconst 4, 1) := dk_7 (dk_at dksX4_parsePoint_1 4 rfl rfl)
theorem dX4_parsePoint_28 : decode cX4_parsePoint 28 = .ok (.invokevirtual 139, 3) := dk_182 0 139 (dk_at dksX4_parsePoint_1 5 rfl rfl)
theorem dX4_parsePoint_31 : decode cX4_parsePoint 31 = .ok (.aload_n 0, 1) := dk_42 (dk_at dksX4_parsePoint_1 8 rfl rfl)
theorem dX4_parsePoint_32 : decode cX4_parsePoint 32 = .ok (.invokevirtual 142, 3) := dk_182 0 142 (dk_at dksX4_parsePoint_1 9 rfl rfl)
theorem dX4_parsePoint_35 : decode cX4_parsePoint 35 = .ok (.aload_n 0, 1) := dk_42 (dk_at dksX4_parsePoint_1 12 rfl rfl)
theorem dX4_parsePoint_36 : decode cX4_parsePoint 36 = .ok (.sipush 1500, 3) := dk_17 5 220 (dk_at dksX4_parsePoint_1 13 rfl rfl)
theorem dX4_parsePoint_39 : decode cX4_parsePoint 39 = .ok (.sipush 30000, 3) := dk_17 117 48 (dk_at dksX4_parsePoint_1 16 rfl rfl)
theorem dX4_parsePoint_42 : decode cX4_parsePoint 42 = .ok (.aload_n 0, 1) := dk_42 (dk_at dksX4_parsePoint_1 19 rfl rfl)
theorem dX4_parsePoint_43 : decode cX4_parsePoint 43 = .ok (.getfield 168, 3) := dk_180 0 168 (dk_at dksX4_parsePoint_1 20 rfl rfl)
theorem dX4_parsePoint_46 : decode cX4_parsePoint 46 = .ok (.ifCond .ne 7, 3) := dk_154 0 7 (dk_at dksX4_parsePoint_2 0 rfl rfl)
theorem dX4_parsePoint_49 : decode cX4_parsePoint 49 = .ok (.iconst 0, 1) := dk_3 (dk_at dksX4_parsePoint_2 3 rfl rfl)
theorem dX4_parsePoint_50 : decode cX4_parsePoint 50 = .ok (.goto 14, 3) := dk_167 0 14 (dk_at dksX4_parsePoint_2 4 rfl rfl)
theorem dX4_parsePoint_53 : decode cX4_parsePoint 53 = .ok (.aload_n 0, 1) := dk_42 (dk_at dksX4_parsePoint_2 7 rfl rfl)
theorem dX4_parsePoint_54 : decode cX4_parsePoint 54 = .ok (.getfield 43, 3) := dk_180 0 43 (dk_at dksX4_parsePoint_2 8 rfl rfl)
theorem dX4_parsePoint_57 : decode cX4_parsePoint 57 = .ok (.aload_n 0, 1) := dk_42 (dk_at dksX4_parsePoint_2 11 rfl rfl)
theorem dX4_parsePoint_58 : decode cX4_parsePoint 58 = .ok (.getfield 168, 3) := dk_180 0 168 (dk_at dksX4_parsePoint_2 12 rfl rfl)
theorem dX4_parsePoint_61 : decode cX4_parsePoint 61 = .ok (.iconst 1, 1) := dk_4 (dk_at dksX4_parsePoint_2 15 rfl rfl)
theorem dX4_parsePoint_62 : decode cX4_parsePoint 62 = .ok (.isub, 1) := dk_100 (dk_at dksX4_parsePoint_2 16 rfl rfl)
theorem dX4_parsePoint_63 : decode cX4_parsePoint 63 = .ok (.iaload, 1) := dk_46 (dk_at dksX4_parsePoint_2 17 rfl rfl)
theorem dX4_parsePoint_64 : decode cX4_parsePoint 64 = .ok (.invokevirtual 145, 3) := dk_182 0 145 (dk_at dksX4_parsePoint_2 18 rfl rfl)
theorem dX4_parsePoint_67 : decode cX4_parsePoint 67 = .ok (.istore_n 1, 1) := dk_60 (dk_at dksX4_parsePoint_2 21 rfl rfl)
theorem dX4_parsePoint_68 : decode cX4_parsePoint 68 = .ok (.aload_n 0, 1) := dk_42 (dk_at dksX4_parsePoint_2 22 rfl rfl)
theorem dX4_parsePoint_69 : decode cX4_parsePoint 69 = .ok (.iconst 1, 1) := dk_4 (dk_at dksX4_parsePoint_2 23 rfl rfl)
theorem dX4_parsePoint_70 : decode cX4_parsePoint 70 = .ok (.sipush 3000, 3) := dk_17 11 184 (dk_at dksX4_parsePoint_3 0 rfl rfl)
theorem dX4_parsePoint_73 : decode cX4_parsePoint 73 = .ok (.invokevirtual 155, 3) := dk_182 0 155 (dk_at dksX4_parsePoint_3 3 rfl rfl)
theorem dX4_parsePoint_76 : decode cX4_parsePoint 76 = .ok (.istore_n 2, 1) := dk_61 (dk_at dksX4_parsePoint_3 6 rfl rfl)
theorem dX4_parsePoint_77 : decode cX4_parsePoint 77 = .ok (.aload_n 0, 1) := dk_42 (dk_at dksX4_parsePoint_3 7 rfl rfl)
theorem dX4_parsePoint_78 : decode cX4_parsePoint 78 = .ok (.sipush (-3000), 3) := dk_17 244 72 (dk_at dksX4_parsePoint_3 8 rfl rfl)
theorem dX4_parsePoint_81 : decode cX4_parsePoint 81 = .ok (.sipush 3000, 3) := dk_17 11 184 (dk_at dksX4_parsePoint_3 11 rfl rfl)
theorem dX4_parsePoint_84 : decode cX4_parsePoint 84 = .ok (.invokevirtual 155, 3) := dk_182 0 155 (dk_at dksX4_parsePoint_3 14 rfl rfl)
theorem dX4_parsePoint_87 : decode cX4_parsePoint 87 = .ok (.istore_n 3, 1) := dk_62 (dk_at dksX4_parsePoint_3 17 rfl rfl)
theorem dX4_parsePoint_88 : decode cX4_parsePoint 88 = .ok (.aload_n 0, 1) := dk_42 (dk_at dksX4_parsePoint_3 18 rfl rfl)
theorem dX4_parsePoint_89 : decode cX4_parsePoint 89 = .ok (.invokevirtual 159, 3) := dk_182 0 159 (dk_at dksX4_parsePoint_3 19 rfl rfl)
theorem dX4_parsePoint_92 : decode cX4_parsePoint 92 = .ok (.aload_n 0, 1) := dk_42 (dk_at dksX4_parsePoint_3 22 rfl rfl)
theorem dX4_parsePoint_93 : decode cX4_parsePoint 93 = .ok (.invokevirtual 112, 3) := dk_182 0 112 (dk_at dksX4_parsePoint_4 0 rfl rfl)
theorem dX4_parsePoint_96 : decode cX4_parsePoint 96 = .ok (.ifCond .eq 51, 3) := dk_153 0 51 (dk_at dksX4_parsePoint_4 3 rfl rfl)
theorem dX4_parsePoint_99 : decode cX4_parsePoint 99 = .ok (.aload_n 0, 1) := dk_42 (dk_at dksX4_parsePoint_4 6 rfl rfl)
theorem dX4_parsePoint_100 : decode cX4_parsePoint 100 = .ok (.getfield 43, 3) := dk_180 0 43 (dk_at dksX4_parsePoint_4 7 rfl rfl)
theorem dX4_parsePoint_103 : decode cX4_parsePoint 103 = .ok (.aload_n 0, 1) := dk_42 (dk_at dksX4_parsePoint_4 10 rfl rfl)
theorem dX4_parsePoint_104 : decode cX4_parsePoint 104 = .ok (.getfield 168, 3) := dk_180 0 168 (dk_at dksX4_parsePoint_4 11 rfl rfl)
theorem dX4_parsePoint_107 : decode cX4_parsePoint 107 = .ok (.iload_n 1, 1) := dk_27 (dk_at dksX4_parsePoint_4 14 rfl rfl)
theorem dX4_parsePoint_108 : decode cX4_parsePoint 108 = .ok (.iastore, 1) := dk_79 (dk_at dksX4_parsePoint_4 15 rfl rfl)
theorem dX4_parsePoint_109 : decode cX4_parsePoint 109 = .ok (.aload_n 0, 1) := dk_42 (dk_at dksX4_parsePoint_4 16 rfl rfl)
theorem dX4_parsePoint_110 : decode cX4_parsePoint 110 = .ok (.getfield 46, 3) := dk_180 0 46 (dk_at dksX4_parsePoint_4 17 rfl rfl)
theorem dX4_parsePoint_113 : decode cX4_parsePoint 113 = .ok (.aload_n 0, 1) := dk_42 (dk_at dksX4_parsePoint_4 20 rfl rfl)
theorem dX4_parsePoint_114 : decode cX4_parsePoint 114 = .ok (.getfield 168, 3) := dk_180 0 168 (dk_at dksX4_parsePoint_4 21 rfl rfl)
theorem dX4_parsePoint_117 : decode cX4_parsePoint 117 = .ok (.sipush 1000, 3) := dk_17 3 232 (dk_at dksX4_parsePoint_5 0 rfl rfl)
theorem dX4_parsePoint_120 : decode cX4_parsePoint 120 = .ok (.iload_n 2, 1) := dk_28 (dk_at dksX4_parsePoint_5 3 rfl rfl)
theorem dX4_parsePoint_121 : decode cX4_parsePoint 121 = .ok (.imul, 1) := dk_104 (dk_at dksX4_parsePoint_5 4 rfl rfl)
theorem dX4_parsePoint_122 : decode cX4_parsePoint 122 = .ok (.iastore, 1) := dk_79 (dk_at dksX4_parsePoint_5 5 rfl rfl)
theorem dX4_parsePoint_123 : decode cX4_parsePoint 123 = .ok (.aload_n 0, 1) := dk_42 (dk_at dksX4_parsePoint_5 6 rfl rfl)
theorem dX4_parsePoint_124 : decode cX4_parsePoint 124 = .ok (.getfield 49, 3) := dk_180 0 49 (dk_at dksX4_parsePoint_5 7 rfl rfl)
theorem dX4_parsePoint_127 : decode cX4_parsePoint 127 = .ok (.aload_n 0, 1) := dk_42 (dk_at dksX4_parsePoint_5 10 rfl rfl)
theorem dX4_parsePoint_128 : decode cX4_parsePoint 128 = .ok (.getfield 168, 3) := dk_180 0 168 (dk_at dksX4_parsePoint_5 11 rfl rfl)
theorem dX4_parsePoint_131 : decode cX4_parsePoint 131 = .ok (.sipush 1000, 3) := dk_17 3 232 (dk_at dksX4_parsePoint_5 14 rfl rfl)
theorem dX4_parsePoint_134 : decode cX4_parsePoint 134 = .ok (.iload_n 3, 1) := dk_29 (dk_at dksX4_parsePoint_5 17 rfl rfl)
theorem dX4_parsePoint_135 : decode cX4_parsePoint 135 = .ok (.imul, 1) := dk_104 (dk_at dksX4_parsePoint_5 18 rfl rfl)
theorem dX4_parsePoint_136 : decode cX4_parsePoint 136 = .ok (.iastore, 1) := dk_79 (dk_at dksX4_parsePoint_5 19 rfl rfl)
theorem dX4_parsePoint_137 : decode cX4_parsePoint 137 = .ok (.aload_n 0, 1) := dk_42 (dk_at dksX4_parsePoint_5 20 rfl rfl)
theorem dX4_parsePoint_138 : decode cX4_parsePoint 138 = .ok (.dup, 1) := dk_89 (dk_at dksX4_parsePoint_5 21 rfl rfl)
theorem dX4_parsePoint_139 : decode cX4_parsePoint 139 = .ok (.getfield 168, 3) := dk_180 0 168 (dk_at dksX4_parsePoint_6 0 rfl rfl)
theorem dX4_parsePoint_142 : decode cX4_parsePoint 142 = .ok (.iconst 1, 1) := dk_4 (dk_at dksX4_parsePoint_6 3 rfl rfl)
theorem dX4_parsePoint_143 : decode cX4_parsePoint 143 = .ok (.iadd, 1) := dk_96 (dk_at dksX4_parsePoint_6 4 rfl rfl)
theorem dX4_parsePoint_144 : decode cX4_parsePoint 144 = .ok (.putfield 168, 3) := dk_181 0 168 (dk_at dksX4_parsePoint_6 5 rfl rfl)
theorem dX4_parsePoint_147 : decode cX4_parsePoint 147 = .ok (.return_, 1) := dk_177 (dk_at dksX4_parsePoint_6 8 rfl rfl)
abbrev cX4_parseBand : ByteArray := prog_21_method_22_code
def yX4_parseBand : MethodName := ⟨RX4, "parseBand", "()V"⟩
def dkwX4_parseBand_4 : List UInt8 := [180, 0, 173, 4, 96, 181, 0, 173, 177]
abbrev dktX4_parseBand_4 : List UInt8 := dkwX4_parseBand_4 ++ []
def dkwX4_parseBand_3 : List UInt8 := [42, 180, 0, 52, 42, 180, 0, 173, 27, 79, 42, 180, 0, 55, 42, 180, 0, 173, 28, 79, 42, 89]
abbrev dktX4_parseBand_3 : List UInt8 := dkwX4_parseBand_3 ++ dktX4_parseBand_4
def dkwX4_parseBand_2 : List UInt8 := [17, 5, 220, 17, 117, 48, 27, 4, 100, 182, 0, 145, 61, 42, 182, 0, 159, 42, 182, 0, 112, 153, 0, 33]
abbrev dktX4_parseBand_2 : List UInt8 := dkwX4_parseBand_2 ++ dktX4_parseBand_3
def dkwX4_parseBand_1 : List UInt8 := [160, 0, 8, 42, 7, 182, 0, 139, 42, 182, 0, 142, 42, 17, 5, 220, 17, 117, 48, 182, 0, 155, 60, 42]
abbrev dktX4_parseBand_1 : List UInt8 := dkwX4_parseBand_1 ++ dktX4_parseBand_2
def dkwX4_parseBand_0 : List UInt8 := [42, 18, 171, 182, 0, 135, 154, 0, 11, 42, 4, 182, 0, 139, 167, 0, 17, 42, 180, 0, 173, 16, 8]
abbrev dktX4_parseBand_0 : List UInt8 := dkwX4_parseBand_0 ++ dktX4_parseBand_1
theorem dksX4_parseBand_0 : cX4_parseBand.data.toList.drop 0 = dktX4_parseBand_0 := by decide +kernel
theorem dksX4_parseBand_1 : cX4_parseBand.data.toList.drop 23 = dktX4_parseBand_1 := dk_seg dksX4_parseBand_0 23 rfl rfl
theorem dksX4_parseBand_2 : cX4_parseBand.data.toList.drop 47 = dktX4_parseBand_2 := dk_seg dksX4_parseBand_1 24 rfl rfl
theorem dksX4_parseBand_3 : cX4_parseBand.data.toList.drop 71 = dktX4_parseBand_3 := dk_seg dksX4_parseBand_2 24 rfl rfl
theorem dksX4_parseBand_4 : cX4_parseBand.data.toList.drop 93 = dktX4_parseBand_4 := dk_seg dksX4_parseBand_3 22 rfl rfl
theorem dX4_parseBand_0 : decode cX4_parseBand 0 = .ok (.aload_n 0, 1) := dk_42 (dk_at dksX4_parseBand_0 0 rfl rfl)
theorem dX4_parseBand_1 : decode cX4_parseBand 1 = .ok (.ldc 171, 2) := dk_18 171 (dk_at dksX4_parseBand_0 1 rfl rfl)
theorem dX4_parseBand_3 : decode cX4_parseBand 3 = .ok (.invokevirtual 135, 3) := dk_182 0 135 (dk_at dksX4_parseBand_0 3 rfl rfl)
theorem dX4_parseBand_6 : decode cX4_parseBand 6 = .ok (.ifCond .ne 11, 3) := dk_154 0 11 (dk_at dksX4_parseBand_0 6 rfl rfl)
theorem dX4_parseBand_9 : decode cX4_parseBand 9 = .ok (.aload_n 0, 1) := dk_42 (dk_at dksX4_parseBand_0 9 rfl rfl)
theorem dX4_parseBand_10 : decode cX4_parseBand 10 = .ok (.iconst 1, 1) := dk_4 (dk_at dksX4_parseBand_0 10 rfl rfl)
theorem dX4_parseBand_11 : decode cX4_parseBand 11 = .ok (.invokevirtual 139, 3) := dk_182 0 139 (dk_at dksX4_parseBand_0 11 rfl rfl)
theorem dX4_parseBand_14 : decode cX4_parseBand 14 = .ok (.goto 17, 3) := dk_167 0 17 (dk_at dksX4_parseBand_0 14 rfl rfl)
theorem dX4_parseBand_17 : decode cX4_parseBand 17 = .ok (.aload_n 0, 1) := dk_42 (dk_at dksX4_parseBand_0 17 rfl rfl)
theorem dX4_parseBand_18 : decode cX4_parseBand 18 = .ok (.getfield 173, 3) := dk_180 0 173 (dk_at dksX4_parseBand_0 18 rfl rfl)
theorem dX4_parseBand_21 : decode cX4_parseBand 21 = .ok (.bipush 8, 2) := dk_16 8 (dk_at dksX4_parseBand_0 21 rfl rfl)
theorem dX4_parseBand_23 : decode cX4_parseBand 23 = .ok (.if_icmp .ne 8, 3) := dk_160 0 8 (dk_at dksX4_parseBand_1 0 rfl rfl)
theorem dX4_parseBand_26 : decode cX4_parseBand 26 = .ok (.aload_n 0, 1) := dk_42 (dk_at dksX4_parseBand_1 3 rfl rfl)
theorem dX4_parseBand_27 : decode cX4_parseBand 27 = .ok (.iconst 4, 1) := dk_7 (dk_at dksX4_parseBand_1 4 rfl rfl)
theorem dX4_parseBand_28 : decode cX4_parseBand 28 = .ok (.invokevirtual 139, 3) := dk_182 0 139 (dk_at dksX4_parseBand_1 5 rfl rfl)
theorem dX4_parseBand_31 : decode cX4_parseBand 31 = .ok (.aload_n 0, 1) := dk_42 (dk_at dksX4_parseBand_1 8 rfl rfl)
theorem dX4_parseBand_32 : decode cX4_parseBand 32 = .ok (.invokevirtual 142, 3) := dk_182 0 142 (dk_at dksX4_parseBand_1 9 rfl rfl)
theorem dX4_parseBand_35 : decode cX4_parseBand 35 = .ok (.aload_n 0, 1) := dk_42 (dk_at dksX4_parseBand_1 12 rfl rfl)
theorem dX4_parseBand_36 : decode cX4_parseBand 36 = .ok (.sipush 1500, 3) := dk_17 5 220 (dk_at dksX4_parseBand_1 13 rfl rfl)
theorem dX4_parseBand_39 : decode cX4_parseBand 39 = .ok (.sipush 30000, 3) := dk_17 117 48 (dk_at dksX4_parseBand_1 16 rfl rfl)
theorem dX4_parseBand_42 : decode cX4_parseBand 42 = .ok (.invokevirtual 155, 3) := dk_182 0 155 (dk_at dksX4_parseBand_1 19 rfl rfl)
theorem dX4_parseBand_45 : decode cX4_parseBand 45 = .ok (.istore_n 1, 1) := dk_60 (dk_at dksX4_parseBand_1 22 rfl rfl)
theorem dX4_parseBand_46 : decode cX4_parseBand 46 = .ok (.aload_n 0, 1) := dk_42 (dk_at dksX4_parseBand_1 23 rfl rfl)
theorem dX4_parseBand_47 : decode cX4_parseBand 47 = .ok (.sipush 1500, 3) := dk_17 5 220 (dk_at dksX4_parseBand_2 0 rfl rfl)
theorem dX4_parseBand_50 : decode cX4_parseBand 50 = .ok (.sipush 30000, 3) := dk_17 117 48 (dk_at dksX4_parseBand_2 3 rfl rfl)
theorem dX4_parseBand_53 : decode cX4_parseBand 53 = .ok (.iload_n 1, 1) := dk_27 (dk_at dksX4_parseBand_2 6 rfl rfl)
theorem dX4_parseBand_54 : decode cX4_parseBand 54 = .ok (.iconst 1, 1) := dk_4 (dk_at dksX4_parseBand_2 7 rfl rfl)
theorem dX4_parseBand_55 : decode cX4_parseBand 55 = .ok (.isub, 1) := dk_100 (dk_at dksX4_parseBand_2 8 rfl rfl)
theorem dX4_parseBand_56 : decode cX4_parseBand 56 = .ok (.invokevirtual 145, 3) := dk_182 0 145 (dk_at dksX4_parseBand_2 9 rfl rfl)
theorem dX4_parseBand_59 : decode cX4_parseBand 59 = .ok (.istore_n 2, 1) := dk_61 (dk_at dksX4_parseBand_2 12 rfl rfl)
theorem dX4_parseBand_60 : decode cX4_parseBand 60 = .ok (.aload_n 0, 1) := dk_42 (dk_at dksX4_parseBand_2 13 rfl rfl)
theorem dX4_parseBand_61 : decode cX4_parseBand 61 = .ok (.invokevirtual 159, 3) := dk_182 0 159 (dk_at dksX4_parseBand_2 14 rfl rfl)
theorem dX4_parseBand_64 : decode cX4_parseBand 64 = .ok (.aload_n 0, 1) := dk_42 (dk_at dksX4_parseBand_2 17 rfl rfl)
theorem dX4_parseBand_65 : decode cX4_parseBand 65 = .ok (.invokevirtual 112, 3) := dk_182 0 112 (dk_at dksX4_parseBand_2 18 rfl rfl)
theorem dX4_parseBand_68 : decode cX4_parseBand 68 = .ok (.ifCond .eq 33, 3) := dk_153 0 33 (dk_at dksX4_parseBand_2 21 rfl rfl)
theorem dX4_parseBand_71 : decode cX4_parseBand 71 = .ok (.aload_n 0, 1) := dk_42 (dk_at dksX4_parseBand_3 0 rfl rfl)
theorem dX4_parseBand_72 : decode cX4_parseBand 72 = .ok (.getfield 52, 3) := dk_180 0 52 (dk_at dksX4_parseBand_3 1 rfl rfl)
theorem dX4_parseBand_75 : decode cX4_parseBand 75 = .ok (.aload_n 0, 1) := dk_42 (dk_at dksX4_parseBand_3 4 rfl rfl)
theorem dX4_parseBand_76 : decode cX4_parseBand 76 = .ok (.getfield 173, 3) := dk_180 0 173 (dk_at dksX4_parseBand_3 5 rfl rfl)
theorem dX4_parseBand_79 : decode cX4_parseBand 79 = .ok (.iload_n 1, 1) := dk_27 (dk_at dksX4_parseBand_3 8 rfl rfl)
theorem dX4_parseBand_80 : decode cX4_parseBand 80 = .ok (.iastore, 1) := dk_79 (dk_at dksX4_parseBand_3 9 rfl rfl)
theorem dX4_parseBand_81 : decode cX4_parseBand 81 = .ok (.aload_n 0, 1) := dk_42 (dk_at dksX4_parseBand_3 10 rfl rfl)
theorem dX4_parseBand_82 : decode cX4_parseBand 82 = .ok (.getfield 55, 3) := dk_180 0 55 (dk_at dksX4_parseBand_3 11 rfl rfl)
theorem dX4_parseBand_85 : decode cX4_parseBand 85 = .ok (.aload_n 0, 1) := dk_42 (dk_at dksX4_parseBand_3 14 rfl rfl)
theorem dX4_parseBand_86 : decode cX4_parseBand 86 = .ok (.getfield 173, 3) := dk_180 0 173 (dk_at dksX4_parseBand_3 15 rfl rfl)
theorem dX4_parseBand_89 : decode cX4_parseBand 89 = .ok (.iload_n 2, 1) := dk_28 (dk_at dksX4_parseBand_3 18 rfl rfl)
theorem dX4_parseBand_90 : decode cX4_parseBand 90 = .ok (.iastore, 1) := dk_79 (dk_at dksX4_parseBand_3 19 rfl rfl)
theorem dX4_parseBand_91 : decode cX4_parseBand 91 = .ok (.aload_n 0, 1) := dk_42 (dk_at dksX4_parseBand_3 20 rfl rfl)
theorem dX4_parseBand_92 : decode cX4_parseBand 92 = .ok (.dup, 1) := dk_89 (dk_at dksX4_parseBand_3 21 rfl rfl)
theorem dX4_parseBand_93 : decode cX4_parseBand 93 = .ok (.getfield 173, 3) := dk_180 0 173 (dk_at dksX4_parseBand_4 0 rfl rfl)
theorem dX4_parseBand_96 : decode cX4_parseBand 96 = .ok (.iconst 1, 1) := dk_4 (dk_at dksX4_parseBand_4 3 rfl rfl)
theorem dX4_parseBand_97 : decode cX4_parseBand 97 = .ok (.iadd, 1) := dk_96 (dk_at dksX4_parseBand_4 4 rfl rfl)
theorem dX4_parseBand_98 : decode cX4_parseBand 98 = .ok (.putfield 173, 3) := dk_181 0 173 (dk_at dksX4_parseBand_4 5 rfl rfl)
theorem dX4_parseBand_101 : decode cX4_parseBand 101 = .ok (.return_, 1) := dk_177 (dk_at dksX4_parseBand_4 8 rfl rfl)
abbrev cX4_takeOver : ByteArray := prog_21_method_26_code
def yX4_takeOver : MethodName := ⟨RX4, "takeOver", "()V"⟩
def dkwX4_takeOver_9 : List UInt8 := [4, 79, 42, 3, 181, 0, 219, 42, 3, 181, 0, 222, 42, 3, 181, 0, 225, 177]
abbrev dktX4_takeOver_9 : List UInt8 := dkwX4_takeOver_9 ++ []
def dkwX4_takeOver_8 : List UInt8 := [79, 132, 1, 1, 167, 255, 239, 42, 180, 0, 9, 3, 42, 180, 0, 18, 3, 46, 79, 42, 180, 0, 9, 6]
abbrev dktX4_takeOver_8 : List UInt8 := dkwX4_takeOver_8 ++ dktX4_takeOver_9
def dkwX4_takeOver_7 : List UInt8 := [27, 46, 79, 132, 1, 1, 167, 255, 221, 3, 60, 27, 17, 0, 254, 162, 0, 16, 42, 180, 0, 9, 27, 3]
abbrev dktX4_takeOver_7 : List UInt8 := dkwX4_takeOver_7 ++ dktX4_takeOver_8
def dkwX4_takeOver_6 : List UInt8 := [162, 0, 33, 42, 180, 0, 27, 27, 42, 180, 0, 52, 27, 46, 79, 42, 180, 0, 30, 27, 42, 180, 0, 55]
abbrev dktX4_takeOver_6 : List UInt8 := dkwX4_takeOver_6 ++ dktX4_takeOver_7
def dkwX4_takeOver_5 : List UInt8 := [79, 132, 1, 1, 167, 255, 209, 42, 42, 180, 0, 173, 181, 0, 216, 3, 60, 27, 42, 180, 0, 216]
abbrev dktX4_takeOver_5 : List UInt8 := dkwX4_takeOver_5 ++ dktX4_takeOver_6
def dkwX4_takeOver_4 : List UInt8 := [79, 42, 180, 0, 21, 27, 42, 180, 0, 46, 27, 46, 79, 42, 180, 0, 24, 27, 42, 180, 0, 49, 27, 46]
abbrev dktX4_takeOver_4 : List UInt8 := dkwX4_takeOver_4 ++ dktX4_takeOver_5
def dkwX4_takeOver_3 : List UInt8 := [181, 0, 191, 3, 60, 27, 42, 180, 0, 191, 162, 0, 45, 42, 180, 0, 18, 27, 42, 180, 0, 43, 27, 46]
abbrev dktX4_takeOver_3 : List UInt8 := dkwX4_takeOver_3 ++ dktX4_takeOver_4
def dkwX4_takeOver_2 : List UInt8 := [42, 180, 0, 40, 7, 46, 181, 0, 210, 42, 42, 180, 0, 40, 8, 46, 181, 0, 213, 42, 42, 180, 0, 168]
abbrev dktX4_takeOver_2 : List UInt8 := dkwX4_takeOver_2 ++ dktX4_takeOver_3
def dkwX4_takeOver_1 : List UInt8 := [181, 0, 201, 42, 42, 180, 0, 40, 5, 46, 181, 0, 204, 42, 42, 180, 0, 40, 6, 46, 181, 0, 207, 42]
abbrev dktX4_takeOver_1 : List UInt8 := dkwX4_takeOver_1 ++ dktX4_takeOver_2
def dkwX4_takeOver_0 : List UInt8 := [42, 4, 181, 0, 194, 42, 42, 180, 0, 40, 3, 46, 181, 0, 198, 42, 42, 180, 0, 40, 4, 46]
abbrev dktX4_takeOver_0 : List UInt8 := dkwX4_takeOver_0 ++ dktX4_takeOver_1
theorem dksX4_takeOver_0 : cX4_takeOver.data.toList.drop 0 = dktX4_takeOver_0 := by decide +kernel
theorem dksX4_takeOver_1 : cX4_takeOver.data.toList.drop 22 = dktX4_takeOver_1 := dk_seg dksX4_takeOver_0 22 rfl rfl
theorem dksX4_takeOver_2 : cX4_takeOver.data.toList.drop 46 = dktX4_takeOver_2 := dk_seg dksX4_takeOver_1 24 rfl rfl
theorem dksX4_takeOver_3 : cX4_takeOver.data.toList.drop 70 = dktX4_takeOver_3 := dk_seg dksX4_takeOver_2 24 rfl rfl
theorem dksX4_takeOver_4 : cX4_takeOver.data.toList.drop 94 = dktX4_takeOver_4 := dk_seg dksX4_takeOver_3 24 rfl rfl
theorem dksX4_takeOver_5 : cX4_takeOver.data.toList.drop 118 = dktX4_takeOver_5 := dk_seg dksX4_takeOver_4 24 rfl rfl
theorem dksX4_takeOver_6 : cX4_takeOver.data.toList.drop 140 = dktX4_takeOver_6 := dk_seg dksX4_takeOver_5 22 rfl rfl
theorem dksX4_takeOver_7 : cX4_takeOver.data.toList.drop 164 = dktX4_takeOver_7 := dk_seg dksX4_takeOver_6 24 rfl rfl
theorem dksX4_takeOver_8 : cX4_takeOver.data.toList.drop 188 = dktX4_takeOver_8 := dk_seg dksX4_takeOver_7 24 rfl rfl
theorem dksX4_takeOver_9 : cX4_takeOver.data.toList.drop 212 = dktX4_takeOver_9 := dk_seg dksX4_takeOver_8 24 rfl rfl
theorem dX4_takeOver_0 : decode cX4_takeOver 0 = .ok (.aload_n 0, 1) := dk_42 (dk_at dksX4_takeOver_0 0 rfl rfl)
theorem dX4_takeOver_1 : decode cX4_takeOver 1 = .ok (.iconst 1, 1) := dk_4 (dk_at dksX4_takeOver_0 1 rfl rfl)
theorem dX4_takeOver_2 : decode cX4_takeOver 2 = .ok (.putfield 194, 3) := dk_181 0 194 (dk_at dksX4_takeOver_0 2 rfl rfl)
theorem dX4_takeOver_5 : decode cX4_takeOver 5 = .ok (.aload_n 0, 1) := dk_42 (dk_at dksX4_takeOver_0 5 rfl rfl)
theorem dX4_takeOver_6 : decode cX4_takeOver 6 = .ok (.aload_n 0, 1) := dk_42 (dk_at dksX4_takeOver_0 6 rfl rfl)
theorem dX4_takeOver_7 : decode cX4_takeOver 7 = .ok (.getfield 40, 3) := dk_180 0 40 (dk_at dksX4_takeOver_0 7 rfl rfl)
theorem dX4_takeOver_10 : decode cX4_takeOver 10 = .ok (.iconst 0, 1) := dk_3 (dk_at dksX4_takeOver_0 10 rfl rfl)
theorem dX4_takeOver_11 : decode cX4_takeOver 11 = .ok (.iaload, 1) := dk_46 (dk_at dksX4_takeOver_0 11 rfl rfl)
theorem dX4_takeOver_12 : decode cX4_takeOver 12 = .ok (.putfield 198, 3) := dk_181 0 198 (dk_at dksX4_takeOver_0 12 rfl rfl)
theorem dX4_takeOver_15 : decode cX4_takeOver 15 = .ok (.aload_n 0, 1) := dk_42 (dk_at dksX4_takeOver_0 15 rfl rfl)
theorem dX4_takeOver_16 : decode cX4_takeOver 16 = .ok (.aload_n 0, 1) := dk_42 (dk_at dksX4_takeOver_0 16 rfl rfl)
theorem dX4_takeOver_17 : decode cX4_takeOver 17 = .ok (.getfield 40, 3) := dk_180 0 40 (dk_at dksX4_takeOver_0 17 rfl rfl)
theorem dX4_takeOver_20 : decode cX4_takeOver 20 = .ok (.iconst 1, 1) := dk_4 (dk_at dksX4_takeOver_0 20 rfl rfl)
theorem dX4_takeOver_21 : decode cX4_takeOver 21 = .ok (.iaload, 1) := dk_46 (dk_at dksX4_takeOver_0 21 rfl rfl)
theorem dX4_takeOver_22 : decode cX4_takeOver 22 = .ok (.putfield 201, 3) := dk_181 0 201 (dk_at dksX4_takeOver_1 0 rfl rfl)
theorem dX4_takeOver_25 : decode cX4_takeOver 25 = .ok (.aload_n 0, 1) := dk_42 (dk_at dksX4_takeOver_1 3 rfl rfl)
theorem dX4_takeOver_26 : decode cX4_takeOver 26 = .ok (.aload_n 0, 1) := dk_42 (dk_at dksX4_takeOver_1 4 rfl rfl)
theorem dX4_takeOver_27 : decode cX4_takeOver 27 = .ok (.getfield 40, 3) := dk_180 0 40 (dk_at dksX4_takeOver_1 5 rfl rfl)
theorem dX4_takeOver_30 : decode cX4_takeOver 30 = .ok (.iconst 2, 1) := dk_5 (dk_at dksX4_takeOver_1 8 rfl rfl)
theorem dX4_takeOver_31 : decode cX4_takeOver 31 = .ok (.iaload, 1) := dk_46 (dk_at dksX4_takeOver_1 9 rfl rfl)
theorem dX4_takeOver_32 : decode cX4_takeOver 32 = .ok (.putfield 204, 3) := dk_181 0 204 (dk_at dksX4_takeOver_1 10 rfl rfl)
theorem dX4_takeOver_35 : decode cX4_takeOver 35 = .ok (.aload_n 0, 1) := dk_42 (dk_at dksX4_takeOver_1 13 rfl rfl)
theorem dX4_takeOver_36 : decode cX4_takeOver 36 = .ok (.aload_n 0, 1) := dk_42 (dk_at dksX4_takeOver_1 14 rfl rfl)
theorem dX4_takeOver_37 : decode cX4_takeOver 37 = .ok (.getfield 40, 3) := dk_180 0 40 (dk_at dksX4_takeOver_1 15 rfl rfl)
theorem dX4_takeOver_40 : decode cX4_takeOver 40 = .ok (.iconst 3, 1) := dk_6 (dk_at dksX4_takeOver_1 18 rfl rfl)
theorem dX4_takeOver_41 : decode cX4_takeOver 41 = .ok (.iaload, 1) := dk_46 (dk_at dksX4_takeOver_1 19 rfl rfl)
theorem dX4_takeOver_42 : decode cX4_takeOver 42 = .ok (.putfield 207, 3) := dk_181 0 207 (dk_at dksX4_takeOver_1 20 rfl rfl)
theorem dX4_takeOver_45 : decode cX4_takeOver 45 = .ok (.aload_n 0, 1) := dk_42 (dk_at dksX4_takeOver_1 23 rfl rfl)
theorem dX4_takeOver_46 : decode cX4_takeOver 46 = .ok (.aload_n 0, 1) := dk_42 (dk_at dksX4_takeOver_2 0 rfl rfl)
theorem dX4_takeOver_47 : decode cX4_takeOver 47 = .ok (.getfield 40, 3) := dk_180 0 40 (dk_at dksX4_takeOver_2 1 rfl rfl)
theorem dX4_takeOver_50 : decode cX4_takeOver 50 = .ok (.iconst 4, 1) := dk_7 (dk_at dksX4_takeOver_2 4 rfl rfl)
theorem dX4_takeOver_51 : decode cX4_takeOver 51 = .ok (.iaload, 1) := dk_46 (dk_at dksX4_takeOver_2 5 rfl rfl)
theorem dX4_takeOver_52 : decode cX4_takeOver 52 = .ok (.putfield 210, 3) := dk_181 0 210 (dk_at dksX4_takeOver_2 6 rfl rfl)
theorem dX4_takeOver_55 : decode cX4_takeOver 55 = .ok (.aload_n 0, 1) := dk_42 (dk_at dksX4_takeOver_2 9 rfl rfl)
theorem dX4_takeOver_56 : decode cX4_takeOver 56 = .ok (.aload_n 0, 1) := dk_42 (dk_at dksX4_takeOver_2 10 rfl rfl)
theorem dX4_takeOver_57 : decode cX4_takeOver 57 = .ok (.getfield 40, 3) := dk_180 0 40 (dk_at dksX4_takeOver_2 11 rfl rfl)
theorem dX4_takeOver_60 : decode cX4_takeOver 60 = .ok (.iconst 5, 1) := dk_8 (dk_at dksX4_takeOver_2 14 rfl rfl)
theorem dX4_takeOver_61 : decode cX4_takeOver 61 = .ok (.iaload, 1) := dk_46 (dk_at dksX4_takeOver_2 15 rfl rfl)
theorem dX4_takeOver_62 : decode cX4_takeOver 62 = .ok (.putfield 213, 3) := dk_181 0 213 (dk_at dksX4_takeOver_2 16 rfl rfl)
theorem dX4_takeOver_65 : decode cX4_takeOver 65 = .ok (.aload_n 0, 1) := dk_42 (dk_at dksX4_takeOver_2 19 rfl rfl)
theorem dX4_takeOver_66 : decode cX4_takeOver 66 = .ok (.aload_n 0, 1) := dk_42 (dk_at dksX4_takeOver_2 20 rfl rfl)
theorem dX4_takeOver_67 : decode cX4_takeOver 67 = .ok (.getfield 168, 3) := dk_180 0 168 (dk_at dksX4_takeOver_2 21 rfl rfl)
theorem dX4_takeOver_70 : decode cX4_takeOver 70 = .ok (.putfield 191, 3) := dk_181 0 191 (dk_at dksX4_takeOver_3 0 rfl rfl)
theorem dX4_takeOver_73 : decode cX4_takeOver 73 = .ok (.iconst 0, 1) := dk_3 (dk_at dksX4_takeOver_3 3 rfl rfl)
theorem dX4_takeOver_74 : decode cX4_takeOver 74 = .ok (.istore_n 1, 1) := dk_60 (dk_at dksX4_takeOver_3 4 rfl rfl)
theorem dX4_takeOver_75 : decode cX4_takeOver 75 = .ok (.iload_n 1, 1) := dk_27 (dk_at dksX4_takeOver_3 5 rfl rfl)
theorem dX4_takeOver_76 : decode cX4_takeOver 76 = .ok (.aload_n 0, 1) := dk_42 (dk_at dksX4_takeOver_3 6 rfl rfl)
theorem dX4_takeOver_77 : decode cX4_takeOver 77 = .ok (.getfield 191, 3) := dk_180 0 191 (dk_at dksX4_takeOver_3 7 rfl rfl)
theorem dX4_takeOver_80 : decode cX4_takeOver 80 = .ok (.if_icmp .ge 45, 3) := dk_162 0 45 (dk_at dksX4_takeOver_3 10 rfl rfl)
theorem dX4_takeOver_83 : decode cX4_takeOver 83 = .ok (.aload_n 0, 1) := dk_42 (dk_at dksX4_takeOver_3 13 rfl rfl)
theorem dX4_takeOver_84 : decode cX4_takeOver 84 = .ok (.getfield 18, 3) := dk_180 0 18 (dk_at dksX4_takeOver_3 14 rfl rfl)
theorem dX4_takeOver_87 : decode cX4_takeOver 87 = .ok (.iload_n 1, 1) := dk_27 (dk_at dksX4_takeOver_3 17 rfl rfl)
theorem dX4_takeOver_88 : decode cX4_takeOver 88 = .ok (.aload_n 0, 1) := dk_42 (dk_at dksX4_takeOver_3 18 rfl rfl)
theorem dX4_takeOver_89 : decode cX4_takeOver 89 = .ok (.getfield 43, 3) := dk_180 0 43 (dk_at dksX4_takeOver_3 19 rfl rfl)
theorem dX4_takeOver_92 : decode cX4_takeOver 92 = .ok (.iload_n 1, 1) := dk_27 (dk_at dksX4_takeOver_3 22 rfl rfl)
theorem dX4_takeOver_93 : decode cX4_takeOver 93 = .ok (.iaload, 1) := dk_46 (dk_at dksX4_takeOver_3 23 rfl rfl)
theorem dX4_takeOver_94 : decode cX4_takeOver 94 = .ok (.iastore, 1) := dk_79 (dk_at dksX4_takeOver_4 0 rfl rfl)
theorem dX4_takeOver_95 : decode cX4_takeOver 95 = .ok (.aload_n 0, 1) := dk_42 (dk_at dksX4_takeOver_4 1 rfl rfl)
theorem dX4_takeOver_96 : decode cX4_takeOver 96 = .ok (.getfield 21, 3) := dk_180 0 21 (dk_at dksX4_takeOver_4 2 rfl rfl)
theorem dX4_takeOver_99 : decode cX4_takeOver 99 = .ok (.iload_n 1, 1) := dk_27 (dk_at dksX4_takeOver_4 5 rfl rfl)
theorem dX4_takeOver_100 : decode cX4_takeOver 100 = .ok (.aload_n 0, 1) := dk_42 (dk_at dksX4_takeOver_4 6 rfl rfl)
theorem dX4_takeOver_101 : decode cX4_takeOver 101 = .ok (.getfield 46, 3) := dk_180 0 46 (dk_at dksX4_takeOver_4 7 rfl rfl)
theorem dX4_takeOver_104 : decode cX4_takeOver 104 = .ok (.iload_n 1, 1) := dk_27 (dk_at dksX4_takeOver_4 10 rfl rfl)
theorem dX4_takeOver_105 : decode cX4_takeOver 105 = .ok (.iaload, 1) := dk_46 (dk_at dksX4_takeOver_4 11 rfl rfl)
theorem dX4_takeOver_106 : decode cX4_takeOver 106 = .ok (.iastore, 1) := dk_79 (dk_at dksX4_takeOver_4 12 rfl rfl)
theorem dX4_takeOver_107 : decode cX4_takeOver 107 = .ok (.aload_n 0, 1) := dk_42 (dk_at dksX4_takeOver_4 13 rfl rfl)
theorem dX4_takeOver_108 : decode cX4_takeOver 108 = .ok (.getfield 24, 3) := dk_180 0 24 (dk_at dksX4_takeOver_4 14 rfl rfl)
theorem dX4_takeOver_111 : decode cX4_takeOver 111 = .ok (.iload_n 1, 1) := dk_27 (dk_at dksX4_takeOver_4 17 rfl rfl)
theorem dX4_takeOver_112 : decode cX4_takeOver 112 = .ok (.aload_n 0, 1) := dk_42 (dk_at dksX4_takeOver_4 18 rfl rfl)
theorem dX4_takeOver_113 : decode cX4_takeOver 113 = .ok (.getfield 49, 3) := dk_180 0 49 (dk_at dksX4_takeOver_4 19 rfl rfl)
theorem dX4_takeOver_116 : decode cX4_takeOver 116 = .ok (.iload_n 1, 1) := dk_27 (dk_at dksX4_takeOver_4 22 rfl rfl)
theorem dX4_takeOver_117 : decode cX4_takeOver 117 = .ok (.iaload, 1) := dk_46 (dk_at dksX4_takeOver_4 23 rfl rfl)
theorem dX4_takeOver_118 : decode cX4_takeOver 118 = .ok (.iastore, 1) := dk_79 (dk_at dksX4_takeOver_5 0 rfl rfl)
theorem dX4_takeOver_119 : decode cX4_takeOver 119 = .ok (.iinc 1 1, 3) := dk_132 1 1 (dk_at dksX4_takeOver_5 1 rfl rfl)
theorem dX4_takeOver_122 : decode cX4_takeOver 122 = .ok (.goto (-47), 3) := dk_167 255 209 (dk_at dksX4_takeOver_5 4 rfl rfl)
theorem dX4_takeOver_125 : decode cX4_takeOver 125 = .ok (.aload_n 0, 1) := dk_42 (dk_at dksX4_takeOver_5 7 rfl rfl)
theorem dX4_takeOver_126 : decode cX4_takeOver 126 = .ok (.aload_n 0, 1) := dk_42 (dk_at dksX4_takeOver_5 8 rfl rfl)
theorem dX4_takeOver_127 : decode cX4_takeOver 127 = .ok (.getfield 173, 3) := dk_180 0 173 (dk_at dksX4_takeOver_5 9 rfl rfl)
theorem dX4_takeOver_130 : decode cX4_takeOver 130 = .ok (.putfield 216, 3) := dk_181 0 216 (dk_at dksX4_takeOver_5 12 rfl rfl)
theorem dX4_takeOver_133 : decode cX4_takeOver 133 = .ok (.iconst 0, 1) := dk_3 (dk_at dksX4_takeOver_5 15 rfl rfl)
theorem dX4_takeOver_134 : decode cX4_takeOver 134 = .ok (.istore_n 1, 1) := dk_60 (dk_at dksX4_takeOver_5 16 rfl rfl)
theorem dX4_takeOver_135 : decode cX4_takeOver 135 = .ok (.iload_n 1, 1) := dk_27 (dk_at dksX4_takeOver_5 17 rfl rfl)
theorem dX4_takeOver_136 : decode cX4_takeOver 136 = .ok (.aload_n 0, 1) := dk_42 (dk_at dksX4_takeOver_5 18 rfl rfl)
theorem dX4_takeOver_137 : decode cX4_takeOver 137 = .ok (.getfield 216, 3) := dk_180 0 216 (dk_at dksX4_takeOver_5 19 rfl rfl)
theorem dX4_takeOver_140 : decode cX4_takeOver 140 = .ok (.if_icmp .ge 33, 3) := dk_162 0 33 (dk_at dksX4_takeOver_6 0 rfl rfl)
theorem dX4_takeOver_143 : decode cX4_takeOver 143 = .ok (.aload_n 0, 1) := dk_42 (dk_at dksX4_takeOver_6 3 rfl rfl)
theorem dX4_takeOver_144 : decode cX4_takeOver 144 = .ok (.getfield 27, 3) := dk_180 0 27 (dk_at dksX4_takeOver_6 4 rfl rfl)
theorem dX4_takeOver_147 : decode cX4_takeOver 147 = .ok (.iload_n 1, 1) := dk_27 (dk_at dksX4_takeOver_6 7 rfl rfl)
theorem dX4_takeOver_148 : decode cX4_takeOver 148 = .ok (.aload_n 0, 1) := dk_42 (dk_at dksX4_takeOver_6 8 rfl rfl)
theorem dX4_takeOver_149 : decode cX4_takeOver 149 = .ok (.getfield 52, 3) := dk_180 0 52 (dk_at dksX4_takeOver_6 9 rfl rfl)
theorem dX4_takeOver_152 : decode cX4_takeOver 152 = .ok (.iload_n 1, 1) := dk_27 (dk_at dksX4_takeOver_6 12 rfl rfl)
theorem dX4_takeOver_153 : decode cX4_takeOver 153 = .ok (.iaload, 1) := dk_46 (dk_at dksX4_takeOver_6 13 rfl rfl)
theorem dX4_takeOver_154 : decode cX4_takeOver 154 = .ok (.iastore, 1) := dk_79 (dk_at dksX4_takeOver_6 14 rfl rfl)
theorem dX4_takeOver_155 : decode cX4_takeOver 155 = .ok (.aload_n 0, 1) := dk_42 (dk_at dksX4_takeOver_6 15 rfl rfl)
theorem dX4_takeOver_156 : decode cX4_takeOver 156 = .ok (.getfield 30, 3) := dk_180 0 30 (dk_at dksX4_takeOver_6 16 rfl rfl)
theorem dX4_takeOver_159 : decode cX4_takeOver 159 = .ok (.iload_n 1, 1) := dk_27 (dk_at dksX4_takeOver_6 19 rfl rfl)
theorem dX4_takeOver_160 : decode cX4_takeOver 160 = .ok (.aload_n 0, 1) := dk_42 (dk_at dksX4_takeOver_6 20 rfl rfl)
theorem dX4_takeOver_161 : decode cX4_takeOver 161 = .ok (.getfield 55, 3) := dk_180 0 55 (dk_at dksX4_takeOver_6 21 rfl rfl)
theorem dX4_takeOver_164 : decode cX4_takeOver 164 = .ok (.iload_n 1, 1) := dk_27 (dk_at dksX4_takeOver_7 0 rfl rfl)
theorem dX4_takeOver_165 : decode cX4_takeOver 165 = .ok (.iaload, 1) := dk_46 (dk_at dksX4_takeOver_7 1 rfl rfl)
theorem dX4_takeOver_166 : decode cX4_takeOver 166 = .ok (.iastore, 1) := dk_79 (dk_at dksX4_takeOver_7 2 rfl rfl)
theorem dX4_takeOver_167 : decode cX4_takeOver 167 = .ok (.iinc 1 1, 3) := dk_132 1 1 (dk_at dksX4_takeOver_7 3 rfl rfl)
theorem dX4_takeOver_170 : decode cX4_takeOver 170 = .ok (.goto (-35), 3) := dk_167 255 221 (dk_at dksX4_takeOver_7 6 rfl rfl)
theorem dX4_takeOver_173 : decode cX4_takeOver 173 = .ok (.iconst 0, 1) := dk_3 (dk_at dksX4_takeOver_7 9 rfl rfl)
theorem dX4_takeOver_174 : decode cX4_takeOver 174 = .ok (.istore_n 1, 1) := dk_60 (dk_at dksX4_takeOver_7 10 rfl rfl)
theorem dX4_takeOver_175 : decode cX4_takeOver 175 = .ok (.iload_n 1, 1) := dk_27 (dk_at dksX4_takeOver_7 11 rfl rfl)
theorem dX4_takeOver_176 : decode cX4_takeOver 176 = .ok (.sipush 254, 3) := dk_17 0 254 (dk_at dksX4_takeOver_7 12 rfl rfl)
theorem dX4_takeOver_179 : decode cX4_takeOver 179 = .ok (.if_icmp .ge 16, 3) := dk_162 0 16 (dk_at dksX4_takeOver_7 15 rfl rfl)
theorem dX4_takeOver_182 : decode cX4_takeOver 182 = .ok (.aload_n 0, 1) := dk_42 (dk_at dksX4_takeOver_7 18 rfl rfl)
theorem dX4_takeOver_183 : decode cX4_takeOver 183 = .ok (.getfield 9, 3) := dk_180 0 9 (dk_at dksX4_takeOver_7 19 rfl rfl)
theorem dX4_takeOver_186 : decode cX4_takeOver 186 = .ok (.iload_n 1, 1) := dk_27 (dk_at dksX4_takeOver_7 22 rfl rfl)
theorem dX4_takeOver_187 : decode cX4_takeOver 187 = .ok (.iconst 0, 1) := dk_3 (dk_at dksX4_takeOver_7 23 rfl rfl)
theorem dX4_takeOver_188 : decode cX4_takeOver 188 = .ok (.iastore, 1) := dk_79 (dk_at dksX4_takeOver_8 0 rfl rfl)
theorem dX4_takeOver_189 : decode cX4_takeOver 189 = .ok (.iinc 1 1, 3) := dk_132 1 1 (dk_at dksX4_takeOver_8 1 rfl rfl)
theorem dX4_takeOver_192 : decode cX4_takeOver 192 = .ok (.goto (-17), 3) := dk_167 255 239 (dk_at dksX4_takeOver_8 4 rfl rfl)
theorem dX4_takeOver_195 : decode cX4_takeOver 195 = .ok (.aload_n 0, 1) := dk_42 (dk_at dksX4_takeOver_8 7 rfl rfl)
theorem dX4_takeOver_196 : decode cX4_takeOver 196 = .ok (.getfield 9, 3) := dk_180 0 9 (dk_at dksX4_takeOver_8 8 rfl rfl)
theorem dX4_takeOver_199 : decode cX4_takeOver 199 = .ok (.iconst 0, 1) := dk_3 (dk_at dksX4_takeOver_8 11 rfl rfl)
theorem dX4_takeOver_200 : decode cX4_takeOver 200 = .ok (.aload_n 0, 1) := dk_42 (dk_at dksX4_takeOver_8 12 rfl rfl)
theorem dX4_takeOver_201 : decode cX4_takeOver 201 = .ok (.getfield 18, 3) := dk_180 0 18 (dk_at dksX4_takeOver_8 13 rfl rfl)
theorem dX4_takeOver_204 : decode cX4_takeOver 204 = .ok (.iconst 0, 1) := dk_3 (dk_at dksX4_takeOver_8 16 rfl rfl)
theorem dX4_takeOver_205 : decode cX4_takeOver 205 = .ok (.iaload, 1) := dk_46 (dk_at dksX4_takeOver_8 17 rfl rfl)
theorem dX4_takeOver_206 : decode cX4_takeOver 206 = .ok (.iastore, 1) := dk_79 (dk_at dksX4_takeOver_8 18 rfl rfl)
theorem dX4_takeOver_207 : decode cX4_takeOver 207 = .ok (.aload_n 0, 1) := dk_42 (dk_at dksX4_takeOver_8 19 rfl rfl)
theorem dX4_takeOver_208 : decode cX4_takeOver 208 = .ok (.getfield 9, 3) := dk_180 0 9 (dk_at dksX4_takeOver_8 20 rfl rfl)
theorem dX4_takeOver_211 : decode cX4_takeOver 211 = .ok (.iconst 3, 1) := dk_6 (dk_at dksX4_takeOver_8 23 rfl rfl)
theorem dX4_takeOver_212 : decode cX4_takeOver 212 = .ok (.iconst 1, 1) := dk_4 (dk_at dksX4_takeOver_9 0 rfl rfl)
theorem dX4_takeOver_213 : decode cX4_takeOver 213 = .ok (.iastore, 1) := dk_79 (dk_at dksX4_takeOver_9 1 rfl rfl)
theorem dX4_takeOver_214 : decode cX4_takeOver 214 = .ok (.aload_n 0, 1) := dk_42 (dk_at dksX4_takeOver_9 2 rfl rfl)
theorem dX4_takeOver_215 : decode cX4_takeOver 215 = .ok (.iconst 0, 1) := dk_3 (dk_at dksX4_takeOver_9 3 rfl rfl)
theorem dX4_takeOver_216 : decode cX4_takeOver 216 = .ok (.putfield 219, 3) := dk_181 0 219 (dk_at dksX4_takeOver_9 4 rfl rfl)
theorem dX4_takeOver_219 : decode cX4_takeOver 219 = .ok (.aload_n 0, 1) := dk_42 (dk_at dksX4_takeOver_9 7 rfl rfl)
theorem dX4_takeOver_220 : decode cX4_takeOver 220 = .ok (.iconst 0, 1) := dk_3 (dk_at dksX4_takeOver_9 8 rfl rfl)
theorem dX4_takeOver_221 : decode cX4_takeOver 221 = .ok (.putfield 222, 3) := dk_181 0 222 (dk_at dksX4_takeOver_9 9 rfl rfl)
theorem dX4_takeOver_224 : decode cX4_takeOver 224 = .ok (.aload_n 0, 1) := dk_42 (dk_at dksX4_takeOver_9 12 rfl rfl)
theorem dX4_takeOver_225 : decode cX4_takeOver 225 = .ok (.iconst 0, 1) := dk_3 (dk_at dksX4_takeOver_9 13 rfl rfl)
theorem dX4_takeOver_226 : decode cX4_takeOver 226 = .ok (.putfield 225, 3) := dk_181 0 225 (dk_at dksX4_takeOver_9 14 rfl rfl)
theorem dX4_takeOver_229 : decode cX4_takeOver 229 = .ok (.return_, 1) := dk_177 (dk_at dksX4_takeOver_9 17 rfl rfl)
abbrev cX4_errorPosition : ByteArray := prog_21_method_25_code
def yX4_errorPosition : MethodName := ⟨RX4, "errorPosition", "()I"⟩
theorem dX4_errorPosition_0 : decode cX4_errorPosition 0 = .ok (.aload_n 0, 1) := by decide +kernel
theorem dX4_errorPosition_1 : decode cX4_errorPosition 1 = .ok (.getfield 36, 3) := by decide +kernel
theorem dX4_errorPosition_4 : decode cX4_errorPosition 4 = .ok (.ireturn, 1) := by decide +kernel
abbrev cX4_antennaResistance : ByteArray := prog_21_method_32_code
def yX4_antennaResistance : MethodName := ⟨RX4, "antennaResistance", "(I)J"⟩
def dkwX4_antennaResistance_1 : List UInt8 := [20, 0, 246, 173]
abbrev dktX4_antennaResistance_1 : List UInt8 := dkwX4_antennaResistance_1 ++ []
def dkwX4_antennaResistance_0 : List UInt8 := [42, 180, 0, 194, 153, 0, 18, 27, 184, 0, 239, 153, 0, 11, 42, 27, 182, 0, 242, 167, 0, 6]
abbrev dktX4_antennaResistance_0 : List UInt8 := dkwX4_antennaResistance_0 ++ dktX4_antennaResistance_1
theorem dksX4_antennaResistance_0 : cX4_antennaResistance.data.toList.drop 0 = dktX4_antennaResistance_0 := by decide +kernel
theorem dksX4_antennaResistance_1 : cX4_antennaResistance.data.toList.drop 22 = dktX4_antennaResistance_1 := dk_seg dksX4_antennaResistance_0 22 rfl rfl
theorem dX4_antennaResistance_0 : decode cX4_antennaResistance 0 = .ok (.aload_n 0, 1) := dk_42 (dk_at dksX4_antennaResistance_0 0 rfl rfl)
theorem dX4_antennaResistance_1 : decode cX4_antennaResistance 1 = .ok (.getfield 194, 3) := dk_180 0 194 (dk_at dksX4_antennaResistance_0 1 rfl rfl)
theorem dX4_antennaResistance_4 : decode cX4_antennaResistance 4 = .ok (.ifCond .eq 18, 3) := dk_153 0 18 (dk_at dksX4_antennaResistance_0 4 rfl rfl)
theorem dX4_antennaResistance_7 : decode cX4_antennaResistance 7 = .ok (.iload_n 1, 1) := dk_27 (dk_at dksX4_antennaResistance_0 7 rfl rfl)
theorem dX4_antennaResistance_8 : decode cX4_antennaResistance 8 = .ok (.invokestatic 239, 3) := dk_184 0 239 (dk_at dksX4_antennaResistance_0 8 rfl rfl)
theorem dX4_antennaResistance_11 : decode cX4_antennaResistance 11 = .ok (.ifCond .eq 11, 3) := dk_153 0 11 (dk_at dksX4_antennaResistance_0 11 rfl rfl)
theorem dX4_antennaResistance_14 : decode cX4_antennaResistance 14 = .ok (.aload_n 0, 1) := dk_42 (dk_at dksX4_antennaResistance_0 14 rfl rfl)
theorem dX4_antennaResistance_15 : decode cX4_antennaResistance 15 = .ok (.iload_n 1, 1) := dk_27 (dk_at dksX4_antennaResistance_0 15 rfl rfl)
theorem dX4_antennaResistance_16 : decode cX4_antennaResistance 16 = .ok (.invokevirtual 242, 3) := dk_182 0 242 (dk_at dksX4_antennaResistance_0 16 rfl rfl)
theorem dX4_antennaResistance_19 : decode cX4_antennaResistance 19 = .ok (.goto 6, 3) := dk_167 0 6 (dk_at dksX4_antennaResistance_0 19 rfl rfl)
theorem dX4_antennaResistance_22 : decode cX4_antennaResistance 22 = .ok (.ldc2_w 246, 3) := dk_20 0 246 (dk_at dksX4_antennaResistance_1 0 rfl rfl)
theorem dX4_antennaResistance_25 : decode cX4_antennaResistance 25 = .ok (.lreturn, 1) := dk_173 (dk_at dksX4_antennaResistance_1 3 rfl rfl)
abbrev cX4_isFrequency : ByteArray := prog_21_method_27_code
def yX4_isFrequency : MethodName := ⟨RX4, "isFrequency", "(I)Z"⟩
def dkwX4_isFrequency_0 : List UInt8 := [26, 133, 20, 0, 228, 20, 0, 230, 184, 0, 75, 172]
abbrev dktX4_isFrequency_0 : List UInt8 := dkwX4_isFrequency_0 ++ []
theorem dksX4_isFrequency_0 : cX4_isFrequency.data.toList.drop 0 = dktX4_isFrequency_0 := by decide +kernel
theorem dX4_isFrequency_0 : decode cX4_isFrequency 0 = .ok (.iload_n 0, 1) := dk_26 (dk_at dksX4_isFrequency_0 0 rfl rfl)
theorem dX4_isFrequency_1 : decode cX4_isFrequency 1 = .ok (.i2l, 1) := dk_133 (dk_at dksX4_isFrequency_0 1 rfl rfl)
theorem dX4_isFrequency_2 : decode cX4_isFrequency 2 = .ok (.ldc2_w 228, 3) := dk_20 0 228 (dk_at dksX4_isFrequency_0 2 rfl rfl)
theorem dX4_isFrequency_5 : decode cX4_isFrequency 5 = .ok (.ldc2_w 230, 3) := dk_20 0 230 (dk_at dksX4_isFrequency_0 5 rfl rfl)
theorem dX4_isFrequency_8 : decode cX4_isFrequency 8 = .ok (.invokestatic 75, 3) := dk_184 0 75 (dk_at dksX4_isFrequency_0 8 rfl rfl)
theorem dX4_isFrequency_11 : decode cX4_isFrequency 11 = .ok (.ireturn, 1) := dk_172 (dk_at dksX4_isFrequency_0 11 rfl rfl)
abbrev cX4_resistanceAt : ByteArray := prog_21_method_30_code
def yX4_resistanceAt : MethodName := ⟨RX4, "resistanceAt", "(I)J"⟩
def dkwX4_resistanceAt_2 : List UInt8 := [42, 180, 0, 21, 28, 4, 96, 46, 133, 182, 0, 235, 173]
abbrev dktX4_resistanceAt_2 : List UInt8 := dkwX4_resistanceAt_2 ++ []
def dkwX4_resistanceAt_1 : List UInt8 := [100, 160, 0, 13, 42, 180, 0, 21, 28, 46, 133, 167, 0, 25, 42, 28, 27, 42, 180, 0, 21, 28, 46, 133]
abbrev dktX4_resistanceAt_1 : List UInt8 := dkwX4_resistanceAt_1 ++ dktX4_resistanceAt_2
def dkwX4_resistanceAt_0 : List UInt8 := [42, 27, 182, 0, 232, 61, 28, 156, 0, 11, 42, 180, 0, 21, 3, 46, 133, 173, 28, 42, 180, 0, 191, 4]
abbrev dktX4_resistanceAt_0 : List UInt8 := dkwX4_resistanceAt_0 ++ dktX4_resistanceAt_1
theorem dksX4_resistanceAt_0 : cX4_resistanceAt.data.toList.drop 0 = dktX4_resistanceAt_0 := by decide +kernel
theorem dksX4_resistanceAt_1 : cX4_resistanceAt.data.toList.drop 24 = dktX4_resistanceAt_1 := dk_seg dksX4_resistanceAt_0 24 rfl rfl
theorem dksX4_resistanceAt_2 : cX4_resistanceAt.data.toList.drop 48 = dktX4_resistanceAt_2 := dk_seg dksX4_resistanceAt_1 24 rfl rfl
theorem dX4_resistanceAt_0 : decode cX4_resistanceAt 0 = .ok (.aload_n 0, 1) := dk_42 (dk_at dksX4_resistanceAt_0 0 rfl rfl)
theorem dX4_resistanceAt_1 : decode cX4_resistanceAt 1 = .ok (.iload_n 1, 1) := dk_27 (dk_at dksX4_resistanceAt_0 1 rfl rfl)
theorem dX4_resistanceAt_2 : decode cX4_resistanceAt 2 = .ok (.invokevirtual 232, 3) := dk_182 0 232 (dk_at dksX4_resistanceAt_0 2 rfl rfl)
theorem dX4_resistanceAt_5 : decode cX4_resistanceAt 5 = .ok (.istore_n 2, 1) := dk_61 (dk_at dksX4_resistanceAt_0 5 rfl rfl)
theorem dX4_resistanceAt_6 : decode cX4_resistanceAt 6 = .ok (.iload_n 2, 1) := dk_28 (dk_at dksX4_resistanceAt_0 6 rfl rfl)
theorem dX4_resistanceAt_7 : decode cX4_resistanceAt 7 = .ok (.ifCond .ge 11, 3) := dk_156 0 11 (dk_at dksX4_resistanceAt_0 7 rfl rfl)
theorem dX4_resistanceAt_10 : decode cX4_resistanceAt 10 = .ok (.aload_n 0, 1) := dk_42 (dk_at dksX4_resistanceAt_0 10 rfl rfl)
theorem dX4_resistanceAt_11 : decode cX4_resistanceAt 11 = .ok (.getfield 21, 3) := dk_180 0 21 (dk_at dksX4_resistanceAt_0 11 rfl rfl)
theorem dX4_resistanceAt_14 : decode cX4_resistanceAt 14 = .ok (.iconst 0, 1) := dk_3 (dk_at dksX4_resistanceAt_0 14 rfl rfl)
theorem dX4_resistanceAt_15 : decode cX4_resistanceAt 15 = .ok (.iaload, 1) := dk_46 (dk_at dksX4_resistanceAt_0 15 rfl rfl)
theorem dX4_resistanceAt_16 : decode cX4_resistanceAt 16 = .ok (.i2l, 1) := dk_133 (dk_at dksX4_resistanceAt_0 16 rfl rfl)
theorem dX4_resistanceAt_17 : decode cX4_resistanceAt 17 = .ok (.lreturn, 1) := dk_173 (dk_at dksX4_resistanceAt_0 17 rfl rfl)
theorem dX4_resistanceAt_18 : decode cX4_resistanceAt 18 = .ok (.iload_n 2, 1) := dk_28 (dk_at dksX4_resistanceAt_0 18 rfl rfl)
theorem dX4_resistanceAt_19 : decode cX4_resistanceAt 19 = .ok (.aload_n 0, 1) := dk_42 (dk_at dksX4_resistanceAt_0 19 rfl rfl)
theorem dX4_resistanceAt_20 : decode cX4_resistanceAt 20 = .ok (.getfield 191, 3) := dk_180 0 191 (dk_at dksX4_resistanceAt_0 20 rfl rfl)
theorem dX4_resistanceAt_23 : decode cX4_resistanceAt 23 = .ok (.iconst 1, 1) := dk_4 (dk_at dksX4_resistanceAt_0 23 rfl rfl)
theorem dX4_resistanceAt_24 : decode cX4_resistanceAt 24 = .ok (.isub, 1) := dk_100 (dk_at dksX4_resistanceAt_1 0 rfl rfl)
theorem dX4_resistanceAt_25 : decode cX4_resistanceAt 25 = .ok (.if_icmp .ne 13, 3) := dk_160 0 13 (dk_at dksX4_resistanceAt_1 1 rfl rfl)
theorem dX4_resistanceAt_28 : decode cX4_resistanceAt 28 = .ok (.aload_n 0, 1) := dk_42 (dk_at dksX4_resistanceAt_1 4 rfl rfl)
theorem dX4_resistanceAt_29 : decode cX4_resistanceAt 29 = .ok (.getfield 21, 3) := dk_180 0 21 (dk_at dksX4_resistanceAt_1 5 rfl rfl)
theorem dX4_resistanceAt_32 : decode cX4_resistanceAt 32 = .ok (.iload_n 2, 1) := dk_28 (dk_at dksX4_resistanceAt_1 8 rfl rfl)
theorem dX4_resistanceAt_33 : decode cX4_resistanceAt 33 = .ok (.iaload, 1) := dk_46 (dk_at dksX4_resistanceAt_1 9 rfl rfl)
theorem dX4_resistanceAt_34 : decode cX4_resistanceAt 34 = .ok (.i2l, 1) := dk_133 (dk_at dksX4_resistanceAt_1 10 rfl rfl)
theorem dX4_resistanceAt_35 : decode cX4_resistanceAt 35 = .ok (.goto 25, 3) := dk_167 0 25 (dk_at dksX4_resistanceAt_1 11 rfl rfl)
theorem dX4_resistanceAt_38 : decode cX4_resistanceAt 38 = .ok (.aload_n 0, 1) := dk_42 (dk_at dksX4_resistanceAt_1 14 rfl rfl)
theorem dX4_resistanceAt_39 : decode cX4_resistanceAt 39 = .ok (.iload_n 2, 1) := dk_28 (dk_at dksX4_resistanceAt_1 15 rfl rfl)
theorem dX4_resistanceAt_40 : decode cX4_resistanceAt 40 = .ok (.iload_n 1, 1) := dk_27 (dk_at dksX4_resistanceAt_1 16 rfl rfl)
theorem dX4_resistanceAt_41 : decode cX4_resistanceAt 41 = .ok (.aload_n 0, 1) := dk_42 (dk_at dksX4_resistanceAt_1 17 rfl rfl)
theorem dX4_resistanceAt_42 : decode cX4_resistanceAt 42 = .ok (.getfield 21, 3) := dk_180 0 21 (dk_at dksX4_resistanceAt_1 18 rfl rfl)
theorem dX4_resistanceAt_45 : decode cX4_resistanceAt 45 = .ok (.iload_n 2, 1) := dk_28 (dk_at dksX4_resistanceAt_1 21 rfl rfl)
theorem dX4_resistanceAt_46 : decode cX4_resistanceAt 46 = .ok (.iaload, 1) := dk_46 (dk_at dksX4_resistanceAt_1 22 rfl rfl)
theorem dX4_resistanceAt_47 : decode cX4_resistanceAt 47 = .ok (.i2l, 1) := dk_133 (dk_at dksX4_resistanceAt_1 23 rfl rfl)
theorem dX4_resistanceAt_48 : decode cX4_resistanceAt 48 = .ok (.aload_n 0, 1) := dk_42 (dk_at dksX4_resistanceAt_2 0 rfl rfl)
theorem dX4_resistanceAt_49 : decode cX4_resistanceAt 49 = .ok (.getfield 21, 3) := dk_180 0 21 (dk_at dksX4_resistanceAt_2 1 rfl rfl)
theorem dX4_resistanceAt_52 : decode cX4_resistanceAt 52 = .ok (.iload_n 2, 1) := dk_28 (dk_at dksX4_resistanceAt_2 4 rfl rfl)
theorem dX4_resistanceAt_53 : decode cX4_resistanceAt 53 = .ok (.iconst 1, 1) := dk_4 (dk_at dksX4_resistanceAt_2 5 rfl rfl)
theorem dX4_resistanceAt_54 : decode cX4_resistanceAt 54 = .ok (.iadd, 1) := dk_96 (dk_at dksX4_resistanceAt_2 6 rfl rfl)
theorem dX4_resistanceAt_55 : decode cX4_resistanceAt 55 = .ok (.iaload, 1) := dk_46 (dk_at dksX4_resistanceAt_2 7 rfl rfl)
theorem dX4_resistanceAt_56 : decode cX4_resistanceAt 56 = .ok (.i2l, 1) := dk_133 (dk_at dksX4_resistanceAt_2 8 rfl rfl)
theorem dX4_resistanceAt_57 : decode cX4_resistanceAt 57 = .ok (.invokevirtual 235, 3) := dk_182 0 235 (dk_at dksX4_resistanceAt_2 9 rfl rfl)
theorem dX4_resistanceAt_60 : decode cX4_resistanceAt 60 = .ok (.lreturn, 1) := dk_173 (dk_at dksX4_resistanceAt_2 12 rfl rfl)
abbrev cX4_pointBelow : ByteArray := prog_21_method_28_code
def yX4_pointBelow : MethodName := ⟨RX4, "pointBelow", "(I)I"⟩
def dkwX4_pointBelow_1 : List UInt8 := [167, 255, 239, 28, 172]
abbrev dktX4_pointBelow_1 : List UInt8 := dkwX4_pointBelow_1 ++ []
def dkwX4_pointBelow_0 : List UInt8 := [42, 180, 0, 191, 4, 100, 61, 28, 155, 0, 19, 42, 180, 0, 18, 28, 46, 27, 164, 0, 9, 132, 2, 255]
abbrev dktX4_pointBelow_0 : List UInt8 := dkwX4_pointBelow_0 ++ dktX4_pointBelow_1
theorem dksX4_pointBelow_0 : cX4_pointBelow.data.toList.drop 0 = dktX4_pointBelow_0 := by decide +kernel
theorem dksX4_pointBelow_1 : cX4_pointBelow.data.toList.drop 24 = dktX4_pointBelow_1 := dk_seg dksX4_pointBelow_0 24 rfl rfl
theorem dX4_pointBelow_0 : decode cX4_pointBelow 0 = .ok (.aload_n 0, 1) := dk_42 (dk_at dksX4_pointBelow_0 0 rfl rfl)
theorem dX4_pointBelow_1 : decode cX4_pointBelow 1 = .ok (.getfield 191, 3) := dk_180 0 191 (dk_at dksX4_pointBelow_0 1 rfl rfl)
theorem dX4_pointBelow_4 : decode cX4_pointBelow 4 = .ok (.iconst 1, 1) := dk_4 (dk_at dksX4_pointBelow_0 4 rfl rfl)
theorem dX4_pointBelow_5 : decode cX4_pointBelow 5 = .ok (.isub, 1) := dk_100 (dk_at dksX4_pointBelow_0 5 rfl rfl)
theorem dX4_pointBelow_6 : decode cX4_pointBelow 6 = .ok (.istore_n 2, 1) := dk_61 (dk_at dksX4_pointBelow_0 6 rfl rfl)
theorem dX4_pointBelow_7 : decode cX4_pointBelow 7 = .ok (.iload_n 2, 1) := dk_28 (dk_at dksX4_pointBelow_0 7 rfl rfl)
theorem dX4_pointBelow_8 : decode cX4_pointBelow 8 = .ok (.ifCond .lt 19, 3) := dk_155 0 19 (dk_at dksX4_pointBelow_0 8 rfl rfl)
theorem dX4_pointBelow_11 : decode cX4_pointBelow 11 = .ok (.aload_n 0, 1) := dk_42 (dk_at dksX4_pointBelow_0 11 rfl rfl)
theorem dX4_pointBelow_12 : decode cX4_pointBelow 12 = .ok (.getfield 18, 3) := dk_180 0 18 (dk_at dksX4_pointBelow_0 12 rfl rfl)
theorem dX4_pointBelow_15 : decode cX4_pointBelow 15 = .ok (.iload_n 2, 1) := dk_28 (dk_at dksX4_pointBelow_0 15 rfl rfl)
theorem dX4_pointBelow_16 : decode cX4_pointBelow 16 = .ok (.iaload, 1) := dk_46 (dk_at dksX4_pointBelow_0 16 rfl rfl)
theorem dX4_pointBelow_17 : decode cX4_pointBelow 17 = .ok (.iload_n 1, 1) := dk_27 (dk_at dksX4_pointBelow_0 17 rfl rfl)
theorem dX4_pointBelow_18 : decode cX4_pointBelow 18 = .ok (.if_icmp .le 9, 3) := dk_164 0 9 (dk_at dksX4_pointBelow_0 18 rfl rfl)
theorem dX4_pointBelow_21 : decode cX4_pointBelow 21 = .ok (.iinc 2 (-1), 3) := dk_132 2 255 (dk_at dksX4_pointBelow_0 21 rfl rfl)
theorem dX4_pointBelow_24 : decode cX4_pointBelow 24 = .ok (.goto (-17), 3) := dk_167 255 239 (dk_at dksX4_pointBelow_1 0 rfl rfl)
theorem dX4_pointBelow_27 : decode cX4_pointBelow 27 = .ok (.iload_n 2, 1) := dk_28 (dk_at dksX4_pointBelow_1 3 rfl rfl)
theorem dX4_pointBelow_28 : decode cX4_pointBelow 28 = .ok (.ireturn, 1) := dk_172 (dk_at dksX4_pointBelow_1 4 rfl rfl)
abbrev cX4_between : ByteArray := prog_21_method_29_code
def yX4_between : MethodName := ⟨RX4, "between", "(IIJJ)J"⟩
def dkwX4_between_1 : List UInt8 := [180, 0, 18, 27, 46, 100, 133, 109, 97, 173]
abbrev dktX4_between_1 : List UInt8 := dkwX4_between_1 ++ []
def dkwX4_between_0 : List UInt8 := [33, 22, 5, 33, 101, 28, 42, 180, 0, 18, 27, 46, 100, 133, 105, 42, 180, 0, 18, 27, 4, 96, 46, 42]
abbrev dktX4_between_0 : List UInt8 := dkwX4_between_0 ++ dktX4_between_1
theorem dksX4_between_0 : cX4_between.data.toList.drop 0 = dktX4_between_0 := by decide +kernel
theorem dksX4_between_1 : cX4_between.data.toList.drop 24 = dktX4_between_1 := dk_seg dksX4_between_0 24 rfl rfl
theorem dX4_between_0 : decode cX4_between 0 = .ok (.lload_n 3, 1) := dk_33 (dk_at dksX4_between_0 0 rfl rfl)
theorem dX4_between_1 : decode cX4_between 1 = .ok (.lload 5, 2) := dk_22 5 (dk_at dksX4_between_0 1 rfl rfl)
theorem dX4_between_3 : decode cX4_between 3 = .ok (.lload_n 3, 1) := dk_33 (dk_at dksX4_between_0 3 rfl rfl)
theorem dX4_between_4 : decode cX4_between 4 = .ok (.lsub, 1) := dk_101 (dk_at dksX4_between_0 4 rfl rfl)
theorem dX4_between_5 : decode cX4_between 5 = .ok (.iload_n 2, 1) := dk_28 (dk_at dksX4_between_0 5 rfl rfl)
theorem dX4_between_6 : decode cX4_between 6 = .ok (.aload_n 0, 1) := dk_42 (dk_at dksX4_between_0 6 rfl rfl)
theorem dX4_between_7 : decode cX4_between 7 = .ok (.getfield 18, 3) := dk_180 0 18 (dk_at dksX4_between_0 7 rfl rfl)
theorem dX4_between_10 : decode cX4_between 10 = .ok (.iload_n 1, 1) := dk_27 (dk_at dksX4_between_0 10 rfl rfl)
theorem dX4_between_11 : decode cX4_between 11 = .ok (.iaload, 1) := dk_46 (dk_at dksX4_between_0 11 rfl rfl)
theorem dX4_between_12 : decode cX4_between 12 = .ok (.isub, 1) := dk_100 (dk_at dksX4_between_0 12 rfl rfl)
theorem dX4_between_13 : decode cX4_between 13 = .ok (.i2l, 1) := dk_133 (dk_at dksX4_between_0 13 rfl rfl)
theorem dX4_between_14 : decode cX4_between 14 = .ok (.lmul, 1) := dk_105 (dk_at dksX4_between_0 14 rfl rfl)
theorem dX4_between_15 : decode cX4_between 15 = .ok (.aload_n 0, 1) := dk_42 (dk_at dksX4_between_0 15 rfl rfl)
theorem dX4_between_16 : decode cX4_between 16 = .ok (.getfield 18, 3) := dk_180 0 18 (dk_at dksX4_between_0 16 rfl rfl)
theorem dX4_between_19 : decode cX4_between 19 = .ok (.iload_n 1, 1) := dk_27 (dk_at dksX4_between_0 19 rfl rfl)
theorem dX4_between_20 : decode cX4_between 20 = .ok (.iconst 1, 1) := dk_4 (dk_at dksX4_between_0 20 rfl rfl)
theorem dX4_between_21 : decode cX4_between 21 = .ok (.iadd, 1) := dk_96 (dk_at dksX4_between_0 21 rfl rfl)
theorem dX4_between_22 : decode cX4_between 22 = .ok (.iaload, 1) := dk_46 (dk_at dksX4_between_0 22 rfl rfl)
theorem dX4_between_23 : decode cX4_between 23 = .ok (.aload_n 0, 1) := dk_42 (dk_at dksX4_between_0 23 rfl rfl)
theorem dX4_between_24 : decode cX4_between 24 = .ok (.getfield 18, 3) := dk_180 0 18 (dk_at dksX4_between_1 0 rfl rfl)
theorem dX4_between_27 : decode cX4_between 27 = .ok (.iload_n 1, 1) := dk_27 (dk_at dksX4_between_1 3 rfl rfl)
theorem dX4_between_28 : decode cX4_between 28 = .ok (.iaload, 1) := dk_46 (dk_at dksX4_between_1 4 rfl rfl)
theorem dX4_between_29 : decode cX4_between 29 = .ok (.isub, 1) := dk_100 (dk_at dksX4_between_1 5 rfl rfl)
theorem dX4_between_30 : decode cX4_between 30 = .ok (.i2l, 1) := dk_133 (dk_at dksX4_between_1 6 rfl rfl)
theorem dX4_between_31 : decode cX4_between 31 = .ok (.ldiv, 1) := dk_109 (dk_at dksX4_between_1 7 rfl rfl)
theorem dX4_between_32 : decode cX4_between 32 = .ok (.ladd, 1) := dk_97 (dk_at dksX4_between_1 8 rfl rfl)
theorem dX4_between_33 : decode cX4_between 33 = .ok (.lreturn, 1) := dk_173 (dk_at dksX4_between_1 9 rfl rfl)
abbrev cX4_antennaReactance : ByteArray := prog_21_method_33_code
def yX4_antennaReactance : MethodName := ⟨RX4, "antennaReactance", "(I)J"⟩
def dkwX4_antennaReactance_1 : List UInt8 := [20, 0, 251, 173]
abbrev dktX4_antennaReactance_1 : List UInt8 := dkwX4_antennaReactance_1 ++ []
def dkwX4_antennaReactance_0 : List UInt8 := [42, 180, 0, 194, 153, 0, 18, 27, 184, 0, 239, 153, 0, 11, 42, 27, 182, 0, 248, 167, 0, 6]
abbrev dktX4_antennaReactance_0 : List UInt8 := dkwX4_antennaReactance_0 ++ dktX4_antennaReactance_1
theorem dksX4_antennaReactance_0 : cX4_antennaReactance.data.toList.drop 0 = dktX4_antennaReactance_0 := by decide +kernel
theorem dksX4_antennaReactance_1 : cX4_antennaReactance.data.toList.drop 22 = dktX4_antennaReactance_1 := dk_seg dksX4_antennaReactance_0 22 rfl rfl
theorem dX4_antennaReactance_0 : decode cX4_antennaReactance 0 = .ok (.aload_n 0, 1) := dk_42 (dk_at dksX4_antennaReactance_0 0 rfl rfl)
theorem dX4_antennaReactance_1 : decode cX4_antennaReactance 1 = .ok (.getfield 194, 3) := dk_180 0 194 (dk_at dksX4_antennaReactance_0 1 rfl rfl)
theorem dX4_antennaReactance_4 : decode cX4_antennaReactance 4 = .ok (.ifCond .eq 18, 3) := dk_153 0 18 (dk_at dksX4_antennaReactance_0 4 rfl rfl)
theorem dX4_antennaReactance_7 : decode cX4_antennaReactance 7 = .ok (.iload_n 1, 1) := dk_27 (dk_at dksX4_antennaReactance_0 7 rfl rfl)
theorem dX4_antennaReactance_8 : decode cX4_antennaReactance 8 = .ok (.invokestatic 239, 3) := dk_184 0 239 (dk_at dksX4_antennaReactance_0 8 rfl rfl)
theorem dX4_antennaReactance_11 : decode cX4_antennaReactance 11 = .ok (.ifCond .eq 11, 3) := dk_153 0 11 (dk_at dksX4_antennaReactance_0 11 rfl rfl)
theorem dX4_antennaReactance_14 : decode cX4_antennaReactance 14 = .ok (.aload_n 0, 1) := dk_42 (dk_at dksX4_antennaReactance_0 14 rfl rfl)
theorem dX4_antennaReactance_15 : decode cX4_antennaReactance 15 = .ok (.iload_n 1, 1) := dk_27 (dk_at dksX4_antennaReactance_0 15 rfl rfl)
theorem dX4_antennaReactance_16 : decode cX4_antennaReactance 16 = .ok (.invokevirtual 248, 3) := dk_182 0 248 (dk_at dksX4_antennaReactance_0 16 rfl rfl)
theorem dX4_antennaReactance_19 : decode cX4_antennaReactance 19 = .ok (.goto 6, 3) := dk_167 0 6 (dk_at dksX4_antennaReactance_0 19 rfl rfl)
theorem dX4_antennaReactance_22 : decode cX4_antennaReactance 22 = .ok (.ldc2_w 251, 3) := dk_20 0 251 (dk_at dksX4_antennaReactance_1 0 rfl rfl)
theorem dX4_antennaReactance_25 : decode cX4_antennaReactance 25 = .ok (.lreturn, 1) := dk_173 (dk_at dksX4_antennaReactance_1 3 rfl rfl)
abbrev cX4_reactanceAt : ByteArray := prog_21_method_31_code
def yX4_reactanceAt : MethodName := ⟨RX4, "reactanceAt", "(I)J"⟩
def dkwX4_reactanceAt_2 : List UInt8 := [42, 180, 0, 24, 28, 4, 96, 46, 133, 182, 0, 235, 173]
abbrev dktX4_reactanceAt_2 : List UInt8 := dkwX4_reactanceAt_2 ++ []
def dkwX4_reactanceAt_1 : List UInt8 := [100, 160, 0, 13, 42, 180, 0, 24, 28, 46, 133, 167, 0, 25, 42, 28, 27, 42, 180, 0, 24, 28, 46, 133]
abbrev dktX4_reactanceAt_1 : List UInt8 := dkwX4_reactanceAt_1 ++ dktX4_reactanceAt_2
def dkwX4_reactanceAt_0 : List UInt8 := [42, 27, 182, 0, 232, 61, 28, 156, 0, 11, 42, 180, 0, 24, 3, 46, 133, 173, 28, 42, 180, 0, 191, 4]
abbrev dktX4_reactanceAt_0 : List UInt8 := dkwX4_reactanceAt_0 ++ dktX4_reactanceAt_1
theorem dksX4_reactanceAt_0 : cX4_reactanceAt.data.toList.drop 0 = dktX4_reactanceAt_0 := by decide +kernel
theorem dksX4_reactanceAt_1 : cX4_reactanceAt.data.toList.drop 24 = dktX4_reactanceAt_1 := dk_seg dksX4_reactanceAt_0 24 rfl rfl
theorem dksX4_reactanceAt_2 : cX4_reactanceAt.data.toList.drop 48 = dktX4_reactanceAt_2 := dk_seg dksX4_reactanceAt_1 24 rfl rfl
theorem dX4_reactanceAt_0 : decode cX4_reactanceAt 0 = .ok (.aload_n 0, 1) := dk_42 (dk_at dksX4_reactanceAt_0 0 rfl rfl)
theorem dX4_reactanceAt_1 : decode cX4_reactanceAt 1 = .ok (.iload_n 1, 1) := dk_27 (dk_at dksX4_reactanceAt_0 1 rfl rfl)
theorem dX4_reactanceAt_2 : decode cX4_reactanceAt 2 = .ok (.invokevirtual 232, 3) := dk_182 0 232 (dk_at dksX4_reactanceAt_0 2 rfl rfl)
theorem dX4_reactanceAt_5 : decode cX4_reactanceAt 5 = .ok (.istore_n 2, 1) := dk_61 (dk_at dksX4_reactanceAt_0 5 rfl rfl)
theorem dX4_reactanceAt_6 : decode cX4_reactanceAt 6 = .ok (.iload_n 2, 1) := dk_28 (dk_at dksX4_reactanceAt_0 6 rfl rfl)
theorem dX4_reactanceAt_7 : decode cX4_reactanceAt 7 = .ok (.ifCond .ge 11, 3) := dk_156 0 11 (dk_at dksX4_reactanceAt_0 7 rfl rfl)
theorem dX4_reactanceAt_10 : decode cX4_reactanceAt 10 = .ok (.aload_n 0, 1) := dk_42 (dk_at dksX4_reactanceAt_0 10 rfl rfl)
theorem dX4_reactanceAt_11 : decode cX4_reactanceAt 11 = .ok (.getfield 24, 3) := dk_180 0 24 (dk_at dksX4_reactanceAt_0 11 rfl rfl)
theorem dX4_reactanceAt_14 : decode cX4_reactanceAt 14 = .ok (.iconst 0, 1) := dk_3 (dk_at dksX4_reactanceAt_0 14 rfl rfl)
theorem dX4_reactanceAt_15 : decode cX4_reactanceAt 15 = .ok (.iaload, 1) := dk_46 (dk_at dksX4_reactanceAt_0 15 rfl rfl)
theorem dX4_reactanceAt_16 : decode cX4_reactanceAt 16 = .ok (.i2l, 1) := dk_133 (dk_at dksX4_reactanceAt_0 16 rfl rfl)
theorem dX4_reactanceAt_17 : decode cX4_reactanceAt 17 = .ok (.lreturn, 1) := dk_173 (dk_at dksX4_reactanceAt_0 17 rfl rfl)
theorem dX4_reactanceAt_18 : decode cX4_reactanceAt 18 = .ok (.iload_n 2, 1) := dk_28 (dk_at dksX4_reactanceAt_0 18 rfl rfl)
theorem dX4_reactanceAt_19 : decode cX4_reactanceAt 19 = .ok (.aload_n 0, 1) := dk_42 (dk_at dksX4_reactanceAt_0 19 rfl rfl)
theorem dX4_reactanceAt_20 : decode cX4_reactanceAt 20 = .ok (.getfield 191, 3) := dk_180 0 191 (dk_at dksX4_reactanceAt_0 20 rfl rfl)
theorem dX4_reactanceAt_23 : decode cX4_reactanceAt 23 = .ok (.iconst 1, 1) := dk_4 (dk_at dksX4_reactanceAt_0 23 rfl rfl)
theorem dX4_reactanceAt_24 : decode cX4_reactanceAt 24 = .ok (.isub, 1) := dk_100 (dk_at dksX4_reactanceAt_1 0 rfl rfl)
theorem dX4_reactanceAt_25 : decode cX4_reactanceAt 25 = .ok (.if_icmp .ne 13, 3) := dk_160 0 13 (dk_at dksX4_reactanceAt_1 1 rfl rfl)
theorem dX4_reactanceAt_28 : decode cX4_reactanceAt 28 = .ok (.aload_n 0, 1) := dk_42 (dk_at dksX4_reactanceAt_1 4 rfl rfl)
theorem dX4_reactanceAt_29 : decode cX4_reactanceAt 29 = .ok (.getfield 24, 3) := dk_180 0 24 (dk_at dksX4_reactanceAt_1 5 rfl rfl)
theorem dX4_reactanceAt_32 : decode cX4_reactanceAt 32 = .ok (.iload_n 2, 1) := dk_28 (dk_at dksX4_reactanceAt_1 8 rfl rfl)
theorem dX4_reactanceAt_33 : decode cX4_reactanceAt 33 = .ok (.iaload, 1) := dk_46 (dk_at dksX4_reactanceAt_1 9 rfl rfl)
theorem dX4_reactanceAt_34 : decode cX4_reactanceAt 34 = .ok (.i2l, 1) := dk_133 (dk_at dksX4_reactanceAt_1 10 rfl rfl)
theorem dX4_reactanceAt_35 : decode cX4_reactanceAt 35 = .ok (.goto 25, 3) := dk_167 0 25 (dk_at dksX4_reactanceAt_1 11 rfl rfl)
theorem dX4_reactanceAt_38 : decode cX4_reactanceAt 38 = .ok (.aload_n 0, 1) := dk_42 (dk_at dksX4_reactanceAt_1 14 rfl rfl)
theorem dX4_reactanceAt_39 : decode cX4_reactanceAt 39 = .ok (.iload_n 2, 1) := dk_28 (dk_at dksX4_reactanceAt_1 15 rfl rfl)
theorem dX4_reactanceAt_40 : decode cX4_reactanceAt 40 = .ok (.iload_n 1, 1) := dk_27 (dk_at dksX4_reactanceAt_1 16 rfl rfl)
theorem dX4_reactanceAt_41 : decode cX4_reactanceAt 41 = .ok (.aload_n 0, 1) := dk_42 (dk_at dksX4_reactanceAt_1 17 rfl rfl)
theorem dX4_reactanceAt_42 : decode cX4_reactanceAt 42 = .ok (.getfield 24, 3) := dk_180 0 24 (dk_at dksX4_reactanceAt_1 18 rfl rfl)
theorem dX4_reactanceAt_45 : decode cX4_reactanceAt 45 = .ok (.iload_n 2, 1) := dk_28 (dk_at dksX4_reactanceAt_1 21 rfl rfl)
theorem dX4_reactanceAt_46 : decode cX4_reactanceAt 46 = .ok (.iaload, 1) := dk_46 (dk_at dksX4_reactanceAt_1 22 rfl rfl)
theorem dX4_reactanceAt_47 : decode cX4_reactanceAt 47 = .ok (.i2l, 1) := dk_133 (dk_at dksX4_reactanceAt_1 23 rfl rfl)
theorem dX4_reactanceAt_48 : decode cX4_reactanceAt 48 = .ok (.aload_n 0, 1) := dk_42 (dk_at dksX4_reactanceAt_2 0 rfl rfl)
theorem dX4_reactanceAt_49 : decode cX4_reactanceAt 49 = .ok (.getfield 24, 3) := dk_180 0 24 (dk_at dksX4_reactanceAt_2 1 rfl rfl)
theorem dX4_reactanceAt_52 : decode cX4_reactanceAt 52 = .ok (.iload_n 2, 1) := dk_28 (dk_at dksX4_reactanceAt_2 4 rfl rfl)
theorem dX4_reactanceAt_53 : decode cX4_reactanceAt 53 = .ok (.iconst 1, 1) := dk_4 (dk_at dksX4_reactanceAt_2 5 rfl rfl)
theorem dX4_reactanceAt_54 : decode cX4_reactanceAt 54 = .ok (.iadd, 1) := dk_96 (dk_at dksX4_reactanceAt_2 6 rfl rfl)
theorem dX4_reactanceAt_55 : decode cX4_reactanceAt 55 = .ok (.iaload, 1) := dk_46 (dk_at dksX4_reactanceAt_2 7 rfl rfl)
theorem dX4_reactanceAt_56 : decode cX4_reactanceAt 56 = .ok (.i2l, 1) := dk_133 (dk_at dksX4_reactanceAt_2 8 rfl rfl)
theorem dX4_reactanceAt_57 : decode cX4_reactanceAt 57 = .ok (.invokevirtual 235, 3) := dk_182 0 235 (dk_at dksX4_reactanceAt_2 9 rfl rfl)
theorem dX4_reactanceAt_60 : decode cX4_reactanceAt 60 = .ok (.lreturn, 1) := dk_173 (dk_at dksX4_reactanceAt_2 12 rfl rfl)
abbrev cX4_resonance : ByteArray := prog_21_method_35_code
def yX4_resonance : MethodName := ⟨RX4, "resonance", "(I)I"⟩
def dkwX4_resonance_3 : List UInt8 := [16, 254, 172]
abbrev dktX4_resonance_3 : List UInt8 := dkwX4_resonance_3 ++ []
def dkwX4_resonance_2 : List UInt8 := [182, 0, 255, 154, 0, 6, 167, 0, 12, 28, 154, 0, 5, 29, 172, 132, 2, 255, 132, 3, 1, 167, 255, 218]
abbrev dktX4_resonance_2 : List UInt8 := dkwX4_resonance_2 ++ dktX4_resonance_3
def dkwX4_resonance_1 : List UInt8 := [180, 0, 18, 3, 46, 62, 29, 42, 180, 0, 18, 42, 180, 0, 191, 4, 100, 46, 163, 0, 29, 42, 29]
abbrev dktX4_resonance_1 : List UInt8 := dkwX4_resonance_1 ++ dktX4_resonance_2
def dkwX4_resonance_0 : List UInt8 := [42, 180, 0, 194, 153, 0, 15, 27, 133, 9, 20, 0, 253, 184, 0, 75, 154, 0, 5, 2, 172, 27, 61, 42]
abbrev dktX4_resonance_0 : List UInt8 := dkwX4_resonance_0 ++ dktX4_resonance_1
theorem dksX4_resonance_0 : cX4_resonance.data.toList.drop 0 = dktX4_resonance_0 := by decide +kernel
theorem dksX4_resonance_1 : cX4_resonance.data.toList.drop 24 = dktX4_resonance_1 := dk_seg dksX4_resonance_0 24 rfl rfl
theorem dksX4_resonance_2 : cX4_resonance.data.toList.drop 47 = dktX4_resonance_2 := dk_seg dksX4_resonance_1 23 rfl rfl
theorem dksX4_resonance_3 : cX4_resonance.data.toList.drop 71 = dktX4_resonance_3 := dk_seg dksX4_resonance_2 24 rfl rfl
theorem dX4_resonance_0 : decode cX4_resonance 0 = .ok (.aload_n 0, 1) := dk_42 (dk_at dksX4_resonance_0 0 rfl rfl)
theorem dX4_resonance_1 : decode cX4_resonance 1 = .ok (.getfield 194, 3) := dk_180 0 194 (dk_at dksX4_resonance_0 1 rfl rfl)
theorem dX4_resonance_4 : decode cX4_resonance 4 = .ok (.ifCond .eq 15, 3) := dk_153 0 15 (dk_at dksX4_resonance_0 4 rfl rfl)
theorem dX4_resonance_7 : decode cX4_resonance 7 = .ok (.iload_n 1, 1) := dk_27 (dk_at dksX4_resonance_0 7 rfl rfl)
theorem dX4_resonance_8 : decode cX4_resonance 8 = .ok (.i2l, 1) := dk_133 (dk_at dksX4_resonance_0 8 rfl rfl)
theorem dX4_resonance_9 : decode cX4_resonance 9 = .ok (.lconst 0, 1) := dk_9 (dk_at dksX4_resonance_0 9 rfl rfl)
theorem dX4_resonance_10 : decode cX4_resonance 10 = .ok (.ldc2_w 253, 3) := dk_20 0 253 (dk_at dksX4_resonance_0 10 rfl rfl)
theorem dX4_resonance_13 : decode cX4_resonance 13 = .ok (.invokestatic 75, 3) := dk_184 0 75 (dk_at dksX4_resonance_0 13 rfl rfl)
theorem dX4_resonance_16 : decode cX4_resonance 16 = .ok (.ifCond .ne 5, 3) := dk_154 0 5 (dk_at dksX4_resonance_0 16 rfl rfl)
theorem dX4_resonance_19 : decode cX4_resonance 19 = .ok (.iconst (-1), 1) := dk_2 (dk_at dksX4_resonance_0 19 rfl rfl)
theorem dX4_resonance_20 : decode cX4_resonance 20 = .ok (.ireturn, 1) := dk_172 (dk_at dksX4_resonance_0 20 rfl rfl)
theorem dX4_resonance_21 : decode cX4_resonance 21 = .ok (.iload_n 1, 1) := dk_27 (dk_at dksX4_resonance_0 21 rfl rfl)
theorem dX4_resonance_22 : decode cX4_resonance 22 = .ok (.istore_n 2, 1) := dk_61 (dk_at dksX4_resonance_0 22 rfl rfl)
theorem dX4_resonance_23 : decode cX4_resonance 23 = .ok (.aload_n 0, 1) := dk_42 (dk_at dksX4_resonance_0 23 rfl rfl)
theorem dX4_resonance_24 : decode cX4_resonance 24 = .ok (.getfield 18, 3) := dk_180 0 18 (dk_at dksX4_resonance_1 0 rfl rfl)
theorem dX4_resonance_27 : decode cX4_resonance 27 = .ok (.iconst 0, 1) := dk_3 (dk_at dksX4_resonance_1 3 rfl rfl)
theorem dX4_resonance_28 : decode cX4_resonance 28 = .ok (.iaload, 1) := dk_46 (dk_at dksX4_resonance_1 4 rfl rfl)
theorem dX4_resonance_29 : decode cX4_resonance 29 = .ok (.istore_n 3, 1) := dk_62 (dk_at dksX4_resonance_1 5 rfl rfl)
theorem dX4_resonance_30 : decode cX4_resonance 30 = .ok (.iload_n 3, 1) := dk_29 (dk_at dksX4_resonance_1 6 rfl rfl)
theorem dX4_resonance_31 : decode cX4_resonance 31 = .ok (.aload_n 0, 1) := dk_42 (dk_at dksX4_resonance_1 7 rfl rfl)
theorem dX4_resonance_32 : decode cX4_resonance 32 = .ok (.getfield 18, 3) := dk_180 0 18 (dk_at dksX4_resonance_1 8 rfl rfl)
theorem dX4_resonance_35 : decode cX4_resonance 35 = .ok (.aload_n 0, 1) := dk_42 (dk_at dksX4_resonance_1 11 rfl rfl)
theorem dX4_resonance_36 : decode cX4_resonance 36 = .ok (.getfield 191, 3) := dk_180 0 191 (dk_at dksX4_resonance_1 12 rfl rfl)
theorem dX4_resonance_39 : decode cX4_resonance 39 = .ok (.iconst 1, 1) := dk_4 (dk_at dksX4_resonance_1 15 rfl rfl)
theorem dX4_resonance_40 : decode cX4_resonance 40 = .ok (.isub, 1) := dk_100 (dk_at dksX4_resonance_1 16 rfl rfl)
theorem dX4_resonance_41 : decode cX4_resonance 41 = .ok (.iaload, 1) := dk_46 (dk_at dksX4_resonance_1 17 rfl rfl)
theorem dX4_resonance_42 : decode cX4_resonance 42 = .ok (.if_icmp .gt 29, 3) := dk_163 0 29 (dk_at dksX4_resonance_1 18 rfl rfl)
theorem dX4_resonance_45 : decode cX4_resonance 45 = .ok (.aload_n 0, 1) := dk_42 (dk_at dksX4_resonance_1 21 rfl rfl)
theorem dX4_resonance_46 : decode cX4_resonance 46 = .ok (.iload_n 3, 1) := dk_29 (dk_at dksX4_resonance_1 22 rfl rfl)
theorem dX4_resonance_47 : decode cX4_resonance 47 = .ok (.invokevirtual 255, 3) := dk_182 0 255 (dk_at dksX4_resonance_2 0 rfl rfl)
theorem dX4_resonance_50 : decode cX4_resonance 50 = .ok (.ifCond .ne 6, 3) := dk_154 0 6 (dk_at dksX4_resonance_2 3 rfl rfl)
theorem dX4_resonance_53 : decode cX4_resonance 53 = .ok (.goto 12, 3) := dk_167 0 12 (dk_at dksX4_resonance_2 6 rfl rfl)
theorem dX4_resonance_56 : decode cX4_resonance 56 = .ok (.iload_n 2, 1) := dk_28 (dk_at dksX4_resonance_2 9 rfl rfl)
theorem dX4_resonance_57 : decode cX4_resonance 57 = .ok (.ifCond .ne 5, 3) := dk_154 0 5 (dk_at dksX4_resonance_2 10 rfl rfl)
theorem dX4_resonance_60 : decode cX4_resonance 60 = .ok (.iload_n 3, 1) := dk_29 (dk_at dksX4_resonance_2 13 rfl rfl)
theorem dX4_resonance_61 : decode cX4_resonance 61 = .ok (.ireturn, 1) := dk_172 (dk_at dksX4_resonance_2 14 rfl rfl)
theorem dX4_resonance_62 : decode cX4_resonance 62 = .ok (.iinc 2 (-1), 3) := dk_132 2 255 (dk_at dksX4_resonance_2 15 rfl rfl)
theorem dX4_resonance_65 : decode cX4_resonance 65 = .ok (.iinc 3 1, 3) := dk_132 3 1 (dk_at dksX4_resonance_2 18 rfl rfl)
theorem dX4_resonance_68 : decode cX4_resonance 68 = .ok (.goto (-38), 3) := dk_167 255 218 (dk_at dksX4_resonance_2 21 rfl rfl)
theorem dX4_resonance_71 : decode cX4_resonance 71 = .ok (.bipush (-2), 2) := dk_16 254 (dk_at dksX4_resonance_3 0 rfl rfl)
theorem dX4_resonance_73 : decode cX4_resonance 73 = .ok (.ireturn, 1) := dk_172 (dk_at dksX4_resonance_3 2 rfl rfl)
abbrev cX4_isResonance : ByteArray := prog_21_method_34_code
def yX4_isResonance : MethodName := ⟨RX4, "isResonance", "(I)Z"⟩
def dkwX4_isResonance_2 : List UInt8 := [32, 9, 148, 156, 0, 14, 22, 4, 9, 148, 158, 0, 7, 4, 167, 0, 4, 3, 172]
abbrev dktX4_isResonance_2 : List UInt8 := dkwX4_isResonance_2 ++ []
def dkwX4_isResonance_1 : List UInt8 := [3, 172, 42, 27, 4, 100, 182, 0, 248, 55, 4, 32, 9, 148, 158, 0, 10, 22, 4, 9, 148, 155, 0, 16]
abbrev dktX4_isResonance_1 : List UInt8 := dkwX4_isResonance_1 ++ dktX4_isResonance_2
def dkwX4_isResonance_0 : List UInt8 := [42, 27, 182, 0, 248, 65, 32, 9, 148, 154, 0, 5, 4, 172, 27, 42, 180, 0, 18, 3, 46, 160, 0, 5]
abbrev dktX4_isResonance_0 : List UInt8 := dkwX4_isResonance_0 ++ dktX4_isResonance_1
theorem dksX4_isResonance_0 : cX4_isResonance.data.toList.drop 0 = dktX4_isResonance_0 := by decide +kernel
theorem dksX4_isResonance_1 : cX4_isResonance.data.toList.drop 24 = dktX4_isResonance_1 := dk_seg dksX4_isResonance_0 24 rfl rfl
theorem dksX4_isResonance_2 : cX4_isResonance.data.toList.drop 48 = dktX4_isResonance_2 := dk_seg dksX4_isResonance_1 24 rfl rfl
theorem dX4_isResonance_0 : decode cX4_isResonance 0 = .ok (.aload_n 0, 1) := dk_42 (dk_at dksX4_isResonance_0 0 rfl rfl)
theorem dX4_isResonance_1 : decode cX4_isResonance 1 = .ok (.iload_n 1, 1) := dk_27 (dk_at dksX4_isResonance_0 1 rfl rfl)
theorem dX4_isResonance_2 : decode cX4_isResonance 2 = .ok (.invokevirtual 248, 3) := dk_182 0 248 (dk_at dksX4_isResonance_0 2 rfl rfl)
theorem dX4_isResonance_5 : decode cX4_isResonance 5 = .ok (.lstore_n 2, 1) := dk_65 (dk_at dksX4_isResonance_0 5 rfl rfl)
theorem dX4_isResonance_6 : decode cX4_isResonance 6 = .ok (.lload_n 2, 1) := dk_32 (dk_at dksX4_isResonance_0 6 rfl rfl)
theorem dX4_isResonance_7 : decode cX4_isResonance 7 = .ok (.lconst 0, 1) := dk_9 (dk_at dksX4_isResonance_0 7 rfl rfl)
theorem dX4_isResonance_8 : decode cX4_isResonance 8 = .ok (.lcmp, 1) := dk_148 (dk_at dksX4_isResonance_0 8 rfl rfl)
theorem dX4_isResonance_9 : decode cX4_isResonance 9 = .ok (.ifCond .ne 5, 3) := dk_154 0 5 (dk_at dksX4_isResonance_0 9 rfl rfl)
theorem dX4_isResonance_12 : decode cX4_isResonance 12 = .ok (.iconst 1, 1) := dk_4 (dk_at dksX4_isResonance_0 12 rfl rfl)
theorem dX4_isResonance_13 : decode cX4_isResonance 13 = .ok (.ireturn, 1) := dk_172 (dk_at dksX4_isResonance_0 13 rfl rfl)
theorem dX4_isResonance_14 : decode cX4_isResonance 14 = .ok (.iload_n 1, 1) := dk_27 (dk_at dksX4_isResonance_0 14 rfl rfl)
theorem dX4_isResonance_15 : decode cX4_isResonance 15 = .ok (.aload_n 0, 1) := dk_42 (dk_at dksX4_isResonance_0 15 rfl rfl)
theorem dX4_isResonance_16 : decode cX4_isResonance 16 = .ok (.getfield 18, 3) := dk_180 0 18 (dk_at dksX4_isResonance_0 16 rfl rfl)
theorem dX4_isResonance_19 : decode cX4_isResonance 19 = .ok (.iconst 0, 1) := dk_3 (dk_at dksX4_isResonance_0 19 rfl rfl)
theorem dX4_isResonance_20 : decode cX4_isResonance 20 = .ok (.iaload, 1) := dk_46 (dk_at dksX4_isResonance_0 20 rfl rfl)
theorem dX4_isResonance_21 : decode cX4_isResonance 21 = .ok (.if_icmp .ne 5, 3) := dk_160 0 5 (dk_at dksX4_isResonance_0 21 rfl rfl)
theorem dX4_isResonance_24 : decode cX4_isResonance 24 = .ok (.iconst 0, 1) := dk_3 (dk_at dksX4_isResonance_1 0 rfl rfl)
theorem dX4_isResonance_25 : decode cX4_isResonance 25 = .ok (.ireturn, 1) := dk_172 (dk_at dksX4_isResonance_1 1 rfl rfl)
theorem dX4_isResonance_26 : decode cX4_isResonance 26 = .ok (.aload_n 0, 1) := dk_42 (dk_at dksX4_isResonance_1 2 rfl rfl)
theorem dX4_isResonance_27 : decode cX4_isResonance 27 = .ok (.iload_n 1, 1) := dk_27 (dk_at dksX4_isResonance_1 3 rfl rfl)
theorem dX4_isResonance_28 : decode cX4_isResonance 28 = .ok (.iconst 1, 1) := dk_4 (dk_at dksX4_isResonance_1 4 rfl rfl)
theorem dX4_isResonance_29 : decode cX4_isResonance 29 = .ok (.isub, 1) := dk_100 (dk_at dksX4_isResonance_1 5 rfl rfl)
theorem dX4_isResonance_30 : decode cX4_isResonance 30 = .ok (.invokevirtual 248, 3) := dk_182 0 248 (dk_at dksX4_isResonance_1 6 rfl rfl)
theorem dX4_isResonance_33 : decode cX4_isResonance 33 = .ok (.lstore 4, 2) := dk_55 4 (dk_at dksX4_isResonance_1 9 rfl rfl)
theorem dX4_isResonance_35 : decode cX4_isResonance 35 = .ok (.lload_n 2, 1) := dk_32 (dk_at dksX4_isResonance_1 11 rfl rfl)
theorem dX4_isResonance_36 : decode cX4_isResonance 36 = .ok (.lconst 0, 1) := dk_9 (dk_at dksX4_isResonance_1 12 rfl rfl)
theorem dX4_isResonance_37 : decode cX4_isResonance 37 = .ok (.lcmp, 1) := dk_148 (dk_at dksX4_isResonance_1 13 rfl rfl)
theorem dX4_isResonance_38 : decode cX4_isResonance 38 = .ok (.ifCond .le 10, 3) := dk_158 0 10 (dk_at dksX4_isResonance_1 14 rfl rfl)
theorem dX4_isResonance_41 : decode cX4_isResonance 41 = .ok (.lload 4, 2) := dk_22 4 (dk_at dksX4_isResonance_1 17 rfl rfl)
theorem dX4_isResonance_43 : decode cX4_isResonance 43 = .ok (.lconst 0, 1) := dk_9 (dk_at dksX4_isResonance_1 19 rfl rfl)
theorem dX4_isResonance_44 : decode cX4_isResonance 44 = .ok (.lcmp, 1) := dk_148 (dk_at dksX4_isResonance_1 20 rfl rfl)
theorem dX4_isResonance_45 : decode cX4_isResonance 45 = .ok (.ifCond .lt 16, 3) := dk_155 0 16 (dk_at dksX4_isResonance_1 21 rfl rfl)
theorem dX4_isResonance_48 : decode cX4_isResonance 48 = .ok (.lload_n 2, 1) := dk_32 (dk_at dksX4_isResonance_2 0 rfl rfl)
theorem dX4_isResonance_49 : decode cX4_isResonance 49 = .ok (.lconst 0, 1) := dk_9 (dk_at dksX4_isResonance_2 1 rfl rfl)
theorem dX4_isResonance_50 : decode cX4_isResonance 50 = .ok (.lcmp, 1) := dk_148 (dk_at dksX4_isResonance_2 2 rfl rfl)
theorem dX4_isResonance_51 : decode cX4_isResonance 51 = .ok (.ifCond .ge 14, 3) := dk_156 0 14 (dk_at dksX4_isResonance_2 3 rfl rfl)
theorem dX4_isResonance_54 : decode cX4_isResonance 54 = .ok (.lload 4, 2) := dk_22 4 (dk_at dksX4_isResonance_2 6 rfl rfl)
theorem dX4_isResonance_56 : decode cX4_isResonance 56 = .ok (.lconst 0, 1) := dk_9 (dk_at dksX4_isResonance_2 8 rfl rfl)
theorem dX4_isResonance_57 : decode cX4_isResonance 57 = .ok (.lcmp, 1) := dk_148 (dk_at dksX4_isResonance_2 9 rfl rfl)
theorem dX4_isResonance_58 : decode cX4_isResonance 58 = .ok (.ifCond .le 7, 3) := dk_158 0 7 (dk_at dksX4_isResonance_2 10 rfl rfl)
theorem dX4_isResonance_61 : decode cX4_isResonance 61 = .ok (.iconst 1, 1) := dk_4 (dk_at dksX4_isResonance_2 13 rfl rfl)
theorem dX4_isResonance_62 : decode cX4_isResonance 62 = .ok (.goto 4, 3) := dk_167 0 4 (dk_at dksX4_isResonance_2 14 rfl rfl)
theorem dX4_isResonance_65 : decode cX4_isResonance 65 = .ok (.iconst 0, 1) := dk_3 (dk_at dksX4_isResonance_2 17 rfl rfl)
theorem dX4_isResonance_66 : decode cX4_isResonance 66 = .ok (.ireturn, 1) := dk_172 (dk_at dksX4_isResonance_2 18 rfl rfl)
abbrev cX4_bandOf : ByteArray := prog_21_method_37_code
def yX4_bandOf : MethodName := ⟨RX4, "bandOf", "(I)I"⟩
def dkwX4_bandOf_0 : List UInt8 := [42, 180, 0, 194, 153, 0, 18, 27, 184, 0, 239, 153, 0, 11, 42, 27, 182, 1, 2, 167, 0, 4, 2, 172]
abbrev dktX4_bandOf_0 : List UInt8 := dkwX4_bandOf_0 ++ []
theorem dksX4_bandOf_0 : cX4_bandOf.data.toList.drop 0 = dktX4_bandOf_0 := by decide +kernel
theorem dX4_bandOf_0 : decode cX4_bandOf 0 = .ok (.aload_n 0, 1) := dk_42 (dk_at dksX4_bandOf_0 0 rfl rfl)
theorem dX4_bandOf_1 : decode cX4_bandOf 1 = .ok (.getfield 194, 3) := dk_180 0 194 (dk_at dksX4_bandOf_0 1 rfl rfl)
theorem dX4_bandOf_4 : decode cX4_bandOf 4 = .ok (.ifCond .eq 18, 3) := dk_153 0 18 (dk_at dksX4_bandOf_0 4 rfl rfl)
theorem dX4_bandOf_7 : decode cX4_bandOf 7 = .ok (.iload_n 1, 1) := dk_27 (dk_at dksX4_bandOf_0 7 rfl rfl)
theorem dX4_bandOf_8 : decode cX4_bandOf 8 = .ok (.invokestatic 239, 3) := dk_184 0 239 (dk_at dksX4_bandOf_0 8 rfl rfl)
theorem dX4_bandOf_11 : decode cX4_bandOf 11 = .ok (.ifCond .eq 11, 3) := dk_153 0 11 (dk_at dksX4_bandOf_0 11 rfl rfl)
theorem dX4_bandOf_14 : decode cX4_bandOf 14 = .ok (.aload_n 0, 1) := dk_42 (dk_at dksX4_bandOf_0 14 rfl rfl)
theorem dX4_bandOf_15 : decode cX4_bandOf 15 = .ok (.iload_n 1, 1) := dk_27 (dk_at dksX4_bandOf_0 15 rfl rfl)
theorem dX4_bandOf_16 : decode cX4_bandOf 16 = .ok (.invokevirtual 258, 3) := dk_182 1 2 (dk_at dksX4_bandOf_0 16 rfl rfl)
theorem dX4_bandOf_19 : decode cX4_bandOf 19 = .ok (.goto 4, 3) := dk_167 0 4 (dk_at dksX4_bandOf_0 19 rfl rfl)
theorem dX4_bandOf_22 : decode cX4_bandOf 22 = .ok (.iconst (-1), 1) := dk_2 (dk_at dksX4_bandOf_0 22 rfl rfl)
theorem dX4_bandOf_23 : decode cX4_bandOf 23 = .ok (.ireturn, 1) := dk_172 (dk_at dksX4_bandOf_0 23 rfl rfl)
abbrev cX4_band : ByteArray := prog_21_method_36_code
def yX4_band : MethodName := ⟨RX4, "band", "(I)I"⟩
def dkwX4_band_1 : List UInt8 := [46, 133, 184, 0, 75, 153, 0, 5, 28, 172, 132, 2, 1, 167, 255, 221, 16, 254, 172]
abbrev dktX4_band_1 : List UInt8 := dkwX4_band_1 ++ []
def dkwX4_band_0 : List UInt8 := [3, 61, 28, 42, 180, 0, 216, 162, 0, 33, 27, 133, 42, 180, 0, 27, 28, 46, 133, 42, 180, 0, 30, 28]
abbrev dktX4_band_0 : List UInt8 := dkwX4_band_0 ++ dktX4_band_1
theorem dksX4_band_0 : cX4_band.data.toList.drop 0 = dktX4_band_0 := by decide +kernel
theorem dksX4_band_1 : cX4_band.data.toList.drop 24 = dktX4_band_1 := dk_seg dksX4_band_0 24 rfl rfl
theorem dX4_band_0 : decode cX4_band 0 = .ok (.iconst 0, 1) := dk_3 (dk_at dksX4_band_0 0 rfl rfl)
theorem dX4_band_1 : decode cX4_band 1 = .ok (.istore_n 2, 1) := dk_61 (dk_at dksX4_band_0 1 rfl rfl)
theorem dX4_band_2 : decode cX4_band 2 = .ok (.iload_n 2, 1) := dk_28 (dk_at dksX4_band_0 2 rfl rfl)
theorem dX4_band_3 : decode cX4_band 3 = .ok (.aload_n 0, 1) := dk_42 (dk_at dksX4_band_0 3 rfl rfl)
theorem dX4_band_4 : decode cX4_band 4 = .ok (.getfield 216, 3) := dk_180 0 216 (dk_at dksX4_band_0 4 rfl rfl)
theorem dX4_band_7 : decode cX4_band 7 = .ok (.if_icmp .ge 33, 3) := dk_162 0 33 (dk_at dksX4_band_0 7 rfl rfl)
theorem dX4_band_10 : decode cX4_band 10 = .ok (.iload_n 1, 1) := dk_27 (dk_at dksX4_band_0 10 rfl rfl)
theorem dX4_band_11 : decode cX4_band 11 = .ok (.i2l, 1) := dk_133 (dk_at dksX4_band_0 11 rfl rfl)
theorem dX4_band_12 : decode cX4_band 12 = .ok (.aload_n 0, 1) := dk_42 (dk_at dksX4_band_0 12 rfl rfl)
theorem dX4_band_13 : decode cX4_band 13 = .ok (.getfield 27, 3) := dk_180 0 27 (dk_at dksX4_band_0 13 rfl rfl)
theorem dX4_band_16 : decode cX4_band 16 = .ok (.iload_n 2, 1) := dk_28 (dk_at dksX4_band_0 16 rfl rfl)
theorem dX4_band_17 : decode cX4_band 17 = .ok (.iaload, 1) := dk_46 (dk_at dksX4_band_0 17 rfl rfl)
theorem dX4_band_18 : decode cX4_band 18 = .ok (.i2l, 1) := dk_133 (dk_at dksX4_band_0 18 rfl rfl)
theorem dX4_band_19 : decode cX4_band 19 = .ok (.aload_n 0, 1) := dk_42 (dk_at dksX4_band_0 19 rfl rfl)
theorem dX4_band_20 : decode cX4_band 20 = .ok (.getfield 30, 3) := dk_180 0 30 (dk_at dksX4_band_0 20 rfl rfl)
theorem dX4_band_23 : decode cX4_band 23 = .ok (.iload_n 2, 1) := dk_28 (dk_at dksX4_band_0 23 rfl rfl)
theorem dX4_band_24 : decode cX4_band 24 = .ok (.iaload, 1) := dk_46 (dk_at dksX4_band_1 0 rfl rfl)
theorem dX4_band_25 : decode cX4_band 25 = .ok (.i2l, 1) := dk_133 (dk_at dksX4_band_1 1 rfl rfl)
theorem dX4_band_26 : decode cX4_band 26 = .ok (.invokestatic 75, 3) := dk_184 0 75 (dk_at dksX4_band_1 2 rfl rfl)
theorem dX4_band_29 : decode cX4_band 29 = .ok (.ifCond .eq 5, 3) := dk_153 0 5 (dk_at dksX4_band_1 5 rfl rfl)
theorem dX4_band_32 : decode cX4_band 32 = .ok (.iload_n 2, 1) := dk_28 (dk_at dksX4_band_1 8 rfl rfl)
theorem dX4_band_33 : decode cX4_band 33 = .ok (.ireturn, 1) := dk_172 (dk_at dksX4_band_1 9 rfl rfl)
theorem dX4_band_34 : decode cX4_band 34 = .ok (.iinc 2 1, 3) := dk_132 2 1 (dk_at dksX4_band_1 10 rfl rfl)
theorem dX4_band_37 : decode cX4_band 37 = .ok (.goto (-35), 3) := dk_167 255 221 (dk_at dksX4_band_1 13 rfl rfl)
theorem dX4_band_40 : decode cX4_band 40 = .ok (.bipush (-2), 2) := dk_16 254 (dk_at dksX4_band_1 16 rfl rfl)
theorem dX4_band_42 : decode cX4_band 42 = .ok (.ireturn, 1) := dk_172 (dk_at dksX4_band_1 18 rfl rfl)
abbrev cX4_undo : ByteArray := prog_21_method_44_code
def yX4_undo : MethodName := ⟨RX4, "undo", "()I"⟩
def dkwX4_undo_2 : List UInt8 := [17, 0, 254, 42, 180, 0, 219, 104, 27, 96, 46, 79, 132, 1, 1, 167, 255, 225, 42, 180, 0, 219, 172]
abbrev dktX4_undo_2 : List UInt8 := dkwX4_undo_2 ++ []
def dkwX4_undo_1 : List UInt8 := [4, 100, 181, 0, 219, 3, 60, 27, 17, 0, 254, 162, 0, 30, 42, 180, 0, 9, 27, 42, 180, 0, 15]
abbrev dktX4_undo_1 : List UInt8 := dkwX4_undo_1 ++ dktX4_undo_2
def dkwX4_undo_0 : List UInt8 := [42, 180, 0, 194, 154, 0, 5, 2, 172, 42, 180, 0, 219, 154, 0, 6, 16, 254, 172, 42, 89, 180, 0, 219]
abbrev dktX4_undo_0 : List UInt8 := dkwX4_undo_0 ++ dktX4_undo_1
theorem dksX4_undo_0 : cX4_undo.data.toList.drop 0 = dktX4_undo_0 := by decide +kernel
theorem dksX4_undo_1 : cX4_undo.data.toList.drop 24 = dktX4_undo_1 := dk_seg dksX4_undo_0 24 rfl rfl
theorem dksX4_undo_2 : cX4_undo.data.toList.drop 47 = dktX4_undo_2 := dk_seg dksX4_undo_1 23 rfl rfl
theorem dX4_undo_0 : decode cX4_undo 0 = .ok (.aload_n 0, 1) := dk_42 (dk_at dksX4_undo_0 0 rfl rfl)
theorem dX4_undo_1 : decode cX4_undo 1 = .ok (.getfield 194, 3) := dk_180 0 194 (dk_at dksX4_undo_0 1 rfl rfl)
theorem dX4_undo_4 : decode cX4_undo 4 = .ok (.ifCond .ne 5, 3) := dk_154 0 5 (dk_at dksX4_undo_0 4 rfl rfl)
theorem dX4_undo_7 : decode cX4_undo 7 = .ok (.iconst (-1), 1) := dk_2 (dk_at dksX4_undo_0 7 rfl rfl)
theorem dX4_undo_8 : decode cX4_undo 8 = .ok (.ireturn, 1) := dk_172 (dk_at dksX4_undo_0 8 rfl rfl)
theorem dX4_undo_9 : decode cX4_undo 9 = .ok (.aload_n 0, 1) := dk_42 (dk_at dksX4_undo_0 9 rfl rfl)
theorem dX4_undo_10 : decode cX4_undo 10 = .ok (.getfield 219, 3) := dk_180 0 219 (dk_at dksX4_undo_0 10 rfl rfl)
theorem dX4_undo_13 : decode cX4_undo 13 = .ok (.ifCond .ne 6, 3) := dk_154 0 6 (dk_at dksX4_undo_0 13 rfl rfl)
theorem dX4_undo_16 : decode cX4_undo 16 = .ok (.bipush (-2), 2) := dk_16 254 (dk_at dksX4_undo_0 16 rfl rfl)
theorem dX4_undo_18 : decode cX4_undo 18 = .ok (.ireturn, 1) := dk_172 (dk_at dksX4_undo_0 18 rfl rfl)
theorem dX4_undo_19 : decode cX4_undo 19 = .ok (.aload_n 0, 1) := dk_42 (dk_at dksX4_undo_0 19 rfl rfl)
theorem dX4_undo_20 : decode cX4_undo 20 = .ok (.dup, 1) := dk_89 (dk_at dksX4_undo_0 20 rfl rfl)
theorem dX4_undo_21 : decode cX4_undo 21 = .ok (.getfield 219, 3) := dk_180 0 219 (dk_at dksX4_undo_0 21 rfl rfl)
theorem dX4_undo_24 : decode cX4_undo 24 = .ok (.iconst 1, 1) := dk_4 (dk_at dksX4_undo_1 0 rfl rfl)
theorem dX4_undo_25 : decode cX4_undo 25 = .ok (.isub, 1) := dk_100 (dk_at dksX4_undo_1 1 rfl rfl)
theorem dX4_undo_26 : decode cX4_undo 26 = .ok (.putfield 219, 3) := dk_181 0 219 (dk_at dksX4_undo_1 2 rfl rfl)
theorem dX4_undo_29 : decode cX4_undo 29 = .ok (.iconst 0, 1) := dk_3 (dk_at dksX4_undo_1 5 rfl rfl)
theorem dX4_undo_30 : decode cX4_undo 30 = .ok (.istore_n 1, 1) := dk_60 (dk_at dksX4_undo_1 6 rfl rfl)
theorem dX4_undo_31 : decode cX4_undo 31 = .ok (.iload_n 1, 1) := dk_27 (dk_at dksX4_undo_1 7 rfl rfl)
theorem dX4_undo_32 : decode cX4_undo 32 = .ok (.sipush 254, 3) := dk_17 0 254 (dk_at dksX4_undo_1 8 rfl rfl)
theorem dX4_undo_35 : decode cX4_undo 35 = .ok (.if_icmp .ge 30, 3) := dk_162 0 30 (dk_at dksX4_undo_1 11 rfl rfl)
theorem dX4_undo_38 : decode cX4_undo 38 = .ok (.aload_n 0, 1) := dk_42 (dk_at dksX4_undo_1 14 rfl rfl)
theorem dX4_undo_39 : decode cX4_undo 39 = .ok (.getfield 9, 3) := dk_180 0 9 (dk_at dksX4_undo_1 15 rfl rfl)
theorem dX4_undo_42 : decode cX4_undo 42 = .ok (.iload_n 1, 1) := dk_27 (dk_at dksX4_undo_1 18 rfl rfl)
theorem dX4_undo_43 : decode cX4_undo 43 = .ok (.aload_n 0, 1) := dk_42 (dk_at dksX4_undo_1 19 rfl rfl)
theorem dX4_undo_44 : decode cX4_undo 44 = .ok (.getfield 15, 3) := dk_180 0 15 (dk_at dksX4_undo_1 20 rfl rfl)
theorem dX4_undo_47 : decode cX4_undo 47 = .ok (.sipush 254, 3) := dk_17 0 254 (dk_at dksX4_undo_2 0 rfl rfl)
theorem dX4_undo_50 : decode cX4_undo 50 = .ok (.aload_n 0, 1) := dk_42 (dk_at dksX4_undo_2 3 rfl rfl)
theorem dX4_undo_51 : decode cX4_undo 51 = .ok (.getfield 219, 3) := dk_180 0 219 (dk_at dksX4_undo_2 4 rfl rfl)
theorem dX4_undo_54 : decode cX4_undo 54 = .ok (.imul, 1) := dk_104 (dk_at dksX4_undo_2 7 rfl rfl)
theorem dX4_undo_55 : decode cX4_undo 55 = .ok (.iload_n 1, 1) := dk_27 (dk_at dksX4_undo_2 8 rfl rfl)
theorem dX4_undo_56 : decode cX4_undo 56 = .ok (.iadd, 1) := dk_96 (dk_at dksX4_undo_2 9 rfl rfl)
theorem dX4_undo_57 : decode cX4_undo 57 = .ok (.iaload, 1) := dk_46 (dk_at dksX4_undo_2 10 rfl rfl)
theorem dX4_undo_58 : decode cX4_undo 58 = .ok (.iastore, 1) := dk_79 (dk_at dksX4_undo_2 11 rfl rfl)
theorem dX4_undo_59 : decode cX4_undo 59 = .ok (.iinc 1 1, 3) := dk_132 1 1 (dk_at dksX4_undo_2 12 rfl rfl)
theorem dX4_undo_62 : decode cX4_undo 62 = .ok (.goto (-31), 3) := dk_167 255 225 (dk_at dksX4_undo_2 15 rfl rfl)
theorem dX4_undo_65 : decode cX4_undo 65 = .ok (.aload_n 0, 1) := dk_42 (dk_at dksX4_undo_2 18 rfl rfl)
theorem dX4_undo_66 : decode cX4_undo 66 = .ok (.getfield 219, 3) := dk_180 0 219 (dk_at dksX4_undo_2 19 rfl rfl)
theorem dX4_undo_69 : decode cX4_undo 69 = .ok (.ireturn, 1) := dk_172 (dk_at dksX4_undo_2 22 rfl rfl)
abbrev cX4_setFrequency : ByteArray := prog_21_method_46_code
def yX4_setFrequency : MethodName := ⟨RX4, "setFrequency", "(I)I"⟩
def dkwX4_setFrequency_1 : List UInt8 := [3, 46, 61, 42, 3, 27, 182, 1, 9, 28, 172]
abbrev dktX4_setFrequency_1 : List UInt8 := dkwX4_setFrequency_1 ++ []
def dkwX4_setFrequency_0 : List UInt8 := [42, 180, 0, 194, 153, 0, 10, 27, 184, 0, 239, 154, 0, 5, 2, 172, 42, 182, 1, 6, 42, 180, 0, 9]
abbrev dktX4_setFrequency_0 : List UInt8 := dkwX4_setFrequency_0 ++ dktX4_setFrequency_1
theorem dksX4_setFrequency_0 : cX4_setFrequency.data.toList.drop 0 = dktX4_setFrequency_0 := by decide +kernel
theorem dksX4_setFrequency_1 : cX4_setFrequency.data.toList.drop 24 = dktX4_setFrequency_1 := dk_seg dksX4_setFrequency_0 24 rfl rfl
theorem dX4_setFrequency_0 : decode cX4_setFrequency 0 = .ok (.aload_n 0, 1) := dk_42 (dk_at dksX4_setFrequency_0 0 rfl rfl)
theorem dX4_setFrequency_1 : decode cX4_setFrequency 1 = .ok (.getfield 194, 3) := dk_180 0 194 (dk_at dksX4_setFrequency_0 1 rfl rfl)
theorem dX4_setFrequency_4 : decode cX4_setFrequency 4 = .ok (.ifCond .eq 10, 3) := dk_153 0 10 (dk_at dksX4_setFrequency_0 4 rfl rfl)
theorem dX4_setFrequency_7 : decode cX4_setFrequency 7 = .ok (.iload_n 1, 1) := dk_27 (dk_at dksX4_setFrequency_0 7 rfl rfl)
theorem dX4_setFrequency_8 : decode cX4_setFrequency 8 = .ok (.invokestatic 239, 3) := dk_184 0 239 (dk_at dksX4_setFrequency_0 8 rfl rfl)
theorem dX4_setFrequency_11 : decode cX4_setFrequency 11 = .ok (.ifCond .ne 5, 3) := dk_154 0 5 (dk_at dksX4_setFrequency_0 11 rfl rfl)
theorem dX4_setFrequency_14 : decode cX4_setFrequency 14 = .ok (.iconst (-1), 1) := dk_2 (dk_at dksX4_setFrequency_0 14 rfl rfl)
theorem dX4_setFrequency_15 : decode cX4_setFrequency 15 = .ok (.ireturn, 1) := dk_172 (dk_at dksX4_setFrequency_0 15 rfl rfl)
theorem dX4_setFrequency_16 : decode cX4_setFrequency 16 = .ok (.aload_n 0, 1) := dk_42 (dk_at dksX4_setFrequency_0 16 rfl rfl)
theorem dX4_setFrequency_17 : decode cX4_setFrequency 17 = .ok (.invokevirtual 262, 3) := dk_182 1 6 (dk_at dksX4_setFrequency_0 17 rfl rfl)
theorem dX4_setFrequency_20 : decode cX4_setFrequency 20 = .ok (.aload_n 0, 1) := dk_42 (dk_at dksX4_setFrequency_0 20 rfl rfl)
theorem dX4_setFrequency_21 : decode cX4_setFrequency 21 = .ok (.getfield 9, 3) := dk_180 0 9 (dk_at dksX4_setFrequency_0 21 rfl rfl)
theorem dX4_setFrequency_24 : decode cX4_setFrequency 24 = .ok (.iconst 0, 1) := dk_3 (dk_at dksX4_setFrequency_1 0 rfl rfl)
theorem dX4_setFrequency_25 : decode cX4_setFrequency 25 = .ok (.iaload, 1) := dk_46 (dk_at dksX4_setFrequency_1 1 rfl rfl)
theorem dX4_setFrequency_26 : decode cX4_setFrequency 26 = .ok (.istore_n 2, 1) := dk_61 (dk_at dksX4_setFrequency_1 2 rfl rfl)
theorem dX4_setFrequency_27 : decode cX4_setFrequency 27 = .ok (.aload_n 0, 1) := dk_42 (dk_at dksX4_setFrequency_1 3 rfl rfl)
theorem dX4_setFrequency_28 : decode cX4_setFrequency 28 = .ok (.iconst 0, 1) := dk_3 (dk_at dksX4_setFrequency_1 4 rfl rfl)
theorem dX4_setFrequency_29 : decode cX4_setFrequency 29 = .ok (.iload_n 1, 1) := dk_27 (dk_at dksX4_setFrequency_1 5 rfl rfl)
theorem dX4_setFrequency_30 : decode cX4_setFrequency 30 = .ok (.invokevirtual 265, 3) := dk_182 1 9 (dk_at dksX4_setFrequency_1 6 rfl rfl)
theorem dX4_setFrequency_33 : decode cX4_setFrequency 33 = .ok (.iload_n 2, 1) := dk_28 (dk_at dksX4_setFrequency_1 9 rfl rfl)
theorem dX4_setFrequency_34 : decode cX4_setFrequency 34 = .ok (.ireturn, 1) := dk_172 (dk_at dksX4_setFrequency_1 10 rfl rfl)
abbrev cX4_remember : ByteArray := prog_21_method_43_code
def yX4_remember : MethodName := ⟨RX4, "remember", "()V"⟩
def dkwX4_remember_4 : List UInt8 := [181, 0, 219, 177]
abbrev dktX4_remember_4 : List UInt8 := dkwX4_remember_4 ++ []
def dkwX4_remember_3 : List UInt8 := [104, 27, 96, 42, 180, 0, 9, 27, 46, 79, 132, 1, 1, 167, 255, 225, 42, 89, 180, 0, 219, 4, 96]
abbrev dktX4_remember_3 : List UInt8 := dkwX4_remember_3 ++ dktX4_remember_4
def dkwX4_remember_2 : List UInt8 := [100, 181, 0, 219, 3, 60, 27, 17, 0, 254, 162, 0, 30, 42, 180, 0, 15, 17, 0, 254, 42, 180, 0, 219]
abbrev dktX4_remember_2 : List UInt8 := dkwX4_remember_2 ++ dktX4_remember_3
def dkwX4_remember_1 : List UInt8 := [27, 17, 0, 254, 100, 42, 180, 0, 15, 27, 46, 79, 132, 1, 1, 167, 255, 230, 42, 89, 180, 0, 219, 4]
abbrev dktX4_remember_1 : List UInt8 := dkwX4_remember_1 ++ dktX4_remember_2
def dkwX4_remember_0 : List UInt8 := [42, 180, 0, 219, 16, 12, 160, 0, 46, 17, 0, 254, 60, 27, 17, 11, 232, 162, 0, 25, 42, 180, 0, 15]
abbrev dktX4_remember_0 : List UInt8 := dkwX4_remember_0 ++ dktX4_remember_1
theorem dksX4_remember_0 : cX4_remember.data.toList.drop 0 = dktX4_remember_0 := by decide +kernel
theorem dksX4_remember_1 : cX4_remember.data.toList.drop 24 = dktX4_remember_1 := dk_seg dksX4_remember_0 24 rfl rfl
theorem dksX4_remember_2 : cX4_remember.data.toList.drop 48 = dktX4_remember_2 := dk_seg dksX4_remember_1 24 rfl rfl
theorem dksX4_remember_3 : cX4_remember.data.toList.drop 72 = dktX4_remember_3 := dk_seg dksX4_remember_2 24 rfl rfl
theorem dksX4_remember_4 : cX4_remember.data.toList.drop 95 = dktX4_remember_4 := dk_seg dksX4_remember_3 23 rfl rfl
theorem dX4_remember_0 : decode cX4_remember 0 = .ok (.aload_n 0, 1) := dk_42 (dk_at dksX4_remember_0 0 rfl rfl)
theorem dX4_remember_1 : decode cX4_remember 1 = .ok (.getfield 219, 3) := dk_180 0 219 (dk_at dksX4_remember_0 1 rfl rfl)
theorem dX4_remember_4 : decode cX4_remember 4 = .ok (.bipush 12, 2) := dk_16 12 (dk_at dksX4_remember_0 4 rfl rfl)
theorem dX4_remember_6 : decode cX4_remember 6 = .ok (.if_icmp .ne 46, 3) := dk_160 0 46 (dk_at dksX4_remember_0 6 rfl rfl)
theorem dX4_remember_9 : decode cX4_remember 9 = .ok (.sipush 254, 3) := dk_17 0 254 (dk_at dksX4_remember_0 9 rfl rfl)
theorem dX4_remember_12 : decode cX4_remember 12 = .ok (.istore_n 1, 1) := dk_60 (dk_at dksX4_remember_0 12 rfl rfl)
theorem dX4_remember_13 : decode cX4_remember 13 = .ok (.iload_n 1, 1) := dk_27 (dk_at dksX4_remember_0 13 rfl rfl)
theorem dX4_remember_14 : decode cX4_remember 14 = .ok (.sipush 3048, 3) := dk_17 11 232 (dk_at dksX4_remember_0 14 rfl rfl)
theorem dX4_remember_17 : decode cX4_remember 17 = .ok (.if_icmp .ge 25, 3) := dk_162 0 25 (dk_at dksX4_remember_0 17 rfl rfl)
theorem dX4_remember_20 : decode cX4_remember 20 = .ok (.aload_n 0, 1) := dk_42 (dk_at dksX4_remember_0 20 rfl rfl)
theorem dX4_remember_21 : decode cX4_remember 21 = .ok (.getfield 15, 3) := dk_180 0 15 (dk_at dksX4_remember_0 21 rfl rfl)
theorem dX4_remember_24 : decode cX4_remember 24 = .ok (.iload_n 1, 1) := dk_27 (dk_at dksX4_remember_1 0 rfl rfl)
theorem dX4_remember_25 : decode cX4_remember 25 = .ok (.sipush 254, 3) := dk_17 0 254 (dk_at dksX4_remember_1 1 rfl rfl)
theorem dX4_remember_28 : decode cX4_remember 28 = .ok (.isub, 1) := dk_100 (dk_at dksX4_remember_1 4 rfl rfl)
theorem dX4_remember_29 : decode cX4_remember 29 = .ok (.aload_n 0, 1) := dk_42 (dk_at dksX4_remember_1 5 rfl rfl)
theorem dX4_remember_30 : decode cX4_remember 30 = .ok (.getfield 15, 3) := dk_180 0 15 (dk_at dksX4_remember_1 6 rfl rfl)
theorem dX4_remember_33 : decode cX4_remember 33 = .ok (.iload_n 1, 1) := dk_27 (dk_at dksX4_remember_1 9 rfl rfl)
theorem dX4_remember_34 : decode cX4_remember 34 = .ok (.iaload, 1) := dk_46 (dk_at dksX4_remember_1 10 rfl rfl)
theorem dX4_remember_35 : decode cX4_remember 35 = .ok (.iastore, 1) := dk_79 (dk_at dksX4_remember_1 11 rfl rfl)
theorem dX4_remember_36 : decode cX4_remember 36 = .ok (.iinc 1 1, 3) := dk_132 1 1 (dk_at dksX4_remember_1 12 rfl rfl)
theorem dX4_remember_39 : decode cX4_remember 39 = .ok (.goto (-26), 3) := dk_167 255 230 (dk_at dksX4_remember_1 15 rfl rfl)
theorem dX4_remember_42 : decode cX4_remember 42 = .ok (.aload_n 0, 1) := dk_42 (dk_at dksX4_remember_1 18 rfl rfl)
theorem dX4_remember_43 : decode cX4_remember 43 = .ok (.dup, 1) := dk_89 (dk_at dksX4_remember_1 19 rfl rfl)
theorem dX4_remember_44 : decode cX4_remember 44 = .ok (.getfield 219, 3) := dk_180 0 219 (dk_at dksX4_remember_1 20 rfl rfl)
theorem dX4_remember_47 : decode cX4_remember 47 = .ok (.iconst 1, 1) := dk_4 (dk_at dksX4_remember_1 23 rfl rfl)
theorem dX4_remember_48 : decode cX4_remember 48 = .ok (.isub, 1) := dk_100 (dk_at dksX4_remember_2 0 rfl rfl)
theorem dX4_remember_49 : decode cX4_remember 49 = .ok (.putfield 219, 3) := dk_181 0 219 (dk_at dksX4_remember_2 1 rfl rfl)
theorem dX4_remember_52 : decode cX4_remember 52 = .ok (.iconst 0, 1) := dk_3 (dk_at dksX4_remember_2 4 rfl rfl)
theorem dX4_remember_53 : decode cX4_remember 53 = .ok (.istore_n 1, 1) := dk_60 (dk_at dksX4_remember_2 5 rfl rfl)
theorem dX4_remember_54 : decode cX4_remember 54 = .ok (.iload_n 1, 1) := dk_27 (dk_at dksX4_remember_2 6 rfl rfl)
theorem dX4_remember_55 : decode cX4_remember 55 = .ok (.sipush 254, 3) := dk_17 0 254 (dk_at dksX4_remember_2 7 rfl rfl)
theorem dX4_remember_58 : decode cX4_remember 58 = .ok (.if_icmp .ge 30, 3) := dk_162 0 30 (dk_at dksX4_remember_2 10 rfl rfl)
theorem dX4_remember_61 : decode cX4_remember 61 = .ok (.aload_n 0, 1) := dk_42 (dk_at dksX4_remember_2 13 rfl rfl)
theorem dX4_remember_62 : decode cX4_remember 62 = .ok (.getfield 15, 3) := dk_180 0 15 (dk_at dksX4_remember_2 14 rfl rfl)
theorem dX4_remember_65 : decode cX4_remember 65 = .ok (.sipush 254, 3) := dk_17 0 254 (dk_at dksX4_remember_2 17 rfl rfl)
theorem dX4_remember_68 : decode cX4_remember 68 = .ok (.aload_n 0, 1) := dk_42 (dk_at dksX4_remember_2 20 rfl rfl)
theorem dX4_remember_69 : decode cX4_remember 69 = .ok (.getfield 219, 3) := dk_180 0 219 (dk_at dksX4_remember_2 21 rfl rfl)
theorem dX4_remember_72 : decode cX4_remember 72 = .ok (.imul, 1) := dk_104 (dk_at dksX4_remember_3 0 rfl rfl)
theorem dX4_remember_73 : decode cX4_remember 73 = .ok (.iload_n 1, 1) := dk_27 (dk_at dksX4_remember_3 1 rfl rfl)
theorem dX4_remember_74 : decode cX4_remember 74 = .ok (.iadd, 1) := dk_96 (dk_at dksX4_remember_3 2 rfl rfl)
theorem dX4_remember_75 : decode cX4_remember 75 = .ok (.aload_n 0, 1) := dk_42 (dk_at dksX4_remember_3 3 rfl rfl)
theorem dX4_remember_76 : decode cX4_remember 76 = .ok (.getfield 9, 3) := dk_180 0 9 (dk_at dksX4_remember_3 4 rfl rfl)
theorem dX4_remember_79 : decode cX4_remember 79 = .ok (.iload_n 1, 1) := dk_27 (dk_at dksX4_remember_3 7 rfl rfl)
theorem dX4_remember_80 : decode cX4_remember 80 = .ok (.iaload, 1) := dk_46 (dk_at dksX4_remember_3 8 rfl rfl)
theorem dX4_remember_81 : decode cX4_remember 81 = .ok (.iastore, 1) := dk_79 (dk_at dksX4_remember_3 9 rfl rfl)
theorem dX4_remember_82 : decode cX4_remember 82 = .ok (.iinc 1 1, 3) := dk_132 1 1 (dk_at dksX4_remember_3 10 rfl rfl)
theorem dX4_remember_85 : decode cX4_remember 85 = .ok (.goto (-31), 3) := dk_167 255 225 (dk_at dksX4_remember_3 13 rfl rfl)
theorem dX4_remember_88 : decode cX4_remember 88 = .ok (.aload_n 0, 1) := dk_42 (dk_at dksX4_remember_3 16 rfl rfl)
theorem dX4_remember_89 : decode cX4_remember 89 = .ok (.dup, 1) := dk_89 (dk_at dksX4_remember_3 17 rfl rfl)
theorem dX4_remember_90 : decode cX4_remember 90 = .ok (.getfield 219, 3) := dk_180 0 219 (dk_at dksX4_remember_3 18 rfl rfl)
theorem dX4_remember_93 : decode cX4_remember 93 = .ok (.iconst 1, 1) := dk_4 (dk_at dksX4_remember_3 21 rfl rfl)
theorem dX4_remember_94 : decode cX4_remember 94 = .ok (.iadd, 1) := dk_96 (dk_at dksX4_remember_3 22 rfl rfl)
theorem dX4_remember_95 : decode cX4_remember 95 = .ok (.putfield 219, 3) := dk_181 0 219 (dk_at dksX4_remember_4 0 rfl rfl)
theorem dX4_remember_98 : decode cX4_remember 98 = .ok (.return_, 1) := dk_177 (dk_at dksX4_remember_4 3 rfl rfl)
abbrev cX4_change : ByteArray := prog_21_method_45_code
def yX4_change : MethodName := ⟨RX4, "change", "(II)V"⟩
def dkwX4_change_1 : List UInt8 := [42, 180, 0, 9, 27, 28, 79, 177]
abbrev dktX4_change_1 : List UInt8 := dkwX4_change_1 ++ []
def dkwX4_change_0 : List UInt8 := [42, 180, 0, 9, 27, 46, 28, 159, 0, 17, 42, 180, 0, 9, 5, 3, 79, 42, 180, 0, 9, 6, 4, 79]
abbrev dktX4_change_0 : List UInt8 := dkwX4_change_0 ++ dktX4_change_1
theorem dksX4_change_0 : cX4_change.data.toList.drop 0 = dktX4_change_0 := by decide +kernel
theorem dksX4_change_1 : cX4_change.data.toList.drop 24 = dktX4_change_1 := dk_seg dksX4_change_0 24 rfl rfl
theorem dX4_change_0 : decode cX4_change 0 = .ok (.aload_n 0, 1) := dk_42 (dk_at dksX4_change_0 0 rfl rfl)
theorem dX4_change_1 : decode cX4_change 1 = .ok (.getfield 9, 3) := dk_180 0 9 (dk_at dksX4_change_0 1 rfl rfl)
theorem dX4_change_4 : decode cX4_change 4 = .ok (.iload_n 1, 1) := dk_27 (dk_at dksX4_change_0 4 rfl rfl)
theorem dX4_change_5 : decode cX4_change 5 = .ok (.iaload, 1) := dk_46 (dk_at dksX4_change_0 5 rfl rfl)
theorem dX4_change_6 : decode cX4_change 6 = .ok (.iload_n 2, 1) := dk_28 (dk_at dksX4_change_0 6 rfl rfl)
theorem dX4_change_7 : decode cX4_change 7 = .ok (.if_icmp .eq 17, 3) := dk_159 0 17 (dk_at dksX4_change_0 7 rfl rfl)
theorem dX4_change_10 : decode cX4_change 10 = .ok (.aload_n 0, 1) := dk_42 (dk_at dksX4_change_0 10 rfl rfl)
theorem dX4_change_11 : decode cX4_change 11 = .ok (.getfield 9, 3) := dk_180 0 9 (dk_at dksX4_change_0 11 rfl rfl)
theorem dX4_change_14 : decode cX4_change 14 = .ok (.iconst 2, 1) := dk_5 (dk_at dksX4_change_0 14 rfl rfl)
theorem dX4_change_15 : decode cX4_change 15 = .ok (.iconst 0, 1) := dk_3 (dk_at dksX4_change_0 15 rfl rfl)
theorem dX4_change_16 : decode cX4_change 16 = .ok (.iastore, 1) := dk_79 (dk_at dksX4_change_0 16 rfl rfl)
theorem dX4_change_17 : decode cX4_change 17 = .ok (.aload_n 0, 1) := dk_42 (dk_at dksX4_change_0 17 rfl rfl)
theorem dX4_change_18 : decode cX4_change 18 = .ok (.getfield 9, 3) := dk_180 0 9 (dk_at dksX4_change_0 18 rfl rfl)
theorem dX4_change_21 : decode cX4_change 21 = .ok (.iconst 3, 1) := dk_6 (dk_at dksX4_change_0 21 rfl rfl)
theorem dX4_change_22 : decode cX4_change 22 = .ok (.iconst 1, 1) := dk_4 (dk_at dksX4_change_0 22 rfl rfl)
theorem dX4_change_23 : decode cX4_change 23 = .ok (.iastore, 1) := dk_79 (dk_at dksX4_change_0 23 rfl rfl)
theorem dX4_change_24 : decode cX4_change 24 = .ok (.aload_n 0, 1) := dk_42 (dk_at dksX4_change_1 0 rfl rfl)
theorem dX4_change_25 : decode cX4_change 25 = .ok (.getfield 9, 3) := dk_180 0 9 (dk_at dksX4_change_1 1 rfl rfl)
theorem dX4_change_28 : decode cX4_change 28 = .ok (.iload_n 1, 1) := dk_27 (dk_at dksX4_change_1 4 rfl rfl)
theorem dX4_change_29 : decode cX4_change 29 = .ok (.iload_n 2, 1) := dk_28 (dk_at dksX4_change_1 5 rfl rfl)
theorem dX4_change_30 : decode cX4_change 30 = .ok (.iastore, 1) := dk_79 (dk_at dksX4_change_1 6 rfl rfl)
theorem dX4_change_31 : decode cX4_change 31 = .ok (.return_, 1) := dk_177 (dk_at dksX4_change_1 7 rfl rfl)
abbrev cX4_setSide : ByteArray := prog_21_method_47_code
def yX4_setSide : MethodName := ⟨RX4, "setSide", "(I)I"⟩
def dkwX4_setSide_2 : List UInt8 := [184, 1, 20, 172]
abbrev dktX4_setSide_2 : List UInt8 := dkwX4_setSide_2 ++ []
def dkwX4_setSide_1 : List UInt8 := [180, 0, 9, 4, 46, 61, 42, 4, 27, 28, 184, 1, 13, 28, 184, 1, 15, 184, 1, 17, 182, 1, 9, 28]
abbrev dktX4_setSide_1 : List UInt8 := dkwX4_setSide_1 ++ dktX4_setSide_2
def dkwX4_setSide_0 : List UInt8 := [42, 180, 0, 194, 153, 0, 13, 27, 133, 9, 10, 184, 0, 75, 154, 0, 5, 2, 172, 42, 182, 1, 6, 42]
abbrev dktX4_setSide_0 : List UInt8 := dkwX4_setSide_0 ++ dktX4_setSide_1
theorem dksX4_setSide_0 : cX4_setSide.data.toList.drop 0 = dktX4_setSide_0 := by decide +kernel
theorem dksX4_setSide_1 : cX4_setSide.data.toList.drop 24 = dktX4_setSide_1 := dk_seg dksX4_setSide_0 24 rfl rfl
theorem dksX4_setSide_2 : cX4_setSide.data.toList.drop 48 = dktX4_setSide_2 := dk_seg dksX4_setSide_1 24 rfl rfl
theorem dX4_setSide_0 : decode cX4_setSide 0 = .ok (.aload_n 0, 1) := dk_42 (dk_at dksX4_setSide_0 0 rfl rfl)
theorem dX4_setSide_1 : decode cX4_setSide 1 = .ok (.getfield 194, 3) := dk_180 0 194 (dk_at dksX4_setSide_0 1 rfl rfl)
theorem dX4_setSide_4 : decode cX4_setSide 4 = .ok (.ifCond .eq 13, 3) := dk_153 0 13 (dk_at dksX4_setSide_0 4 rfl rfl)
theorem dX4_setSide_7 : decode cX4_setSide 7 = .ok (.iload_n 1, 1) := dk_27 (dk_at dksX4_setSide_0 7 rfl rfl)
theorem dX4_setSide_8 : decode cX4_setSide 8 = .ok (.i2l, 1) := dk_133 (dk_at dksX4_setSide_0 8 rfl rfl)
theorem dX4_setSide_9 : decode cX4_setSide 9 = .ok (.lconst 0, 1) := dk_9 (dk_at dksX4_setSide_0 9 rfl rfl)
theorem dX4_setSide_10 : decode cX4_setSide 10 = .ok (.lconst 1, 1) := dk_10 (dk_at dksX4_setSide_0 10 rfl rfl)
theorem dX4_setSide_11 : decode cX4_setSide 11 = .ok (.invokestatic 75, 3) := dk_184 0 75 (dk_at dksX4_setSide_0 11 rfl rfl)
theorem dX4_setSide_14 : decode cX4_setSide 14 = .ok (.ifCond .ne 5, 3) := dk_154 0 5 (dk_at dksX4_setSide_0 14 rfl rfl)
theorem dX4_setSide_17 : decode cX4_setSide 17 = .ok (.iconst (-1), 1) := dk_2 (dk_at dksX4_setSide_0 17 rfl rfl)
theorem dX4_setSide_18 : decode cX4_setSide 18 = .ok (.ireturn, 1) := dk_172 (dk_at dksX4_setSide_0 18 rfl rfl)
theorem dX4_setSide_19 : decode cX4_setSide 19 = .ok (.aload_n 0, 1) := dk_42 (dk_at dksX4_setSide_0 19 rfl rfl)
theorem dX4_setSide_20 : decode cX4_setSide 20 = .ok (.invokevirtual 262, 3) := dk_182 1 6 (dk_at dksX4_setSide_0 20 rfl rfl)
theorem dX4_setSide_23 : decode cX4_setSide 23 = .ok (.aload_n 0, 1) := dk_42 (dk_at dksX4_setSide_0 23 rfl rfl)
theorem dX4_setSide_24 : decode cX4_setSide 24 = .ok (.getfield 9, 3) := dk_180 0 9 (dk_at dksX4_setSide_1 0 rfl rfl)
theorem dX4_setSide_27 : decode cX4_setSide 27 = .ok (.iconst 1, 1) := dk_4 (dk_at dksX4_setSide_1 3 rfl rfl)
theorem dX4_setSide_28 : decode cX4_setSide 28 = .ok (.iaload, 1) := dk_46 (dk_at dksX4_setSide_1 4 rfl rfl)
theorem dX4_setSide_29 : decode cX4_setSide 29 = .ok (.istore_n 2, 1) := dk_61 (dk_at dksX4_setSide_1 5 rfl rfl)
theorem dX4_setSide_30 : decode cX4_setSide 30 = .ok (.aload_n 0, 1) := dk_42 (dk_at dksX4_setSide_1 6 rfl rfl)
theorem dX4_setSide_31 : decode cX4_setSide 31 = .ok (.iconst 1, 1) := dk_4 (dk_at dksX4_setSide_1 7 rfl rfl)
theorem dX4_setSide_32 : decode cX4_setSide 32 = .ok (.iload_n 1, 1) := dk_27 (dk_at dksX4_setSide_1 8 rfl rfl)
theorem dX4_setSide_33 : decode cX4_setSide 33 = .ok (.iload_n 2, 1) := dk_28 (dk_at dksX4_setSide_1 9 rfl rfl)
theorem dX4_setSide_34 : decode cX4_setSide 34 = .ok (.invokestatic 269, 3) := dk_184 1 13 (dk_at dksX4_setSide_1 10 rfl rfl)
theorem dX4_setSide_37 : decode cX4_setSide 37 = .ok (.iload_n 2, 1) := dk_28 (dk_at dksX4_setSide_1 13 rfl rfl)
theorem dX4_setSide_38 : decode cX4_setSide 38 = .ok (.invokestatic 271, 3) := dk_184 1 15 (dk_at dksX4_setSide_1 14 rfl rfl)
theorem dX4_setSide_41 : decode cX4_setSide 41 = .ok (.invokestatic 273, 3) := dk_184 1 17 (dk_at dksX4_setSide_1 17 rfl rfl)
theorem dX4_setSide_44 : decode cX4_setSide 44 = .ok (.invokevirtual 265, 3) := dk_182 1 9 (dk_at dksX4_setSide_1 20 rfl rfl)
theorem dX4_setSide_47 : decode cX4_setSide 47 = .ok (.iload_n 2, 1) := dk_28 (dk_at dksX4_setSide_1 23 rfl rfl)
theorem dX4_setSide_48 : decode cX4_setSide 48 = .ok (.invokestatic 276, 3) := dk_184 1 20 (dk_at dksX4_setSide_2 0 rfl rfl)
theorem dX4_setSide_51 : decode cX4_setSide 51 = .ok (.ireturn, 1) := dk_172 (dk_at dksX4_setSide_2 3 rfl rfl)
abbrev cX4_coil : ByteArray := prog_21_method_39_code
def yX4_coil : MethodName := ⟨RX4, "coil", "(I)I"⟩
def dkwX4_coil_0 : List UInt8 := [26, 16, 64, 108, 16, 64, 112, 172]
abbrev dktX4_coil_0 : List UInt8 := dkwX4_coil_0 ++ []
theorem dksX4_coil_0 : cX4_coil.data.toList.drop 0 = dktX4_coil_0 := by decide +kernel
theorem dX4_coil_0 : decode cX4_coil 0 = .ok (.iload_n 0, 1) := dk_26 (dk_at dksX4_coil_0 0 rfl rfl)
theorem dX4_coil_1 : decode cX4_coil 1 = .ok (.bipush 64, 2) := dk_16 64 (dk_at dksX4_coil_0 1 rfl rfl)
theorem dX4_coil_3 : decode cX4_coil 3 = .ok (.idiv, 1) := dk_108 (dk_at dksX4_coil_0 3 rfl rfl)
theorem dX4_coil_4 : decode cX4_coil 4 = .ok (.bipush 64, 2) := dk_16 64 (dk_at dksX4_coil_0 4 rfl rfl)
theorem dX4_coil_6 : decode cX4_coil 6 = .ok (.irem, 1) := dk_112 (dk_at dksX4_coil_0 6 rfl rfl)
theorem dX4_coil_7 : decode cX4_coil 7 = .ok (.ireturn, 1) := dk_172 (dk_at dksX4_coil_0 7 rfl rfl)
abbrev cX4_capacitor : ByteArray := prog_21_method_40_code
def yX4_capacitor : MethodName := ⟨RX4, "capacitor", "(I)I"⟩
def dkwX4_capacitor_0 : List UInt8 := [26, 16, 64, 112, 172]
abbrev dktX4_capacitor_0 : List UInt8 := dkwX4_capacitor_0 ++ []
theorem dksX4_capacitor_0 : cX4_capacitor.data.toList.drop 0 = dktX4_capacitor_0 := by decide +kernel
theorem dX4_capacitor_0 : decode cX4_capacitor 0 = .ok (.iload_n 0, 1) := dk_26 (dk_at dksX4_capacitor_0 0 rfl rfl)
theorem dX4_capacitor_1 : decode cX4_capacitor 1 = .ok (.bipush 64, 2) := dk_16 64 (dk_at dksX4_capacitor_0 1 rfl rfl)
theorem dX4_capacitor_3 : decode cX4_capacitor 3 = .ok (.irem, 1) := dk_112 (dk_at dksX4_capacitor_0 3 rfl rfl)
theorem dX4_capacitor_4 : decode cX4_capacitor 4 = .ok (.ireturn, 1) := dk_172 (dk_at dksX4_capacitor_0 4 rfl rfl)
abbrev cX4_together : ByteArray := prog_21_method_41_code
def yX4_together : MethodName := ⟨RX4, "together", "(III)I"⟩
def dkwX4_together_0 : List UInt8 := [17, 16, 0, 26, 104, 16, 64, 27, 104, 96, 28, 96, 172]
abbrev dktX4_together_0 : List UInt8 := dkwX4_together_0 ++ []
theorem dksX4_together_0 : cX4_together.data.toList.drop 0 = dktX4_together_0 := by decide +kernel
theorem dX4_together_0 : decode cX4_together 0 = .ok (.sipush 4096, 3) := dk_17 16 0 (dk_at dksX4_together_0 0 rfl rfl)
theorem dX4_together_3 : decode cX4_together 3 = .ok (.iload_n 0, 1) := dk_26 (dk_at dksX4_together_0 3 rfl rfl)
theorem dX4_together_4 : decode cX4_together 4 = .ok (.imul, 1) := dk_104 (dk_at dksX4_together_0 4 rfl rfl)
theorem dX4_together_5 : decode cX4_together 5 = .ok (.bipush 64, 2) := dk_16 64 (dk_at dksX4_together_0 5 rfl rfl)
theorem dX4_together_7 : decode cX4_together 7 = .ok (.iload_n 1, 1) := dk_27 (dk_at dksX4_together_0 7 rfl rfl)
theorem dX4_together_8 : decode cX4_together 8 = .ok (.imul, 1) := dk_104 (dk_at dksX4_together_0 8 rfl rfl)
theorem dX4_together_9 : decode cX4_together 9 = .ok (.iadd, 1) := dk_96 (dk_at dksX4_together_0 9 rfl rfl)
theorem dX4_together_10 : decode cX4_together 10 = .ok (.iload_n 2, 1) := dk_28 (dk_at dksX4_together_0 10 rfl rfl)
theorem dX4_together_11 : decode cX4_together 11 = .ok (.iadd, 1) := dk_96 (dk_at dksX4_together_0 11 rfl rfl)
theorem dX4_together_12 : decode cX4_together 12 = .ok (.ireturn, 1) := dk_172 (dk_at dksX4_together_0 12 rfl rfl)
abbrev cX4_side : ByteArray := prog_21_method_38_code
def yX4_side : MethodName := ⟨RX4, "side", "(I)I"⟩
def dkwX4_side_0 : List UInt8 := [26, 17, 16, 0, 108, 172]
abbrev dktX4_side_0 : List UInt8 := dkwX4_side_0 ++ []
theorem dksX4_side_0 : cX4_side.data.toList.drop 0 = dktX4_side_0 := by decide +kernel
theorem dX4_side_0 : decode cX4_side 0 = .ok (.iload_n 0, 1) := dk_26 (dk_at dksX4_side_0 0 rfl rfl)
theorem dX4_side_1 : decode cX4_side 1 = .ok (.sipush 4096, 3) := dk_17 16 0 (dk_at dksX4_side_0 1 rfl rfl)
theorem dX4_side_4 : decode cX4_side 4 = .ok (.idiv, 1) := dk_108 (dk_at dksX4_side_0 4 rfl rfl)
theorem dX4_side_5 : decode cX4_side 5 = .ok (.ireturn, 1) := dk_172 (dk_at dksX4_side_0 5 rfl rfl)
abbrev cX4_setCoil : ByteArray := prog_21_method_48_code
def yX4_setCoil : MethodName := ⟨RX4, "setCoil", "(I)I"⟩
def dkwX4_setCoil_2 : List UInt8 := [182, 1, 9, 28, 184, 1, 13, 172]
abbrev dktX4_setCoil_2 : List UInt8 := dkwX4_setCoil_2 ++ []
def dkwX4_setCoil_1 : List UInt8 := [182, 1, 6, 42, 180, 0, 9, 4, 46, 61, 42, 4, 28, 184, 1, 20, 27, 28, 184, 1, 15, 184, 1, 17]
abbrev dktX4_setCoil_1 : List UInt8 := dkwX4_setCoil_1 ++ dktX4_setCoil_2
def dkwX4_setCoil_0 : List UInt8 := [42, 180, 0, 194, 153, 0, 15, 27, 133, 9, 20, 1, 4, 184, 0, 75, 154, 0, 5, 2, 172, 42]
abbrev dktX4_setCoil_0 : List UInt8 := dkwX4_setCoil_0 ++ dktX4_setCoil_1
theorem dksX4_setCoil_0 : cX4_setCoil.data.toList.drop 0 = dktX4_setCoil_0 := by decide +kernel
theorem dksX4_setCoil_1 : cX4_setCoil.data.toList.drop 22 = dktX4_setCoil_1 := dk_seg dksX4_setCoil_0 22 rfl rfl
theorem dksX4_setCoil_2 : cX4_setCoil.data.toList.drop 46 = dktX4_setCoil_2 := dk_seg dksX4_setCoil_1 24 rfl rfl
theorem dX4_setCoil_0 : decode cX4_setCoil 0 = .ok (.aload_n 0, 1) := dk_42 (dk_at dksX4_setCoil_0 0 rfl rfl)
theorem dX4_setCoil_1 : decode cX4_setCoil 1 = .ok (.getfield 194, 3) := dk_180 0 194 (dk_at dksX4_setCoil_0 1 rfl rfl)
theorem dX4_setCoil_4 : decode cX4_setCoil 4 = .ok (.ifCond .eq 15, 3) := dk_153 0 15 (dk_at dksX4_setCoil_0 4 rfl rfl)
theorem dX4_setCoil_7 : decode cX4_setCoil 7 = .ok (.iload_n 1, 1) := dk_27 (dk_at dksX4_setCoil_0 7 rfl rfl)
theorem dX4_setCoil_8 : decode cX4_setCoil 8 = .ok (.i2l, 1) := dk_133 (dk_at dksX4_setCoil_0 8 rfl rfl)
theorem dX4_setCoil_9 : decode cX4_setCoil 9 = .ok (.lconst 0, 1) := dk_9 (dk_at dksX4_setCoil_0 9 rfl rfl)
theorem dX4_setCoil_10 : decode cX4_setCoil 10 = .ok (.ldc2_w 260, 3) := dk_20 1 4 (dk_at dksX4_setCoil_0 10 rfl rfl)
theorem dX4_setCoil_13 : decode cX4_setCoil 13 = .ok (.invokestatic 75, 3) := dk_184 0 75 (dk_at dksX4_setCoil_0 13 rfl rfl)
theorem dX4_setCoil_16 : decode cX4_setCoil 16 = .ok (.ifCond .ne 5, 3) := dk_154 0 5 (dk_at dksX4_setCoil_0 16 rfl rfl)
theorem dX4_setCoil_19 : decode cX4_setCoil 19 = .ok (.iconst (-1), 1) := dk_2 (dk_at dksX4_setCoil_0 19 rfl rfl)
theorem dX4_setCoil_20 : decode cX4_setCoil 20 = .ok (.ireturn, 1) := dk_172 (dk_at dksX4_setCoil_0 20 rfl rfl)
theorem dX4_setCoil_21 : decode cX4_setCoil 21 = .ok (.aload_n 0, 1) := dk_42 (dk_at dksX4_setCoil_0 21 rfl rfl)
theorem dX4_setCoil_22 : decode cX4_setCoil 22 = .ok (.invokevirtual 262, 3) := dk_182 1 6 (dk_at dksX4_setCoil_1 0 rfl rfl)
theorem dX4_setCoil_25 : decode cX4_setCoil 25 = .ok (.aload_n 0, 1) := dk_42 (dk_at dksX4_setCoil_1 3 rfl rfl)
theorem dX4_setCoil_26 : decode cX4_setCoil 26 = .ok (.getfield 9, 3) := dk_180 0 9 (dk_at dksX4_setCoil_1 4 rfl rfl)
theorem dX4_setCoil_29 : decode cX4_setCoil 29 = .ok (.iconst 1, 1) := dk_4 (dk_at dksX4_setCoil_1 7 rfl rfl)
theorem dX4_setCoil_30 : decode cX4_setCoil 30 = .ok (.iaload, 1) := dk_46 (dk_at dksX4_setCoil_1 8 rfl rfl)
theorem dX4_setCoil_31 : decode cX4_setCoil 31 = .ok (.istore_n 2, 1) := dk_61 (dk_at dksX4_setCoil_1 9 rfl rfl)
theorem dX4_setCoil_32 : decode cX4_setCoil 32 = .ok (.aload_n 0, 1) := dk_42 (dk_at dksX4_setCoil_1 10 rfl rfl)
theorem dX4_setCoil_33 : decode cX4_setCoil 33 = .ok (.iconst 1, 1) := dk_4 (dk_at dksX4_setCoil_1 11 rfl rfl)
theorem dX4_setCoil_34 : decode cX4_setCoil 34 = .ok (.iload_n 2, 1) := dk_28 (dk_at dksX4_setCoil_1 12 rfl rfl)
theorem dX4_setCoil_35 : decode cX4_setCoil 35 = .ok (.invokestatic 276, 3) := dk_184 1 20 (dk_at dksX4_setCoil_1 13 rfl rfl)
theorem dX4_setCoil_38 : decode cX4_setCoil 38 = .ok (.iload_n 1, 1) := dk_27 (dk_at dksX4_setCoil_1 16 rfl rfl)
theorem dX4_setCoil_39 : decode cX4_setCoil 39 = .ok (.iload_n 2, 1) := dk_28 (dk_at dksX4_setCoil_1 17 rfl rfl)
theorem dX4_setCoil_40 : decode cX4_setCoil 40 = .ok (.invokestatic 271, 3) := dk_184 1 15 (dk_at dksX4_setCoil_1 18 rfl rfl)
theorem dX4_setCoil_43 : decode cX4_setCoil 43 = .ok (.invokestatic 273, 3) := dk_184 1 17 (dk_at dksX4_setCoil_1 21 rfl rfl)
theorem dX4_setCoil_46 : decode cX4_setCoil 46 = .ok (.invokevirtual 265, 3) := dk_182 1 9 (dk_at dksX4_setCoil_2 0 rfl rfl)
theorem dX4_setCoil_49 : decode cX4_setCoil 49 = .ok (.iload_n 2, 1) := dk_28 (dk_at dksX4_setCoil_2 3 rfl rfl)
theorem dX4_setCoil_50 : decode cX4_setCoil 50 = .ok (.invokestatic 269, 3) := dk_184 1 13 (dk_at dksX4_setCoil_2 4 rfl rfl)
theorem dX4_setCoil_53 : decode cX4_setCoil 53 = .ok (.ireturn, 1) := dk_172 (dk_at dksX4_setCoil_2 7 rfl rfl)
abbrev cX4_setCapacitor : ByteArray := prog_21_method_49_code
def yX4_setCapacitor : MethodName := ⟨RX4, "setCapacitor", "(I)I"⟩
def dkwX4_setCapacitor_2 : List UInt8 := [182, 1, 9, 28, 184, 1, 15, 172]
abbrev dktX4_setCapacitor_2 : List UInt8 := dkwX4_setCapacitor_2 ++ []
def dkwX4_setCapacitor_1 : List UInt8 := [182, 1, 6, 42, 180, 0, 9, 4, 46, 61, 42, 4, 28, 184, 1, 20, 28, 184, 1, 13, 27, 184, 1, 17]
abbrev dktX4_setCapacitor_1 : List UInt8 := dkwX4_setCapacitor_1 ++ dktX4_setCapacitor_2
def dkwX4_setCapacitor_0 : List UInt8 := [42, 180, 0, 194, 153, 0, 15, 27, 133, 9, 20, 1, 4, 184, 0, 75, 154, 0, 5, 2, 172, 42]
abbrev dktX4_setCapacitor_0 : List UInt8 := dkwX4_setCapacitor_0 ++ dktX4_setCapacitor_1
theorem dksX4_setCapacitor_0 : cX4_setCapacitor.data.toList.drop 0 = dktX4_setCapacitor_0 := by decide +kernel
theorem dksX4_setCapacitor_1 : cX4_setCapacitor.data.toList.drop 22 = dktX4_setCapacitor_1 := dk_seg dksX4_setCapacitor_0 22 rfl rfl
theorem dksX4_setCapacitor_2 : cX4_setCapacitor.data.toList.drop 46 = dktX4_setCapacitor_2 := dk_seg dksX4_setCapacitor_1 24 rfl rfl
theorem dX4_setCapacitor_0 : decode cX4_setCapacitor 0 = .ok (.aload_n 0, 1) := dk_42 (dk_at dksX4_setCapacitor_0 0 rfl rfl)
theorem dX4_setCapacitor_1 : decode cX4_setCapacitor 1 = .ok (.getfield 194, 3) := dk_180 0 194 (dk_at dksX4_setCapacitor_0 1 rfl rfl)
theorem dX4_setCapacitor_4 : decode cX4_setCapacitor 4 = .ok (.ifCond .eq 15, 3) := dk_153 0 15 (dk_at dksX4_setCapacitor_0 4 rfl rfl)
theorem dX4_setCapacitor_7 : decode cX4_setCapacitor 7 = .ok (.iload_n 1, 1) := dk_27 (dk_at dksX4_setCapacitor_0 7 rfl rfl)
theorem dX4_setCapacitor_8 : decode cX4_setCapacitor 8 = .ok (.i2l, 1) := dk_133 (dk_at dksX4_setCapacitor_0 8 rfl rfl)
theorem dX4_setCapacitor_9 : decode cX4_setCapacitor 9 = .ok (.lconst 0, 1) := dk_9 (dk_at dksX4_setCapacitor_0 9 rfl rfl)
theorem dX4_setCapacitor_10 : decode cX4_setCapacitor 10 = .ok (.ldc2_w 260, 3) := dk_20 1 4 (dk_at dksX4_setCapacitor_0 10 rfl rfl)
theorem dX4_setCapacitor_13 : decode cX4_setCapacitor 13 = .ok (.invokestatic 75, 3) := dk_184 0 75 (dk_at dksX4_setCapacitor_0 13 rfl rfl)
theorem dX4_setCapacitor_16 : decode cX4_setCapacitor 16 = .ok (.ifCond .ne 5, 3) := dk_154 0 5 (dk_at dksX4_setCapacitor_0 16 rfl rfl)
theorem dX4_setCapacitor_19 : decode cX4_setCapacitor 19 = .ok (.iconst (-1), 1) := dk_2 (dk_at dksX4_setCapacitor_0 19 rfl rfl)
theorem dX4_setCapacitor_20 : decode cX4_setCapacitor 20 = .ok (.ireturn, 1) := dk_172 (dk_at dksX4_setCapacitor_0 20 rfl rfl)
theorem dX4_setCapacitor_21 : decode cX4_setCapacitor 21 = .ok (.aload_n 0, 1) := dk_42 (dk_at dksX4_setCapacitor_0 21 rfl rfl)
theorem dX4_setCapacitor_22 : decode cX4_setCapacitor 22 = .ok (.invokevirtual 262, 3) := dk_182 1 6 (dk_at dksX4_setCapacitor_1 0 rfl rfl)
theorem dX4_setCapacitor_25 : decode cX4_setCapacitor 25 = .ok (.aload_n 0, 1) := dk_42 (dk_at dksX4_setCapacitor_1 3 rfl rfl)
theorem dX4_setCapacitor_26 : decode cX4_setCapacitor 26 = .ok (.getfield 9, 3) := dk_180 0 9 (dk_at dksX4_setCapacitor_1 4 rfl rfl)
theorem dX4_setCapacitor_29 : decode cX4_setCapacitor 29 = .ok (.iconst 1, 1) := dk_4 (dk_at dksX4_setCapacitor_1 7 rfl rfl)
theorem dX4_setCapacitor_30 : decode cX4_setCapacitor 30 = .ok (.iaload, 1) := dk_46 (dk_at dksX4_setCapacitor_1 8 rfl rfl)
theorem dX4_setCapacitor_31 : decode cX4_setCapacitor 31 = .ok (.istore_n 2, 1) := dk_61 (dk_at dksX4_setCapacitor_1 9 rfl rfl)
theorem dX4_setCapacitor_32 : decode cX4_setCapacitor 32 = .ok (.aload_n 0, 1) := dk_42 (dk_at dksX4_setCapacitor_1 10 rfl rfl)
theorem dX4_setCapacitor_33 : decode cX4_setCapacitor 33 = .ok (.iconst 1, 1) := dk_4 (dk_at dksX4_setCapacitor_1 11 rfl rfl)
theorem dX4_setCapacitor_34 : decode cX4_setCapacitor 34 = .ok (.iload_n 2, 1) := dk_28 (dk_at dksX4_setCapacitor_1 12 rfl rfl)
theorem dX4_setCapacitor_35 : decode cX4_setCapacitor 35 = .ok (.invokestatic 276, 3) := dk_184 1 20 (dk_at dksX4_setCapacitor_1 13 rfl rfl)
theorem dX4_setCapacitor_38 : decode cX4_setCapacitor 38 = .ok (.iload_n 2, 1) := dk_28 (dk_at dksX4_setCapacitor_1 16 rfl rfl)
theorem dX4_setCapacitor_39 : decode cX4_setCapacitor 39 = .ok (.invokestatic 269, 3) := dk_184 1 13 (dk_at dksX4_setCapacitor_1 17 rfl rfl)
theorem dX4_setCapacitor_42 : decode cX4_setCapacitor 42 = .ok (.iload_n 1, 1) := dk_27 (dk_at dksX4_setCapacitor_1 20 rfl rfl)
theorem dX4_setCapacitor_43 : decode cX4_setCapacitor 43 = .ok (.invokestatic 273, 3) := dk_184 1 17 (dk_at dksX4_setCapacitor_1 21 rfl rfl)
theorem dX4_setCapacitor_46 : decode cX4_setCapacitor 46 = .ok (.invokevirtual 265, 3) := dk_182 1 9 (dk_at dksX4_setCapacitor_2 0 rfl rfl)
theorem dX4_setCapacitor_49 : decode cX4_setCapacitor 49 = .ok (.iload_n 2, 1) := dk_28 (dk_at dksX4_setCapacitor_2 3 rfl rfl)
theorem dX4_setCapacitor_50 : decode cX4_setCapacitor 50 = .ok (.invokestatic 271, 3) := dk_184 1 15 (dk_at dksX4_setCapacitor_2 4 rfl rfl)
theorem dX4_setCapacitor_53 : decode cX4_setCapacitor 53 = .ok (.ireturn, 1) := dk_172 (dk_at dksX4_setCapacitor_2 7 rfl rfl)
abbrev cX4_frequency : ByteArray := prog_21_method_50_code
def yX4_frequency : MethodName := ⟨RX4, "frequency", "()I"⟩
def dkwX4_frequency_0 : List UInt8 := [42, 180, 0, 194, 153, 0, 12, 42, 180, 0, 9, 3, 46, 167, 0, 4, 2, 172]
abbrev dktX4_frequency_0 : List UInt8 := dkwX4_frequency_0 ++ []
theorem dksX4_frequency_0 : cX4_frequency.data.toList.drop 0 = dktX4_frequency_0 := by decide +kernel
theorem dX4_frequency_0 : decode cX4_frequency 0 = .ok (.aload_n 0, 1) := dk_42 (dk_at dksX4_frequency_0 0 rfl rfl)
theorem dX4_frequency_1 : decode cX4_frequency 1 = .ok (.getfield 194, 3) := dk_180 0 194 (dk_at dksX4_frequency_0 1 rfl rfl)
theorem dX4_frequency_4 : decode cX4_frequency 4 = .ok (.ifCond .eq 12, 3) := dk_153 0 12 (dk_at dksX4_frequency_0 4 rfl rfl)
theorem dX4_frequency_7 : decode cX4_frequency 7 = .ok (.aload_n 0, 1) := dk_42 (dk_at dksX4_frequency_0 7 rfl rfl)
theorem dX4_frequency_8 : decode cX4_frequency 8 = .ok (.getfield 9, 3) := dk_180 0 9 (dk_at dksX4_frequency_0 8 rfl rfl)
theorem dX4_frequency_11 : decode cX4_frequency 11 = .ok (.iconst 0, 1) := dk_3 (dk_at dksX4_frequency_0 11 rfl rfl)
theorem dX4_frequency_12 : decode cX4_frequency 12 = .ok (.iaload, 1) := dk_46 (dk_at dksX4_frequency_0 12 rfl rfl)
theorem dX4_frequency_13 : decode cX4_frequency 13 = .ok (.goto 4, 3) := dk_167 0 4 (dk_at dksX4_frequency_0 13 rfl rfl)
theorem dX4_frequency_16 : decode cX4_frequency 16 = .ok (.iconst (-1), 1) := dk_2 (dk_at dksX4_frequency_0 16 rfl rfl)
theorem dX4_frequency_17 : decode cX4_frequency 17 = .ok (.ireturn, 1) := dk_172 (dk_at dksX4_frequency_0 17 rfl rfl)
abbrev cX4_settings : ByteArray := prog_21_method_51_code
def yX4_settings : MethodName := ⟨RX4, "settings", "()I"⟩
def dkwX4_settings_0 : List UInt8 := [42, 180, 0, 194, 153, 0, 12, 42, 180, 0, 9, 4, 46, 167, 0, 4, 2, 172]
abbrev dktX4_settings_0 : List UInt8 := dkwX4_settings_0 ++ []
theorem dksX4_settings_0 : cX4_settings.data.toList.drop 0 = dktX4_settings_0 := by decide +kernel
theorem dX4_settings_0 : decode cX4_settings 0 = .ok (.aload_n 0, 1) := dk_42 (dk_at dksX4_settings_0 0 rfl rfl)
theorem dX4_settings_1 : decode cX4_settings 1 = .ok (.getfield 194, 3) := dk_180 0 194 (dk_at dksX4_settings_0 1 rfl rfl)
theorem dX4_settings_4 : decode cX4_settings 4 = .ok (.ifCond .eq 12, 3) := dk_153 0 12 (dk_at dksX4_settings_0 4 rfl rfl)
theorem dX4_settings_7 : decode cX4_settings 7 = .ok (.aload_n 0, 1) := dk_42 (dk_at dksX4_settings_0 7 rfl rfl)
theorem dX4_settings_8 : decode cX4_settings 8 = .ok (.getfield 9, 3) := dk_180 0 9 (dk_at dksX4_settings_0 8 rfl rfl)
theorem dX4_settings_11 : decode cX4_settings 11 = .ok (.iconst 1, 1) := dk_4 (dk_at dksX4_settings_0 11 rfl rfl)
theorem dX4_settings_12 : decode cX4_settings 12 = .ok (.iaload, 1) := dk_46 (dk_at dksX4_settings_0 12 rfl rfl)
theorem dX4_settings_13 : decode cX4_settings 13 = .ok (.goto 4, 3) := dk_167 0 4 (dk_at dksX4_settings_0 13 rfl rfl)
theorem dX4_settings_16 : decode cX4_settings 16 = .ok (.iconst (-1), 1) := dk_2 (dk_at dksX4_settings_0 16 rfl rfl)
theorem dX4_settings_17 : decode cX4_settings 17 = .ok (.ireturn, 1) := dk_172 (dk_at dksX4_settings_0 17 rfl rfl)
abbrev cX4_relaysTo : ByteArray := prog_21_method_52_code
def yX4_relaysTo : MethodName := ⟨RX4, "relaysTo", "(III)I"⟩
def dkwX4_relaysTo_2 : List UInt8 := [21, 4, 21, 6, 122, 4, 126, 96, 54, 5, 132, 6, 1, 167, 255, 234, 21, 5, 172]
abbrev dktX4_relaysTo_2 : List UInt8 := dkwX4_relaysTo_2 ++ []
def dkwX4_relaysTo_1 : List UInt8 := [42, 180, 0, 9, 4, 46, 130, 54, 4, 3, 54, 5, 3, 54, 6, 21, 6, 16, 13, 162, 0, 21, 21, 5]
abbrev dktX4_relaysTo_1 : List UInt8 := dkwX4_relaysTo_1 ++ dktX4_relaysTo_2
def dkwX4_relaysTo_0 : List UInt8 := [42, 180, 0, 194, 153, 0, 12, 27, 28, 29, 184, 1, 23, 154, 0, 5, 2, 172, 27, 28, 29, 184, 1, 17]
abbrev dktX4_relaysTo_0 : List UInt8 := dkwX4_relaysTo_0 ++ dktX4_relaysTo_1
theorem dksX4_relaysTo_0 : cX4_relaysTo.data.toList.drop 0 = dktX4_relaysTo_0 := by decide +kernel
theorem dksX4_relaysTo_1 : cX4_relaysTo.data.toList.drop 24 = dktX4_relaysTo_1 := dk_seg dksX4_relaysTo_0 24 rfl rfl
theorem dksX4_relaysTo_2 : cX4_relaysTo.data.toList.drop 48 = dktX4_relaysTo_2 := dk_seg dksX4_relaysTo_1 24 rfl rfl
theorem dX4_relaysTo_0 : decode cX4_relaysTo 0 = .ok (.aload_n 0, 1) := dk_42 (dk_at dksX4_relaysTo_0 0 rfl rfl)
theorem dX4_relaysTo_1 : decode cX4_relaysTo 1 = .ok (.getfield 194, 3) := dk_180 0 194 (dk_at dksX4_relaysTo_0 1 rfl rfl)
theorem dX4_relaysTo_4 : decode cX4_relaysTo 4 = .ok (.ifCond .eq 12, 3) := dk_153 0 12 (dk_at dksX4_relaysTo_0 4 rfl rfl)
theorem dX4_relaysTo_7 : decode cX4_relaysTo 7 = .ok (.iload_n 1, 1) := dk_27 (dk_at dksX4_relaysTo_0 7 rfl rfl)
theorem dX4_relaysTo_8 : decode cX4_relaysTo 8 = .ok (.iload_n 2, 1) := dk_28 (dk_at dksX4_relaysTo_0 8 rfl rfl)
theorem dX4_relaysTo_9 : decode cX4_relaysTo 9 = .ok (.iload_n 3, 1) := dk_29 (dk_at dksX4_relaysTo_0 9 rfl rfl)
theorem dX4_relaysTo_10 : decode cX4_relaysTo 10 = .ok (.invokestatic 279, 3) := dk_184 1 23 (dk_at dksX4_relaysTo_0 10 rfl rfl)
theorem dX4_relaysTo_13 : decode cX4_relaysTo 13 = .ok (.ifCond .ne 5, 3) := dk_154 0 5 (dk_at dksX4_relaysTo_0 13 rfl rfl)
theorem dX4_relaysTo_16 : decode cX4_relaysTo 16 = .ok (.iconst (-1), 1) := dk_2 (dk_at dksX4_relaysTo_0 16 rfl rfl)
theorem dX4_relaysTo_17 : decode cX4_relaysTo 17 = .ok (.ireturn, 1) := dk_172 (dk_at dksX4_relaysTo_0 17 rfl rfl)
theorem dX4_relaysTo_18 : decode cX4_relaysTo 18 = .ok (.iload_n 1, 1) := dk_27 (dk_at dksX4_relaysTo_0 18 rfl rfl)
theorem dX4_relaysTo_19 : decode cX4_relaysTo 19 = .ok (.iload_n 2, 1) := dk_28 (dk_at dksX4_relaysTo_0 19 rfl rfl)
theorem dX4_relaysTo_20 : decode cX4_relaysTo 20 = .ok (.iload_n 3, 1) := dk_29 (dk_at dksX4_relaysTo_0 20 rfl rfl)
theorem dX4_relaysTo_21 : decode cX4_relaysTo 21 = .ok (.invokestatic 273, 3) := dk_184 1 17 (dk_at dksX4_relaysTo_0 21 rfl rfl)
theorem dX4_relaysTo_24 : decode cX4_relaysTo 24 = .ok (.aload_n 0, 1) := dk_42 (dk_at dksX4_relaysTo_1 0 rfl rfl)
theorem dX4_relaysTo_25 : decode cX4_relaysTo 25 = .ok (.getfield 9, 3) := dk_180 0 9 (dk_at dksX4_relaysTo_1 1 rfl rfl)
theorem dX4_relaysTo_28 : decode cX4_relaysTo 28 = .ok (.iconst 1, 1) := dk_4 (dk_at dksX4_relaysTo_1 4 rfl rfl)
theorem dX4_relaysTo_29 : decode cX4_relaysTo 29 = .ok (.iaload, 1) := dk_46 (dk_at dksX4_relaysTo_1 5 rfl rfl)
theorem dX4_relaysTo_30 : decode cX4_relaysTo 30 = .ok (.ixor, 1) := dk_130 (dk_at dksX4_relaysTo_1 6 rfl rfl)
theorem dX4_relaysTo_31 : decode cX4_relaysTo 31 = .ok (.istore 4, 2) := dk_54 4 (dk_at dksX4_relaysTo_1 7 rfl rfl)
theorem dX4_relaysTo_33 : decode cX4_relaysTo 33 = .ok (.iconst 0, 1) := dk_3 (dk_at dksX4_relaysTo_1 9 rfl rfl)
theorem dX4_relaysTo_34 : decode cX4_relaysTo 34 = .ok (.istore 5, 2) := dk_54 5 (dk_at dksX4_relaysTo_1 10 rfl rfl)
theorem dX4_relaysTo_36 : decode cX4_relaysTo 36 = .ok (.iconst 0, 1) := dk_3 (dk_at dksX4_relaysTo_1 12 rfl rfl)
theorem dX4_relaysTo_37 : decode cX4_relaysTo 37 = .ok (.istore 6, 2) := dk_54 6 (dk_at dksX4_relaysTo_1 13 rfl rfl)
theorem dX4_relaysTo_39 : decode cX4_relaysTo 39 = .ok (.iload 6, 2) := dk_21 6 (dk_at dksX4_relaysTo_1 15 rfl rfl)
theorem dX4_relaysTo_41 : decode cX4_relaysTo 41 = .ok (.bipush 13, 2) := dk_16 13 (dk_at dksX4_relaysTo_1 17 rfl rfl)
theorem dX4_relaysTo_43 : decode cX4_relaysTo 43 = .ok (.if_icmp .ge 21, 3) := dk_162 0 21 (dk_at dksX4_relaysTo_1 19 rfl rfl)
theorem dX4_relaysTo_46 : decode cX4_relaysTo 46 = .ok (.iload 5, 2) := dk_21 5 (dk_at dksX4_relaysTo_1 22 rfl rfl)
theorem dX4_relaysTo_48 : decode cX4_relaysTo 48 = .ok (.iload 4, 2) := dk_21 4 (dk_at dksX4_relaysTo_2 0 rfl rfl)
theorem dX4_relaysTo_50 : decode cX4_relaysTo 50 = .ok (.iload 6, 2) := dk_21 6 (dk_at dksX4_relaysTo_2 2 rfl rfl)
theorem dX4_relaysTo_52 : decode cX4_relaysTo 52 = .ok (.ishr, 1) := dk_122 (dk_at dksX4_relaysTo_2 4 rfl rfl)
theorem dX4_relaysTo_53 : decode cX4_relaysTo 53 = .ok (.iconst 1, 1) := dk_4 (dk_at dksX4_relaysTo_2 5 rfl rfl)
theorem dX4_relaysTo_54 : decode cX4_relaysTo 54 = .ok (.iand, 1) := dk_126 (dk_at dksX4_relaysTo_2 6 rfl rfl)
theorem dX4_relaysTo_55 : decode cX4_relaysTo 55 = .ok (.iadd, 1) := dk_96 (dk_at dksX4_relaysTo_2 7 rfl rfl)
theorem dX4_relaysTo_56 : decode cX4_relaysTo 56 = .ok (.istore 5, 2) := dk_54 5 (dk_at dksX4_relaysTo_2 8 rfl rfl)
theorem dX4_relaysTo_58 : decode cX4_relaysTo 58 = .ok (.iinc 6 1, 3) := dk_132 6 1 (dk_at dksX4_relaysTo_2 10 rfl rfl)
theorem dX4_relaysTo_61 : decode cX4_relaysTo 61 = .ok (.goto (-22), 3) := dk_167 255 234 (dk_at dksX4_relaysTo_2 13 rfl rfl)
theorem dX4_relaysTo_64 : decode cX4_relaysTo 64 = .ok (.iload 5, 2) := dk_21 5 (dk_at dksX4_relaysTo_2 16 rfl rfl)
theorem dX4_relaysTo_66 : decode cX4_relaysTo 66 = .ok (.ireturn, 1) := dk_172 (dk_at dksX4_relaysTo_2 18 rfl rfl)
abbrev cX4_areSettings : ByteArray := prog_21_method_42_code
def yX4_areSettings : MethodName := ⟨RX4, "areSettings", "(III)Z"⟩
def dkwX4_areSettings_1 : List UInt8 := [9, 20, 1, 4, 184, 0, 75, 153, 0, 7, 4, 167, 0, 4, 3, 172]
abbrev dktX4_areSettings_1 : List UInt8 := dkwX4_areSettings_1 ++ []
def dkwX4_areSettings_0 : List UInt8 := [26, 133, 9, 10, 184, 0, 75, 153, 0, 31, 27, 133, 9, 20, 1, 4, 184, 0, 75, 153, 0, 19, 28, 133]
abbrev dktX4_areSettings_0 : List UInt8 := dkwX4_areSettings_0 ++ dktX4_areSettings_1
theorem dksX4_areSettings_0 : cX4_areSettings.data.toList.drop 0 = dktX4_areSettings_0 := by decide +kernel
theorem dksX4_areSettings_1 : cX4_areSettings.data.toList.drop 24 = dktX4_areSettings_1 := dk_seg dksX4_areSettings_0 24 rfl rfl
theorem dX4_areSettings_0 : decode cX4_areSettings 0 = .ok (.iload_n 0, 1) := dk_26 (dk_at dksX4_areSettings_0 0 rfl rfl)
theorem dX4_areSettings_1 : decode cX4_areSettings 1 = .ok (.i2l, 1) := dk_133 (dk_at dksX4_areSettings_0 1 rfl rfl)
theorem dX4_areSettings_2 : decode cX4_areSettings 2 = .ok (.lconst 0, 1) := dk_9 (dk_at dksX4_areSettings_0 2 rfl rfl)
theorem dX4_areSettings_3 : decode cX4_areSettings 3 = .ok (.lconst 1, 1) := dk_10 (dk_at dksX4_areSettings_0 3 rfl rfl)
theorem dX4_areSettings_4 : decode cX4_areSettings 4 = .ok (.invokestatic 75, 3) := dk_184 0 75 (dk_at dksX4_areSettings_0 4 rfl rfl)
theorem dX4_areSettings_7 : decode cX4_areSettings 7 = .ok (.ifCond .eq 31, 3) := dk_153 0 31 (dk_at dksX4_areSettings_0 7 rfl rfl)
theorem dX4_areSettings_10 : decode cX4_areSettings 10 = .ok (.iload_n 1, 1) := dk_27 (dk_at dksX4_areSettings_0 10 rfl rfl)
theorem dX4_areSettings_11 : decode cX4_areSettings 11 = .ok (.i2l, 1) := dk_133 (dk_at dksX4_areSettings_0 11 rfl rfl)
theorem dX4_areSettings_12 : decode cX4_areSettings 12 = .ok (.lconst 0, 1) := dk_9 (dk_at dksX4_areSettings_0 12 rfl rfl)
theorem dX4_areSettings_13 : decode cX4_areSettings 13 = .ok (.ldc2_w 260, 3) := dk_20 1 4 (dk_at dksX4_areSettings_0 13 rfl rfl)
theorem dX4_areSettings_16 : decode cX4_areSettings 16 = .ok (.invokestatic 75, 3) := dk_184 0 75 (dk_at dksX4_areSettings_0 16 rfl rfl)
theorem dX4_areSettings_19 : decode cX4_areSettings 19 = .ok (.ifCond .eq 19, 3) := dk_153 0 19 (dk_at dksX4_areSettings_0 19 rfl rfl)
theorem dX4_areSettings_22 : decode cX4_areSettings 22 = .ok (.iload_n 2, 1) := dk_28 (dk_at dksX4_areSettings_0 22 rfl rfl)
theorem dX4_areSettings_23 : decode cX4_areSettings 23 = .ok (.i2l, 1) := dk_133 (dk_at dksX4_areSettings_0 23 rfl rfl)
theorem dX4_areSettings_24 : decode cX4_areSettings 24 = .ok (.lconst 0, 1) := dk_9 (dk_at dksX4_areSettings_1 0 rfl rfl)
theorem dX4_areSettings_25 : decode cX4_areSettings 25 = .ok (.ldc2_w 260, 3) := dk_20 1 4 (dk_at dksX4_areSettings_1 1 rfl rfl)
theorem dX4_areSettings_28 : decode cX4_areSettings 28 = .ok (.invokestatic 75, 3) := dk_184 0 75 (dk_at dksX4_areSettings_1 4 rfl rfl)
theorem dX4_areSettings_31 : decode cX4_areSettings 31 = .ok (.ifCond .eq 7, 3) := dk_153 0 7 (dk_at dksX4_areSettings_1 7 rfl rfl)
theorem dX4_areSettings_34 : decode cX4_areSettings 34 = .ok (.iconst 1, 1) := dk_4 (dk_at dksX4_areSettings_1 10 rfl rfl)
theorem dX4_areSettings_35 : decode cX4_areSettings 35 = .ok (.goto 4, 3) := dk_167 0 4 (dk_at dksX4_areSettings_1 11 rfl rfl)
theorem dX4_areSettings_38 : decode cX4_areSettings 38 = .ok (.iconst 0, 1) := dk_3 (dk_at dksX4_areSettings_1 14 rfl rfl)
theorem dX4_areSettings_39 : decode cX4_areSettings 39 = .ok (.ireturn, 1) := dk_172 (dk_at dksX4_areSettings_1 15 rfl rfl)
abbrev cX4_inputResistance : ByteArray := prog_21_method_56_code
def yX4_inputResistance : MethodName := ⟨RX4, "inputResistance", "()J"⟩
def dkwX4_inputResistance_1 : List UInt8 := [182, 1, 65, 42, 180, 1, 35, 173]
abbrev dktX4_inputResistance_1 : List UInt8 := dkwX4_inputResistance_1 ++ []
def dkwX4_inputResistance_0 : List UInt8 := [42, 180, 0, 194, 154, 0, 7, 20, 0, 251, 173, 42, 42, 180, 0, 9, 4, 46, 42, 180, 0, 9, 3, 46]
abbrev dktX4_inputResistance_0 : List UInt8 := dkwX4_inputResistance_0 ++ dktX4_inputResistance_1
theorem dksX4_inputResistance_0 : cX4_inputResistance.data.toList.drop 0 = dktX4_inputResistance_0 := by decide +kernel
theorem dksX4_inputResistance_1 : cX4_inputResistance.data.toList.drop 24 = dktX4_inputResistance_1 := dk_seg dksX4_inputResistance_0 24 rfl rfl
theorem dX4_inputResistance_0 : decode cX4_inputResistance 0 = .ok (.aload_n 0, 1) := dk_42 (dk_at dksX4_inputResistance_0 0 rfl rfl)
theorem dX4_inputResistance_1 : decode cX4_inputResistance 1 = .ok (.getfield 194, 3) := dk_180 0 194 (dk_at dksX4_inputResistance_0 1 rfl rfl)
theorem dX4_inputResistance_4 : decode cX4_inputResistance 4 = .ok (.ifCond .ne 7, 3) := dk_154 0 7 (dk_at dksX4_inputResistance_0 4 rfl rfl)
theorem dX4_inputResistance_7 : decode cX4_inputResistance 7 = .ok (.ldc2_w 251, 3) := dk_20 0 251 (dk_at dksX4_inputResistance_0 7 rfl rfl)
theorem dX4_inputResistance_10 : decode cX4_inputResistance 10 = .ok (.lreturn, 1) := dk_173 (dk_at dksX4_inputResistance_0 10 rfl rfl)
theorem dX4_inputResistance_11 : decode cX4_inputResistance 11 = .ok (.aload_n 0, 1) := dk_42 (dk_at dksX4_inputResistance_0 11 rfl rfl)
theorem dX4_inputResistance_12 : decode cX4_inputResistance 12 = .ok (.aload_n 0, 1) := dk_42 (dk_at dksX4_inputResistance_0 12 rfl rfl)
theorem dX4_inputResistance_13 : decode cX4_inputResistance 13 = .ok (.getfield 9, 3) := dk_180 0 9 (dk_at dksX4_inputResistance_0 13 rfl rfl)
theorem dX4_inputResistance_16 : decode cX4_inputResistance 16 = .ok (.iconst 1, 1) := dk_4 (dk_at dksX4_inputResistance_0 16 rfl rfl)
theorem dX4_inputResistance_17 : decode cX4_inputResistance 17 = .ok (.iaload, 1) := dk_46 (dk_at dksX4_inputResistance_0 17 rfl rfl)
theorem dX4_inputResistance_18 : decode cX4_inputResistance 18 = .ok (.aload_n 0, 1) := dk_42 (dk_at dksX4_inputResistance_0 18 rfl rfl)
theorem dX4_inputResistance_19 : decode cX4_inputResistance 19 = .ok (.getfield 9, 3) := dk_180 0 9 (dk_at dksX4_inputResistance_0 19 rfl rfl)
theorem dX4_inputResistance_22 : decode cX4_inputResistance 22 = .ok (.iconst 0, 1) := dk_3 (dk_at dksX4_inputResistance_0 22 rfl rfl)
theorem dX4_inputResistance_23 : decode cX4_inputResistance 23 = .ok (.iaload, 1) := dk_46 (dk_at dksX4_inputResistance_0 23 rfl rfl)
theorem dX4_inputResistance_24 : decode cX4_inputResistance 24 = .ok (.invokevirtual 321, 3) := dk_182 1 65 (dk_at dksX4_inputResistance_1 0 rfl rfl)
theorem dX4_inputResistance_27 : decode cX4_inputResistance 27 = .ok (.aload_n 0, 1) := dk_42 (dk_at dksX4_inputResistance_1 3 rfl rfl)
theorem dX4_inputResistance_28 : decode cX4_inputResistance 28 = .ok (.getfield 291, 3) := dk_180 1 35 (dk_at dksX4_inputResistance_1 4 rfl rfl)
theorem dX4_inputResistance_31 : decode cX4_inputResistance 31 = .ok (.lreturn, 1) := dk_173 (dk_at dksX4_inputResistance_1 7 rfl rfl)
abbrev cX4_work : ByteArray := prog_21_method_55_code
def yX4_work : MethodName := ⟨RX4, "work", "(II)V"⟩
def dkwX4_work_3 : List UInt8 := [180, 1, 38, 181, 1, 59, 42, 27, 28, 182, 1, 62, 42, 27, 28, 182, 1, 53, 177]
abbrev dktX4_work_3 : List UInt8 := dkwX4_work_3 ++ []
def dkwX4_work_2 : List UInt8 := [181, 1, 59, 42, 27, 28, 182, 1, 62, 167, 0, 31, 42, 42, 180, 1, 35, 181, 1, 56, 42, 42]
abbrev dktX4_work_2 : List UInt8 := dkwX4_work_2 ++ dktX4_work_3
def dkwX4_work_1 : List UInt8 := [154, 0, 34, 42, 27, 28, 182, 1, 53, 42, 42, 180, 1, 35, 181, 1, 56, 42, 42, 180, 1, 38]
abbrev dktX4_work_1 : List UInt8 := dkwX4_work_1 ++ dktX4_work_2
def dkwX4_work_0 : List UInt8 := [42, 42, 28, 182, 0, 242, 181, 1, 35, 42, 42, 28, 182, 0, 248, 181, 1, 38, 27, 184, 1, 20]
abbrev dktX4_work_0 : List UInt8 := dkwX4_work_0 ++ dktX4_work_1
theorem dksX4_work_0 : cX4_work.data.toList.drop 0 = dktX4_work_0 := by decide +kernel
theorem dksX4_work_1 : cX4_work.data.toList.drop 22 = dktX4_work_1 := dk_seg dksX4_work_0 22 rfl rfl
theorem dksX4_work_2 : cX4_work.data.toList.drop 44 = dktX4_work_2 := dk_seg dksX4_work_1 22 rfl rfl
theorem dksX4_work_3 : cX4_work.data.toList.drop 66 = dktX4_work_3 := dk_seg dksX4_work_2 22 rfl rfl
theorem dX4_work_0 : decode cX4_work 0 = .ok (.aload_n 0, 1) := dk_42 (dk_at dksX4_work_0 0 rfl rfl)
theorem dX4_work_1 : decode cX4_work 1 = .ok (.aload_n 0, 1) := dk_42 (dk_at dksX4_work_0 1 rfl rfl)
theorem dX4_work_2 : decode cX4_work 2 = .ok (.iload_n 2, 1) := dk_28 (dk_at dksX4_work_0 2 rfl rfl)
theorem dX4_work_3 : decode cX4_work 3 = .ok (.invokevirtual 242, 3) := dk_182 0 242 (dk_at dksX4_work_0 3 rfl rfl)
theorem dX4_work_6 : decode cX4_work 6 = .ok (.putfield 291, 3) := dk_181 1 35 (dk_at dksX4_work_0 6 rfl rfl)
theorem dX4_work_9 : decode cX4_work 9 = .ok (.aload_n 0, 1) := dk_42 (dk_at dksX4_work_0 9 rfl rfl)
theorem dX4_work_10 : decode cX4_work 10 = .ok (.aload_n 0, 1) := dk_42 (dk_at dksX4_work_0 10 rfl rfl)
theorem dX4_work_11 : decode cX4_work 11 = .ok (.iload_n 2, 1) := dk_28 (dk_at dksX4_work_0 11 rfl rfl)
theorem dX4_work_12 : decode cX4_work 12 = .ok (.invokevirtual 248, 3) := dk_182 0 248 (dk_at dksX4_work_0 12 rfl rfl)
theorem dX4_work_15 : decode cX4_work 15 = .ok (.putfield 294, 3) := dk_181 1 38 (dk_at dksX4_work_0 15 rfl rfl)
theorem dX4_work_18 : decode cX4_work 18 = .ok (.iload_n 1, 1) := dk_27 (dk_at dksX4_work_0 18 rfl rfl)
theorem dX4_work_19 : decode cX4_work 19 = .ok (.invokestatic 276, 3) := dk_184 1 20 (dk_at dksX4_work_0 19 rfl rfl)
theorem dX4_work_22 : decode cX4_work 22 = .ok (.ifCond .ne 34, 3) := dk_154 0 34 (dk_at dksX4_work_1 0 rfl rfl)
theorem dX4_work_25 : decode cX4_work 25 = .ok (.aload_n 0, 1) := dk_42 (dk_at dksX4_work_1 3 rfl rfl)
theorem dX4_work_26 : decode cX4_work 26 = .ok (.iload_n 1, 1) := dk_27 (dk_at dksX4_work_1 4 rfl rfl)
theorem dX4_work_27 : decode cX4_work 27 = .ok (.iload_n 2, 1) := dk_28 (dk_at dksX4_work_1 5 rfl rfl)
theorem dX4_work_28 : decode cX4_work 28 = .ok (.invokevirtual 309, 3) := dk_182 1 53 (dk_at dksX4_work_1 6 rfl rfl)
theorem dX4_work_31 : decode cX4_work 31 = .ok (.aload_n 0, 1) := dk_42 (dk_at dksX4_work_1 9 rfl rfl)
theorem dX4_work_32 : decode cX4_work 32 = .ok (.aload_n 0, 1) := dk_42 (dk_at dksX4_work_1 10 rfl rfl)
theorem dX4_work_33 : decode cX4_work 33 = .ok (.getfield 291, 3) := dk_180 1 35 (dk_at dksX4_work_1 11 rfl rfl)
theorem dX4_work_36 : decode cX4_work 36 = .ok (.putfield 312, 3) := dk_181 1 56 (dk_at dksX4_work_1 14 rfl rfl)
theorem dX4_work_39 : decode cX4_work 39 = .ok (.aload_n 0, 1) := dk_42 (dk_at dksX4_work_1 17 rfl rfl)
theorem dX4_work_40 : decode cX4_work 40 = .ok (.aload_n 0, 1) := dk_42 (dk_at dksX4_work_1 18 rfl rfl)
theorem dX4_work_41 : decode cX4_work 41 = .ok (.getfield 294, 3) := dk_180 1 38 (dk_at dksX4_work_1 19 rfl rfl)
theorem dX4_work_44 : decode cX4_work 44 = .ok (.putfield 315, 3) := dk_181 1 59 (dk_at dksX4_work_2 0 rfl rfl)
theorem dX4_work_47 : decode cX4_work 47 = .ok (.aload_n 0, 1) := dk_42 (dk_at dksX4_work_2 3 rfl rfl)
theorem dX4_work_48 : decode cX4_work 48 = .ok (.iload_n 1, 1) := dk_27 (dk_at dksX4_work_2 4 rfl rfl)
theorem dX4_work_49 : decode cX4_work 49 = .ok (.iload_n 2, 1) := dk_28 (dk_at dksX4_work_2 5 rfl rfl)
theorem dX4_work_50 : decode cX4_work 50 = .ok (.invokevirtual 318, 3) := dk_182 1 62 (dk_at dksX4_work_2 6 rfl rfl)
theorem dX4_work_53 : decode cX4_work 53 = .ok (.goto 31, 3) := dk_167 0 31 (dk_at dksX4_work_2 9 rfl rfl)
theorem dX4_work_56 : decode cX4_work 56 = .ok (.aload_n 0, 1) := dk_42 (dk_at dksX4_work_2 12 rfl rfl)
theorem dX4_work_57 : decode cX4_work 57 = .ok (.aload_n 0, 1) := dk_42 (dk_at dksX4_work_2 13 rfl rfl)
theorem dX4_work_58 : decode cX4_work 58 = .ok (.getfield 291, 3) := dk_180 1 35 (dk_at dksX4_work_2 14 rfl rfl)
theorem dX4_work_61 : decode cX4_work 61 = .ok (.putfield 312, 3) := dk_181 1 56 (dk_at dksX4_work_2 17 rfl rfl)
theorem dX4_work_64 : decode cX4_work 64 = .ok (.aload_n 0, 1) := dk_42 (dk_at dksX4_work_2 20 rfl rfl)
theorem dX4_work_65 : decode cX4_work 65 = .ok (.aload_n 0, 1) := dk_42 (dk_at dksX4_work_2 21 rfl rfl)
theorem dX4_work_66 : decode cX4_work 66 = .ok (.getfield 294, 3) := dk_180 1 38 (dk_at dksX4_work_3 0 rfl rfl)
theorem dX4_work_69 : decode cX4_work 69 = .ok (.putfield 315, 3) := dk_181 1 59 (dk_at dksX4_work_3 3 rfl rfl)
theorem dX4_work_72 : decode cX4_work 72 = .ok (.aload_n 0, 1) := dk_42 (dk_at dksX4_work_3 6 rfl rfl)
theorem dX4_work_73 : decode cX4_work 73 = .ok (.iload_n 1, 1) := dk_27 (dk_at dksX4_work_3 7 rfl rfl)
theorem dX4_work_74 : decode cX4_work 74 = .ok (.iload_n 2, 1) := dk_28 (dk_at dksX4_work_3 8 rfl rfl)
theorem dX4_work_75 : decode cX4_work 75 = .ok (.invokevirtual 318, 3) := dk_182 1 62 (dk_at dksX4_work_3 9 rfl rfl)
theorem dX4_work_78 : decode cX4_work 78 = .ok (.aload_n 0, 1) := dk_42 (dk_at dksX4_work_3 12 rfl rfl)
theorem dX4_work_79 : decode cX4_work 79 = .ok (.iload_n 1, 1) := dk_27 (dk_at dksX4_work_3 13 rfl rfl)
theorem dX4_work_80 : decode cX4_work 80 = .ok (.iload_n 2, 1) := dk_28 (dk_at dksX4_work_3 14 rfl rfl)
theorem dX4_work_81 : decode cX4_work 81 = .ok (.invokevirtual 309, 3) := dk_182 1 53 (dk_at dksX4_work_3 15 rfl rfl)
theorem dX4_work_84 : decode cX4_work 84 = .ok (.return_, 1) := dk_177 (dk_at dksX4_work_3 18 rfl rfl)
abbrev cX4_addCapacitor : ByteArray := prog_21_method_54_code
def yX4_addCapacitor : MethodName := ⟨RX4, "addCapacitor", "(II)V"⟩
def dkwX4_addCapacitor_6 : List UInt8 := [181, 1, 38, 177]
abbrev dktX4_addCapacitor_6 : List UInt8 := dkwX4_addCapacitor_6 ++ []
def dkwX4_addCapacitor_5 : List UInt8 := [181, 1, 35, 42, 22, 7, 117, 20, 1, 41, 105, 22, 9, 109, 20, 1, 47, 20, 1, 45, 184, 1, 49]
abbrev dktX4_addCapacitor_5 : List UInt8 := dkwX4_addCapacitor_5 ++ dktX4_addCapacitor_6
def dkwX4_addCapacitor_4 : List UInt8 := [9, 181, 1, 38, 177, 42, 22, 5, 20, 1, 41, 105, 22, 9, 109, 20, 1, 47, 20, 1, 45, 184, 1, 49]
abbrev dktX4_addCapacitor_4 : List UInt8 := dkwX4_addCapacitor_4 ++ dktX4_addCapacitor_5
def dkwX4_addCapacitor_3 : List UInt8 := [105, 22, 7, 22, 7, 105, 97, 55, 9, 22, 9, 9, 148, 154, 0, 16, 42, 20, 1, 45, 181, 1, 35, 42]
abbrev dktX4_addCapacitor_3 : List UInt8 := dkwX4_addCapacitor_3 ++ dktX4_addCapacitor_4
def dkwX4_addCapacitor_2 : List UInt8 := [105, 42, 180, 0, 204, 133, 105, 27, 184, 1, 15, 133, 105, 20, 1, 43, 109, 97, 55, 7, 22, 5, 22, 5]
abbrev dktX4_addCapacitor_2 : List UInt8 := dkwX4_addCapacitor_2 ++ dktX4_addCapacitor_3
def dkwX4_addCapacitor_1 : List UInt8 := [20, 1, 41, 105, 33, 109, 55, 5, 42, 180, 1, 38, 117, 20, 1, 41, 105, 33, 109, 20, 1, 27, 28, 133]
abbrev dktX4_addCapacitor_1 : List UInt8 := dkwX4_addCapacitor_1 ++ dktX4_addCapacitor_2
def dkwX4_addCapacitor_0 : List UInt8 := [42, 180, 1, 35, 42, 180, 1, 35, 105, 42, 180, 1, 38, 42, 180, 1, 38, 105, 97, 66, 42, 180, 1, 35]
abbrev dktX4_addCapacitor_0 : List UInt8 := dkwX4_addCapacitor_0 ++ dktX4_addCapacitor_1
theorem dksX4_addCapacitor_0 : cX4_addCapacitor.data.toList.drop 0 = dktX4_addCapacitor_0 := by decide +kernel
theorem dksX4_addCapacitor_1 : cX4_addCapacitor.data.toList.drop 24 = dktX4_addCapacitor_1 := dk_seg dksX4_addCapacitor_0 24 rfl rfl
theorem dksX4_addCapacitor_2 : cX4_addCapacitor.data.toList.drop 48 = dktX4_addCapacitor_2 := dk_seg dksX4_addCapacitor_1 24 rfl rfl
theorem dksX4_addCapacitor_3 : cX4_addCapacitor.data.toList.drop 72 = dktX4_addCapacitor_3 := dk_seg dksX4_addCapacitor_2 24 rfl rfl
theorem dksX4_addCapacitor_4 : cX4_addCapacitor.data.toList.drop 96 = dktX4_addCapacitor_4 := dk_seg dksX4_addCapacitor_3 24 rfl rfl
theorem dksX4_addCapacitor_5 : cX4_addCapacitor.data.toList.drop 120 = dktX4_addCapacitor_5 := dk_seg dksX4_addCapacitor_4 24 rfl rfl
theorem dksX4_addCapacitor_6 : cX4_addCapacitor.data.toList.drop 143 = dktX4_addCapacitor_6 := dk_seg dksX4_addCapacitor_5 23 rfl rfl
theorem dX4_addCapacitor_0 : decode cX4_addCapacitor 0 = .ok (.aload_n 0, 1) := dk_42 (dk_at dksX4_addCapacitor_0 0 rfl rfl)
theorem dX4_addCapacitor_1 : decode cX4_addCapacitor 1 = .ok (.getfield 291, 3) := dk_180 1 35 (dk_at dksX4_addCapacitor_0 1 rfl rfl)
theorem dX4_addCapacitor_4 : decode cX4_addCapacitor 4 = .ok (.aload_n 0, 1) := dk_42 (dk_at dksX4_addCapacitor_0 4 rfl rfl)
theorem dX4_addCapacitor_5 : decode cX4_addCapacitor 5 = .ok (.getfield 291, 3) := dk_180 1 35 (dk_at dksX4_addCapacitor_0 5 rfl rfl)
theorem dX4_addCapacitor_8 : decode cX4_addCapacitor 8 = .ok (.lmul, 1) := dk_105 (dk_at dksX4_addCapacitor_0 8 rfl rfl)
theorem dX4_addCapacitor_9 : decode cX4_addCapacitor 9 = .ok (.aload_n 0, 1) := dk_42 (dk_at dksX4_addCapacitor_0 9 rfl rfl)
theorem dX4_addCapacitor_10 : decode cX4_addCapacitor 10 = .ok (.getfield 294, 3) := dk_180 1 38 (dk_at dksX4_addCapacitor_0 10 rfl rfl)
theorem dX4_addCapacitor_13 : decode cX4_addCapacitor 13 = .ok (.aload_n 0, 1) := dk_42 (dk_at dksX4_addCapacitor_0 13 rfl rfl)
theorem dX4_addCapacitor_14 : decode cX4_addCapacitor 14 = .ok (.getfield 294, 3) := dk_180 1 38 (dk_at dksX4_addCapacitor_0 14 rfl rfl)
theorem dX4_addCapacitor_17 : decode cX4_addCapacitor 17 = .ok (.lmul, 1) := dk_105 (dk_at dksX4_addCapacitor_0 17 rfl rfl)
theorem dX4_addCapacitor_18 : decode cX4_addCapacitor 18 = .ok (.ladd, 1) := dk_97 (dk_at dksX4_addCapacitor_0 18 rfl rfl)
theorem dX4_addCapacitor_19 : decode cX4_addCapacitor 19 = .ok (.lstore_n 3, 1) := dk_66 (dk_at dksX4_addCapacitor_0 19 rfl rfl)
theorem dX4_addCapacitor_20 : decode cX4_addCapacitor 20 = .ok (.aload_n 0, 1) := dk_42 (dk_at dksX4_addCapacitor_0 20 rfl rfl)
theorem dX4_addCapacitor_21 : decode cX4_addCapacitor 21 = .ok (.getfield 291, 3) := dk_180 1 35 (dk_at dksX4_addCapacitor_0 21 rfl rfl)
theorem dX4_addCapacitor_24 : decode cX4_addCapacitor 24 = .ok (.ldc2_w 297, 3) := dk_20 1 41 (dk_at dksX4_addCapacitor_1 0 rfl rfl)
theorem dX4_addCapacitor_27 : decode cX4_addCapacitor 27 = .ok (.lmul, 1) := dk_105 (dk_at dksX4_addCapacitor_1 3 rfl rfl)
theorem dX4_addCapacitor_28 : decode cX4_addCapacitor 28 = .ok (.lload_n 3, 1) := dk_33 (dk_at dksX4_addCapacitor_1 4 rfl rfl)
theorem dX4_addCapacitor_29 : decode cX4_addCapacitor 29 = .ok (.ldiv, 1) := dk_109 (dk_at dksX4_addCapacitor_1 5 rfl rfl)
theorem dX4_addCapacitor_30 : decode cX4_addCapacitor 30 = .ok (.lstore 5, 2) := dk_55 5 (dk_at dksX4_addCapacitor_1 6 rfl rfl)
theorem dX4_addCapacitor_32 : decode cX4_addCapacitor 32 = .ok (.aload_n 0, 1) := dk_42 (dk_at dksX4_addCapacitor_1 8 rfl rfl)
theorem dX4_addCapacitor_33 : decode cX4_addCapacitor 33 = .ok (.getfield 294, 3) := dk_180 1 38 (dk_at dksX4_addCapacitor_1 9 rfl rfl)
theorem dX4_addCapacitor_36 : decode cX4_addCapacitor 36 = .ok (.lneg, 1) := dk_117 (dk_at dksX4_addCapacitor_1 12 rfl rfl)
theorem dX4_addCapacitor_37 : decode cX4_addCapacitor 37 = .ok (.ldc2_w 297, 3) := dk_20 1 41 (dk_at dksX4_addCapacitor_1 13 rfl rfl)
theorem dX4_addCapacitor_40 : decode cX4_addCapacitor 40 = .ok (.lmul, 1) := dk_105 (dk_at dksX4_addCapacitor_1 16 rfl rfl)
theorem dX4_addCapacitor_41 : decode cX4_addCapacitor 41 = .ok (.lload_n 3, 1) := dk_33 (dk_at dksX4_addCapacitor_1 17 rfl rfl)
theorem dX4_addCapacitor_42 : decode cX4_addCapacitor 42 = .ok (.ldiv, 1) := dk_109 (dk_at dksX4_addCapacitor_1 18 rfl rfl)
theorem dX4_addCapacitor_43 : decode cX4_addCapacitor 43 = .ok (.ldc2_w 283, 3) := dk_20 1 27 (dk_at dksX4_addCapacitor_1 19 rfl rfl)
theorem dX4_addCapacitor_46 : decode cX4_addCapacitor 46 = .ok (.iload_n 2, 1) := dk_28 (dk_at dksX4_addCapacitor_1 22 rfl rfl)
theorem dX4_addCapacitor_47 : decode cX4_addCapacitor 47 = .ok (.i2l, 1) := dk_133 (dk_at dksX4_addCapacitor_1 23 rfl rfl)
theorem dX4_addCapacitor_48 : decode cX4_addCapacitor 48 = .ok (.lmul, 1) := dk_105 (dk_at dksX4_addCapacitor_2 0 rfl rfl)
theorem dX4_addCapacitor_49 : decode cX4_addCapacitor 49 = .ok (.aload_n 0, 1) := dk_42 (dk_at dksX4_addCapacitor_2 1 rfl rfl)
theorem dX4_addCapacitor_50 : decode cX4_addCapacitor 50 = .ok (.getfield 204, 3) := dk_180 0 204 (dk_at dksX4_addCapacitor_2 2 rfl rfl)
theorem dX4_addCapacitor_53 : decode cX4_addCapacitor 53 = .ok (.i2l, 1) := dk_133 (dk_at dksX4_addCapacitor_2 5 rfl rfl)
theorem dX4_addCapacitor_54 : decode cX4_addCapacitor 54 = .ok (.lmul, 1) := dk_105 (dk_at dksX4_addCapacitor_2 6 rfl rfl)
theorem dX4_addCapacitor_55 : decode cX4_addCapacitor 55 = .ok (.iload_n 1, 1) := dk_27 (dk_at dksX4_addCapacitor_2 7 rfl rfl)
theorem dX4_addCapacitor_56 : decode cX4_addCapacitor 56 = .ok (.invokestatic 271, 3) := dk_184 1 15 (dk_at dksX4_addCapacitor_2 8 rfl rfl)
theorem dX4_addCapacitor_59 : decode cX4_addCapacitor 59 = .ok (.i2l, 1) := dk_133 (dk_at dksX4_addCapacitor_2 11 rfl rfl)
theorem dX4_addCapacitor_60 : decode cX4_addCapacitor 60 = .ok (.lmul, 1) := dk_105 (dk_at dksX4_addCapacitor_2 12 rfl rfl)
theorem dX4_addCapacitor_61 : decode cX4_addCapacitor 61 = .ok (.ldc2_w 299, 3) := dk_20 1 43 (dk_at dksX4_addCapacitor_2 13 rfl rfl)
theorem dX4_addCapacitor_64 : decode cX4_addCapacitor 64 = .ok (.ldiv, 1) := dk_109 (dk_at dksX4_addCapacitor_2 16 rfl rfl)
theorem dX4_addCapacitor_65 : decode cX4_addCapacitor 65 = .ok (.ladd, 1) := dk_97 (dk_at dksX4_addCapacitor_2 17 rfl rfl)
theorem dX4_addCapacitor_66 : decode cX4_addCapacitor 66 = .ok (.lstore 7, 2) := dk_55 7 (dk_at dksX4_addCapacitor_2 18 rfl rfl)
theorem dX4_addCapacitor_68 : decode cX4_addCapacitor 68 = .ok (.lload 5, 2) := dk_22 5 (dk_at dksX4_addCapacitor_2 20 rfl rfl)
theorem dX4_addCapacitor_70 : decode cX4_addCapacitor 70 = .ok (.lload 5, 2) := dk_22 5 (dk_at dksX4_addCapacitor_2 22 rfl rfl)
theorem dX4_addCapacitor_72 : decode cX4_addCapacitor 72 = .ok (.lmul, 1) := dk_105 (dk_at dksX4_addCapacitor_3 0 rfl rfl)
theorem dX4_addCapacitor_73 : decode cX4_addCapacitor 73 = .ok (.lload 7, 2) := dk_22 7 (dk_at dksX4_addCapacitor_3 1 rfl rfl)
theorem dX4_addCapacitor_75 : decode cX4_addCapacitor 75 = .ok (.lload 7, 2) := dk_22 7 (dk_at dksX4_addCapacitor_3 3 rfl rfl)
theorem dX4_addCapacitor_77 : decode cX4_addCapacitor 77 = .ok (.lmul, 1) := dk_105 (dk_at dksX4_addCapacitor_3 5 rfl rfl)
theorem dX4_addCapacitor_78 : decode cX4_addCapacitor 78 = .ok (.ladd, 1) := dk_97 (dk_at dksX4_addCapacitor_3 6 rfl rfl)
theorem dX4_addCapacitor_79 : decode cX4_addCapacitor 79 = .ok (.lstore 9, 2) := dk_55 9 (dk_at dksX4_addCapacitor_3 7 rfl rfl)
theorem dX4_addCapacitor_81 : decode cX4_addCapacitor 81 = .ok (.lload 9, 2) := dk_22 9 (dk_at dksX4_addCapacitor_3 9 rfl rfl)
theorem dX4_addCapacitor_83 : decode cX4_addCapacitor 83 = .ok (.lconst 0, 1) := dk_9 (dk_at dksX4_addCapacitor_3 11 rfl rfl)
theorem dX4_addCapacitor_84 : decode cX4_addCapacitor 84 = .ok (.lcmp, 1) := dk_148 (dk_at dksX4_addCapacitor_3 12 rfl rfl)
theorem dX4_addCapacitor_85 : decode cX4_addCapacitor 85 = .ok (.ifCond .ne 16, 3) := dk_154 0 16 (dk_at dksX4_addCapacitor_3 13 rfl rfl)
theorem dX4_addCapacitor_88 : decode cX4_addCapacitor 88 = .ok (.aload_n 0, 1) := dk_42 (dk_at dksX4_addCapacitor_3 16 rfl rfl)
theorem dX4_addCapacitor_89 : decode cX4_addCapacitor 89 = .ok (.ldc2_w 301, 3) := dk_20 1 45 (dk_at dksX4_addCapacitor_3 17 rfl rfl)
theorem dX4_addCapacitor_92 : decode cX4_addCapacitor 92 = .ok (.putfield 291, 3) := dk_181 1 35 (dk_at dksX4_addCapacitor_3 20 rfl rfl)
theorem dX4_addCapacitor_95 : decode cX4_addCapacitor 95 = .ok (.aload_n 0, 1) := dk_42 (dk_at dksX4_addCapacitor_3 23 rfl rfl)
theorem dX4_addCapacitor_96 : decode cX4_addCapacitor 96 = .ok (.lconst 0, 1) := dk_9 (dk_at dksX4_addCapacitor_4 0 rfl rfl)
theorem dX4_addCapacitor_97 : decode cX4_addCapacitor 97 = .ok (.putfield 294, 3) := dk_181 1 38 (dk_at dksX4_addCapacitor_4 1 rfl rfl)
theorem dX4_addCapacitor_100 : decode cX4_addCapacitor 100 = .ok (.return_, 1) := dk_177 (dk_at dksX4_addCapacitor_4 4 rfl rfl)
theorem dX4_addCapacitor_101 : decode cX4_addCapacitor 101 = .ok (.aload_n 0, 1) := dk_42 (dk_at dksX4_addCapacitor_4 5 rfl rfl)
theorem dX4_addCapacitor_102 : decode cX4_addCapacitor 102 = .ok (.lload 5, 2) := dk_22 5 (dk_at dksX4_addCapacitor_4 6 rfl rfl)
theorem dX4_addCapacitor_104 : decode cX4_addCapacitor 104 = .ok (.ldc2_w 297, 3) := dk_20 1 41 (dk_at dksX4_addCapacitor_4 8 rfl rfl)
theorem dX4_addCapacitor_107 : decode cX4_addCapacitor 107 = .ok (.lmul, 1) := dk_105 (dk_at dksX4_addCapacitor_4 11 rfl rfl)
theorem dX4_addCapacitor_108 : decode cX4_addCapacitor 108 = .ok (.lload 9, 2) := dk_22 9 (dk_at dksX4_addCapacitor_4 12 rfl rfl)
theorem dX4_addCapacitor_110 : decode cX4_addCapacitor 110 = .ok (.ldiv, 1) := dk_109 (dk_at dksX4_addCapacitor_4 14 rfl rfl)
theorem dX4_addCapacitor_111 : decode cX4_addCapacitor 111 = .ok (.ldc2_w 303, 3) := dk_20 1 47 (dk_at dksX4_addCapacitor_4 15 rfl rfl)
theorem dX4_addCapacitor_114 : decode cX4_addCapacitor 114 = .ok (.ldc2_w 301, 3) := dk_20 1 45 (dk_at dksX4_addCapacitor_4 18 rfl rfl)
theorem dX4_addCapacitor_117 : decode cX4_addCapacitor 117 = .ok (.invokestatic 305, 3) := dk_184 1 49 (dk_at dksX4_addCapacitor_4 21 rfl rfl)
theorem dX4_addCapacitor_120 : decode cX4_addCapacitor 120 = .ok (.putfield 291, 3) := dk_181 1 35 (dk_at dksX4_addCapacitor_5 0 rfl rfl)
theorem dX4_addCapacitor_123 : decode cX4_addCapacitor 123 = .ok (.aload_n 0, 1) := dk_42 (dk_at dksX4_addCapacitor_5 3 rfl rfl)
theorem dX4_addCapacitor_124 : decode cX4_addCapacitor 124 = .ok (.lload 7, 2) := dk_22 7 (dk_at dksX4_addCapacitor_5 4 rfl rfl)
theorem dX4_addCapacitor_126 : decode cX4_addCapacitor 126 = .ok (.lneg, 1) := dk_117 (dk_at dksX4_addCapacitor_5 6 rfl rfl)
theorem dX4_addCapacitor_127 : decode cX4_addCapacitor 127 = .ok (.ldc2_w 297, 3) := dk_20 1 41 (dk_at dksX4_addCapacitor_5 7 rfl rfl)
theorem dX4_addCapacitor_130 : decode cX4_addCapacitor 130 = .ok (.lmul, 1) := dk_105 (dk_at dksX4_addCapacitor_5 10 rfl rfl)
theorem dX4_addCapacitor_131 : decode cX4_addCapacitor 131 = .ok (.lload 9, 2) := dk_22 9 (dk_at dksX4_addCapacitor_5 11 rfl rfl)
theorem dX4_addCapacitor_133 : decode cX4_addCapacitor 133 = .ok (.ldiv, 1) := dk_109 (dk_at dksX4_addCapacitor_5 13 rfl rfl)
theorem dX4_addCapacitor_134 : decode cX4_addCapacitor 134 = .ok (.ldc2_w 303, 3) := dk_20 1 47 (dk_at dksX4_addCapacitor_5 14 rfl rfl)
theorem dX4_addCapacitor_137 : decode cX4_addCapacitor 137 = .ok (.ldc2_w 301, 3) := dk_20 1 45 (dk_at dksX4_addCapacitor_5 17 rfl rfl)
theorem dX4_addCapacitor_140 : decode cX4_addCapacitor 140 = .ok (.invokestatic 305, 3) := dk_184 1 49 (dk_at dksX4_addCapacitor_5 20 rfl rfl)
theorem dX4_addCapacitor_143 : decode cX4_addCapacitor 143 = .ok (.putfield 294, 3) := dk_181 1 38 (dk_at dksX4_addCapacitor_6 0 rfl rfl)
theorem dX4_addCapacitor_146 : decode cX4_addCapacitor 146 = .ok (.return_, 1) := dk_177 (dk_at dksX4_addCapacitor_6 3 rfl rfl)
abbrev cX4_clamp : ByteArray := prog_21_method_3_code
def yX4_clamp : MethodName := ⟨RX4, "clamp", "(JJJ)J"⟩
def dkwX4_clamp_0 : List UInt8 := [30, 32, 148, 156, 0, 7, 32, 167, 0, 16, 30, 22, 4, 148, 158, 0, 8, 22, 4, 167, 0, 4, 30, 173]
abbrev dktX4_clamp_0 : List UInt8 := dkwX4_clamp_0 ++ []
theorem dksX4_clamp_0 : cX4_clamp.data.toList.drop 0 = dktX4_clamp_0 := by decide +kernel
theorem dX4_clamp_0 : decode cX4_clamp 0 = .ok (.lload_n 0, 1) := dk_30 (dk_at dksX4_clamp_0 0 rfl rfl)
theorem dX4_clamp_1 : decode cX4_clamp 1 = .ok (.lload_n 2, 1) := dk_32 (dk_at dksX4_clamp_0 1 rfl rfl)
theorem dX4_clamp_2 : decode cX4_clamp 2 = .ok (.lcmp, 1) := dk_148 (dk_at dksX4_clamp_0 2 rfl rfl)
theorem dX4_clamp_3 : decode cX4_clamp 3 = .ok (.ifCond .ge 7, 3) := dk_156 0 7 (dk_at dksX4_clamp_0 3 rfl rfl)
theorem dX4_clamp_6 : decode cX4_clamp 6 = .ok (.lload_n 2, 1) := dk_32 (dk_at dksX4_clamp_0 6 rfl rfl)
theorem dX4_clamp_7 : decode cX4_clamp 7 = .ok (.goto 16, 3) := dk_167 0 16 (dk_at dksX4_clamp_0 7 rfl rfl)
theorem dX4_clamp_10 : decode cX4_clamp 10 = .ok (.lload_n 0, 1) := dk_30 (dk_at dksX4_clamp_0 10 rfl rfl)
theorem dX4_clamp_11 : decode cX4_clamp 11 = .ok (.lload 4, 2) := dk_22 4 (dk_at dksX4_clamp_0 11 rfl rfl)
theorem dX4_clamp_13 : decode cX4_clamp 13 = .ok (.lcmp, 1) := dk_148 (dk_at dksX4_clamp_0 13 rfl rfl)
theorem dX4_clamp_14 : decode cX4_clamp 14 = .ok (.ifCond .le 8, 3) := dk_158 0 8 (dk_at dksX4_clamp_0 14 rfl rfl)
theorem dX4_clamp_17 : decode cX4_clamp 17 = .ok (.lload 4, 2) := dk_22 4 (dk_at dksX4_clamp_0 17 rfl rfl)
theorem dX4_clamp_19 : decode cX4_clamp 19 = .ok (.goto 4, 3) := dk_167 0 4 (dk_at dksX4_clamp_0 19 rfl rfl)
theorem dX4_clamp_22 : decode cX4_clamp 22 = .ok (.lload_n 0, 1) := dk_30 (dk_at dksX4_clamp_0 22 rfl rfl)
theorem dX4_clamp_23 : decode cX4_clamp 23 = .ok (.lreturn, 1) := dk_173 (dk_at dksX4_clamp_0 23 rfl rfl)
abbrev cX4_addCoil : ByteArray := prog_21_method_53_code
def yX4_addCoil : MethodName := ⟨RX4, "addCoil", "(II)V"⟩
def dkwX4_addCoil_2 : List UInt8 := [89, 180, 1, 38, 33, 97, 181, 1, 38, 177]
abbrev dktX4_addCoil_2 : List UInt8 := dkwX4_addCoil_2 ++ []
def dkwX4_addCoil_1 : List UInt8 := [33, 42, 180, 0, 201, 133, 109, 181, 1, 31, 42, 89, 180, 1, 35, 42, 180, 1, 31, 97, 181, 1, 35, 42]
abbrev dktX4_addCoil_1 : List UInt8 := dkwX4_addCoil_1 ++ dktX4_addCoil_2
def dkwX4_addCoil_0 : List UInt8 := [20, 1, 27, 28, 133, 105, 42, 180, 0, 198, 133, 105, 27, 184, 1, 13, 133, 105, 20, 1, 29, 109, 66, 42]
abbrev dktX4_addCoil_0 : List UInt8 := dkwX4_addCoil_0 ++ dktX4_addCoil_1
theorem dksX4_addCoil_0 : cX4_addCoil.data.toList.drop 0 = dktX4_addCoil_0 := by decide +kernel
theorem dksX4_addCoil_1 : cX4_addCoil.data.toList.drop 24 = dktX4_addCoil_1 := dk_seg dksX4_addCoil_0 24 rfl rfl
theorem dksX4_addCoil_2 : cX4_addCoil.data.toList.drop 48 = dktX4_addCoil_2 := dk_seg dksX4_addCoil_1 24 rfl rfl
theorem dX4_addCoil_0 : decode cX4_addCoil 0 = .ok (.ldc2_w 283, 3) := dk_20 1 27 (dk_at dksX4_addCoil_0 0 rfl rfl)
theorem dX4_addCoil_3 : decode cX4_addCoil 3 = .ok (.iload_n 2, 1) := dk_28 (dk_at dksX4_addCoil_0 3 rfl rfl)
theorem dX4_addCoil_4 : decode cX4_addCoil 4 = .ok (.i2l, 1) := dk_133 (dk_at dksX4_addCoil_0 4 rfl rfl)
theorem dX4_addCoil_5 : decode cX4_addCoil 5 = .ok (.lmul, 1) := dk_105 (dk_at dksX4_addCoil_0 5 rfl rfl)
theorem dX4_addCoil_6 : decode cX4_addCoil 6 = .ok (.aload_n 0, 1) := dk_42 (dk_at dksX4_addCoil_0 6 rfl rfl)
theorem dX4_addCoil_7 : decode cX4_addCoil 7 = .ok (.getfield 198, 3) := dk_180 0 198 (dk_at dksX4_addCoil_0 7 rfl rfl)
theorem dX4_addCoil_10 : decode cX4_addCoil 10 = .ok (.i2l, 1) := dk_133 (dk_at dksX4_addCoil_0 10 rfl rfl)
theorem dX4_addCoil_11 : decode cX4_addCoil 11 = .ok (.lmul, 1) := dk_105 (dk_at dksX4_addCoil_0 11 rfl rfl)
theorem dX4_addCoil_12 : decode cX4_addCoil 12 = .ok (.iload_n 1, 1) := dk_27 (dk_at dksX4_addCoil_0 12 rfl rfl)
theorem dX4_addCoil_13 : decode cX4_addCoil 13 = .ok (.invokestatic 269, 3) := dk_184 1 13 (dk_at dksX4_addCoil_0 13 rfl rfl)
theorem dX4_addCoil_16 : decode cX4_addCoil 16 = .ok (.i2l, 1) := dk_133 (dk_at dksX4_addCoil_0 16 rfl rfl)
theorem dX4_addCoil_17 : decode cX4_addCoil 17 = .ok (.lmul, 1) := dk_105 (dk_at dksX4_addCoil_0 17 rfl rfl)
theorem dX4_addCoil_18 : decode cX4_addCoil 18 = .ok (.ldc2_w 285, 3) := dk_20 1 29 (dk_at dksX4_addCoil_0 18 rfl rfl)
theorem dX4_addCoil_21 : decode cX4_addCoil 21 = .ok (.ldiv, 1) := dk_109 (dk_at dksX4_addCoil_0 21 rfl rfl)
theorem dX4_addCoil_22 : decode cX4_addCoil 22 = .ok (.lstore_n 3, 1) := dk_66 (dk_at dksX4_addCoil_0 22 rfl rfl)
theorem dX4_addCoil_23 : decode cX4_addCoil 23 = .ok (.aload_n 0, 1) := dk_42 (dk_at dksX4_addCoil_0 23 rfl rfl)
theorem dX4_addCoil_24 : decode cX4_addCoil 24 = .ok (.lload_n 3, 1) := dk_33 (dk_at dksX4_addCoil_1 0 rfl rfl)
theorem dX4_addCoil_25 : decode cX4_addCoil 25 = .ok (.aload_n 0, 1) := dk_42 (dk_at dksX4_addCoil_1 1 rfl rfl)
theorem dX4_addCoil_26 : decode cX4_addCoil 26 = .ok (.getfield 201, 3) := dk_180 0 201 (dk_at dksX4_addCoil_1 2 rfl rfl)
theorem dX4_addCoil_29 : decode cX4_addCoil 29 = .ok (.i2l, 1) := dk_133 (dk_at dksX4_addCoil_1 5 rfl rfl)
theorem dX4_addCoil_30 : decode cX4_addCoil 30 = .ok (.ldiv, 1) := dk_109 (dk_at dksX4_addCoil_1 6 rfl rfl)
theorem dX4_addCoil_31 : decode cX4_addCoil 31 = .ok (.putfield 287, 3) := dk_181 1 31 (dk_at dksX4_addCoil_1 7 rfl rfl)
theorem dX4_addCoil_34 : decode cX4_addCoil 34 = .ok (.aload_n 0, 1) := dk_42 (dk_at dksX4_addCoil_1 10 rfl rfl)
theorem dX4_addCoil_35 : decode cX4_addCoil 35 = .ok (.dup, 1) := dk_89 (dk_at dksX4_addCoil_1 11 rfl rfl)
theorem dX4_addCoil_36 : decode cX4_addCoil 36 = .ok (.getfield 291, 3) := dk_180 1 35 (dk_at dksX4_addCoil_1 12 rfl rfl)
theorem dX4_addCoil_39 : decode cX4_addCoil 39 = .ok (.aload_n 0, 1) := dk_42 (dk_at dksX4_addCoil_1 15 rfl rfl)
theorem dX4_addCoil_40 : decode cX4_addCoil 40 = .ok (.getfield 287, 3) := dk_180 1 31 (dk_at dksX4_addCoil_1 16 rfl rfl)
theorem dX4_addCoil_43 : decode cX4_addCoil 43 = .ok (.ladd, 1) := dk_97 (dk_at dksX4_addCoil_1 19 rfl rfl)
theorem dX4_addCoil_44 : decode cX4_addCoil 44 = .ok (.putfield 291, 3) := dk_181 1 35 (dk_at dksX4_addCoil_1 20 rfl rfl)
theorem dX4_addCoil_47 : decode cX4_addCoil 47 = .ok (.aload_n 0, 1) := dk_42 (dk_at dksX4_addCoil_1 23 rfl rfl)
theorem dX4_addCoil_48 : decode cX4_addCoil 48 = .ok (.dup, 1) := dk_89 (dk_at dksX4_addCoil_2 0 rfl rfl)
theorem dX4_addCoil_49 : decode cX4_addCoil 49 = .ok (.getfield 294, 3) := dk_180 1 38 (dk_at dksX4_addCoil_2 1 rfl rfl)
theorem dX4_addCoil_52 : decode cX4_addCoil 52 = .ok (.lload_n 3, 1) := dk_33 (dk_at dksX4_addCoil_2 4 rfl rfl)
theorem dX4_addCoil_53 : decode cX4_addCoil 53 = .ok (.ladd, 1) := dk_97 (dk_at dksX4_addCoil_2 5 rfl rfl)
theorem dX4_addCoil_54 : decode cX4_addCoil 54 = .ok (.putfield 294, 3) := dk_181 1 38 (dk_at dksX4_addCoil_2 6 rfl rfl)
theorem dX4_addCoil_57 : decode cX4_addCoil 57 = .ok (.return_, 1) := dk_177 (dk_at dksX4_addCoil_2 9 rfl rfl)
abbrev cX4_inputReactance : ByteArray := prog_21_method_57_code
def yX4_inputReactance : MethodName := ⟨RX4, "inputReactance", "()J"⟩
def dkwX4_inputReactance_1 : List UInt8 := [182, 1, 65, 42, 180, 1, 38, 173]
abbrev dktX4_inputReactance_1 : List UInt8 := dkwX4_inputReactance_1 ++ []
def dkwX4_inputReactance_0 : List UInt8 := [42, 180, 0, 194, 154, 0, 7, 20, 0, 251, 173, 42, 42, 180, 0, 9, 4, 46, 42, 180, 0, 9, 3, 46]
abbrev dktX4_inputReactance_0 : List UInt8 := dkwX4_inputReactance_0 ++ dktX4_inputReactance_1
theorem dksX4_inputReactance_0 : cX4_inputReactance.data.toList.drop 0 = dktX4_inputReactance_0 := by decide +kernel
theorem dksX4_inputReactance_1 : cX4_inputReactance.data.toList.drop 24 = dktX4_inputReactance_1 := dk_seg dksX4_inputReactance_0 24 rfl rfl
theorem dX4_inputReactance_0 : decode cX4_inputReactance 0 = .ok (.aload_n 0, 1) := dk_42 (dk_at dksX4_inputReactance_0 0 rfl rfl)
theorem dX4_inputReactance_1 : decode cX4_inputReactance 1 = .ok (.getfield 194, 3) := dk_180 0 194 (dk_at dksX4_inputReactance_0 1 rfl rfl)
theorem dX4_inputReactance_4 : decode cX4_inputReactance 4 = .ok (.ifCond .ne 7, 3) := dk_154 0 7 (dk_at dksX4_inputReactance_0 4 rfl rfl)
theorem dX4_inputReactance_7 : decode cX4_inputReactance 7 = .ok (.ldc2_w 251, 3) := dk_20 0 251 (dk_at dksX4_inputReactance_0 7 rfl rfl)
theorem dX4_inputReactance_10 : decode cX4_inputReactance 10 = .ok (.lreturn, 1) := dk_173 (dk_at dksX4_inputReactance_0 10 rfl rfl)
theorem dX4_inputReactance_11 : decode cX4_inputReactance 11 = .ok (.aload_n 0, 1) := dk_42 (dk_at dksX4_inputReactance_0 11 rfl rfl)
theorem dX4_inputReactance_12 : decode cX4_inputReactance 12 = .ok (.aload_n 0, 1) := dk_42 (dk_at dksX4_inputReactance_0 12 rfl rfl)
theorem dX4_inputReactance_13 : decode cX4_inputReactance 13 = .ok (.getfield 9, 3) := dk_180 0 9 (dk_at dksX4_inputReactance_0 13 rfl rfl)
theorem dX4_inputReactance_16 : decode cX4_inputReactance 16 = .ok (.iconst 1, 1) := dk_4 (dk_at dksX4_inputReactance_0 16 rfl rfl)
theorem dX4_inputReactance_17 : decode cX4_inputReactance 17 = .ok (.iaload, 1) := dk_46 (dk_at dksX4_inputReactance_0 17 rfl rfl)
theorem dX4_inputReactance_18 : decode cX4_inputReactance 18 = .ok (.aload_n 0, 1) := dk_42 (dk_at dksX4_inputReactance_0 18 rfl rfl)
theorem dX4_inputReactance_19 : decode cX4_inputReactance 19 = .ok (.getfield 9, 3) := dk_180 0 9 (dk_at dksX4_inputReactance_0 19 rfl rfl)
theorem dX4_inputReactance_22 : decode cX4_inputReactance 22 = .ok (.iconst 0, 1) := dk_3 (dk_at dksX4_inputReactance_0 22 rfl rfl)
theorem dX4_inputReactance_23 : decode cX4_inputReactance 23 = .ok (.iaload, 1) := dk_46 (dk_at dksX4_inputReactance_0 23 rfl rfl)
theorem dX4_inputReactance_24 : decode cX4_inputReactance 24 = .ok (.invokevirtual 321, 3) := dk_182 1 65 (dk_at dksX4_inputReactance_1 0 rfl rfl)
theorem dX4_inputReactance_27 : decode cX4_inputReactance 27 = .ok (.aload_n 0, 1) := dk_42 (dk_at dksX4_inputReactance_1 3 rfl rfl)
theorem dX4_inputReactance_28 : decode cX4_inputReactance 28 = .ok (.getfield 294, 3) := dk_180 1 38 (dk_at dksX4_inputReactance_1 4 rfl rfl)
theorem dX4_inputReactance_31 : decode cX4_inputReactance 31 = .ok (.lreturn, 1) := dk_173 (dk_at dksX4_inputReactance_1 7 rfl rfl)
abbrev cX4_swr : ByteArray := prog_21_method_60_code
def yX4_swr : MethodName := ⟨RX4, "swr", "()I"⟩
def dkwX4_swr_0 : List UInt8 := [42, 180, 0, 194, 153, 0, 10, 42, 182, 1, 80, 167, 0, 4, 2, 172]
abbrev dktX4_swr_0 : List UInt8 := dkwX4_swr_0 ++ []
theorem dksX4_swr_0 : cX4_swr.data.toList.drop 0 = dktX4_swr_0 := by decide +kernel
theorem dX4_swr_0 : decode cX4_swr 0 = .ok (.aload_n 0, 1) := dk_42 (dk_at dksX4_swr_0 0 rfl rfl)
theorem dX4_swr_1 : decode cX4_swr 1 = .ok (.getfield 194, 3) := dk_180 0 194 (dk_at dksX4_swr_0 1 rfl rfl)
theorem dX4_swr_4 : decode cX4_swr 4 = .ok (.ifCond .eq 10, 3) := dk_153 0 10 (dk_at dksX4_swr_0 4 rfl rfl)
theorem dX4_swr_7 : decode cX4_swr 7 = .ok (.aload_n 0, 1) := dk_42 (dk_at dksX4_swr_0 7 rfl rfl)
theorem dX4_swr_8 : decode cX4_swr 8 = .ok (.invokevirtual 336, 3) := dk_182 1 80 (dk_at dksX4_swr_0 8 rfl rfl)
theorem dX4_swr_11 : decode cX4_swr 11 = .ok (.goto 4, 3) := dk_167 0 4 (dk_at dksX4_swr_0 11 rfl rfl)
theorem dX4_swr_14 : decode cX4_swr 14 = .ok (.iconst (-1), 1) := dk_2 (dk_at dksX4_swr_0 14 rfl rfl)
theorem dX4_swr_15 : decode cX4_swr 15 = .ok (.ireturn, 1) := dk_172 (dk_at dksX4_swr_0 15 rfl rfl)
abbrev cX4_present : ByteArray := prog_21_method_59_code
def yX4_present : MethodName := ⟨RX4, "present", "()I"⟩
def dkwX4_present_0 : List UInt8 := [42, 42, 180, 0, 9, 4, 46, 42, 180, 0, 9, 3, 46, 182, 1, 77, 172]
abbrev dktX4_present_0 : List UInt8 := dkwX4_present_0 ++ []
theorem dksX4_present_0 : cX4_present.data.toList.drop 0 = dktX4_present_0 := by decide +kernel
theorem dX4_present_0 : decode cX4_present 0 = .ok (.aload_n 0, 1) := dk_42 (dk_at dksX4_present_0 0 rfl rfl)
theorem dX4_present_1 : decode cX4_present 1 = .ok (.aload_n 0, 1) := dk_42 (dk_at dksX4_present_0 1 rfl rfl)
theorem dX4_present_2 : decode cX4_present 2 = .ok (.getfield 9, 3) := dk_180 0 9 (dk_at dksX4_present_0 2 rfl rfl)
theorem dX4_present_5 : decode cX4_present 5 = .ok (.iconst 1, 1) := dk_4 (dk_at dksX4_present_0 5 rfl rfl)
theorem dX4_present_6 : decode cX4_present 6 = .ok (.iaload, 1) := dk_46 (dk_at dksX4_present_0 6 rfl rfl)
theorem dX4_present_7 : decode cX4_present 7 = .ok (.aload_n 0, 1) := dk_42 (dk_at dksX4_present_0 7 rfl rfl)
theorem dX4_present_8 : decode cX4_present 8 = .ok (.getfield 9, 3) := dk_180 0 9 (dk_at dksX4_present_0 8 rfl rfl)
theorem dX4_present_11 : decode cX4_present 11 = .ok (.iconst 0, 1) := dk_3 (dk_at dksX4_present_0 11 rfl rfl)
theorem dX4_present_12 : decode cX4_present 12 = .ok (.iaload, 1) := dk_46 (dk_at dksX4_present_0 12 rfl rfl)
theorem dX4_present_13 : decode cX4_present 13 = .ok (.invokevirtual 333, 3) := dk_182 1 77 (dk_at dksX4_present_0 13 rfl rfl)
theorem dX4_present_16 : decode cX4_present 16 = .ok (.ireturn, 1) := dk_172 (dk_at dksX4_present_0 16 rfl rfl)
abbrev cX4_ratio : ByteArray := prog_21_method_58_code
def yX4_ratio : MethodName := ⟨RX4, "ratio", "(II)I"⟩
def dkwX4_ratio_4 : List UInt8 := [9, 20, 1, 75, 184, 1, 49, 136, 172]
abbrev dktX4_ratio_4 : List UInt8 := dkwX4_ratio_4 ++ []
def dkwX4_ratio_3 : List UInt8 := [22, 5, 33, 148, 157, 0, 7, 19, 1, 74, 172, 20, 0, 253, 22, 5, 33, 97, 105, 22, 5, 33, 101, 109]
abbrev dktX4_ratio_3 : List UInt8 := dkwX4_ratio_3 ++ dktX4_ratio_4
def dkwX4_ratio_2 : List UInt8 := [180, 1, 35, 20, 1, 68, 97, 105, 42, 180, 1, 38, 42, 180, 1, 38, 105, 97, 184, 1, 70, 55, 5]
abbrev dktX4_ratio_2 : List UInt8 := dkwX4_ratio_2 ++ dktX4_ratio_3
def dkwX4_ratio_1 : List UInt8 := [180, 1, 38, 42, 180, 1, 38, 105, 97, 184, 1, 70, 66, 42, 180, 1, 35, 20, 1, 68, 97, 42]
abbrev dktX4_ratio_1 : List UInt8 := dkwX4_ratio_1 ++ dktX4_ratio_2
def dkwX4_ratio_0 : List UInt8 := [42, 27, 28, 182, 1, 65, 42, 180, 1, 35, 20, 1, 68, 101, 42, 180, 1, 35, 20, 1, 68, 101, 105, 42]
abbrev dktX4_ratio_0 : List UInt8 := dkwX4_ratio_0 ++ dktX4_ratio_1
theorem dksX4_ratio_0 : cX4_ratio.data.toList.drop 0 = dktX4_ratio_0 := by decide +kernel
theorem dksX4_ratio_1 : cX4_ratio.data.toList.drop 24 = dktX4_ratio_1 := dk_seg dksX4_ratio_0 24 rfl rfl
theorem dksX4_ratio_2 : cX4_ratio.data.toList.drop 46 = dktX4_ratio_2 := dk_seg dksX4_ratio_1 22 rfl rfl
theorem dksX4_ratio_3 : cX4_ratio.data.toList.drop 69 = dktX4_ratio_3 := dk_seg dksX4_ratio_2 23 rfl rfl
theorem dksX4_ratio_4 : cX4_ratio.data.toList.drop 93 = dktX4_ratio_4 := dk_seg dksX4_ratio_3 24 rfl rfl
theorem dX4_ratio_0 : decode cX4_ratio 0 = .ok (.aload_n 0, 1) := dk_42 (dk_at dksX4_ratio_0 0 rfl rfl)
theorem dX4_ratio_1 : decode cX4_ratio 1 = .ok (.iload_n 1, 1) := dk_27 (dk_at dksX4_ratio_0 1 rfl rfl)
theorem dX4_ratio_2 : decode cX4_ratio 2 = .ok (.iload_n 2, 1) := dk_28 (dk_at dksX4_ratio_0 2 rfl rfl)
theorem dX4_ratio_3 : decode cX4_ratio 3 = .ok (.invokevirtual 321, 3) := dk_182 1 65 (dk_at dksX4_ratio_0 3 rfl rfl)
theorem dX4_ratio_6 : decode cX4_ratio 6 = .ok (.aload_n 0, 1) := dk_42 (dk_at dksX4_ratio_0 6 rfl rfl)
theorem dX4_ratio_7 : decode cX4_ratio 7 = .ok (.getfield 291, 3) := dk_180 1 35 (dk_at dksX4_ratio_0 7 rfl rfl)
theorem dX4_ratio_10 : decode cX4_ratio 10 = .ok (.ldc2_w 324, 3) := dk_20 1 68 (dk_at dksX4_ratio_0 10 rfl rfl)
theorem dX4_ratio_13 : decode cX4_ratio 13 = .ok (.lsub, 1) := dk_101 (dk_at dksX4_ratio_0 13 rfl rfl)
theorem dX4_ratio_14 : decode cX4_ratio 14 = .ok (.aload_n 0, 1) := dk_42 (dk_at dksX4_ratio_0 14 rfl rfl)
theorem dX4_ratio_15 : decode cX4_ratio 15 = .ok (.getfield 291, 3) := dk_180 1 35 (dk_at dksX4_ratio_0 15 rfl rfl)
theorem dX4_ratio_18 : decode cX4_ratio 18 = .ok (.ldc2_w 324, 3) := dk_20 1 68 (dk_at dksX4_ratio_0 18 rfl rfl)
theorem dX4_ratio_21 : decode cX4_ratio 21 = .ok (.lsub, 1) := dk_101 (dk_at dksX4_ratio_0 21 rfl rfl)
theorem dX4_ratio_22 : decode cX4_ratio 22 = .ok (.lmul, 1) := dk_105 (dk_at dksX4_ratio_0 22 rfl rfl)
theorem dX4_ratio_23 : decode cX4_ratio 23 = .ok (.aload_n 0, 1) := dk_42 (dk_at dksX4_ratio_0 23 rfl rfl)
theorem dX4_ratio_24 : decode cX4_ratio 24 = .ok (.getfield 294, 3) := dk_180 1 38 (dk_at dksX4_ratio_1 0 rfl rfl)
theorem dX4_ratio_27 : decode cX4_ratio 27 = .ok (.aload_n 0, 1) := dk_42 (dk_at dksX4_ratio_1 3 rfl rfl)
theorem dX4_ratio_28 : decode cX4_ratio 28 = .ok (.getfield 294, 3) := dk_180 1 38 (dk_at dksX4_ratio_1 4 rfl rfl)
theorem dX4_ratio_31 : decode cX4_ratio 31 = .ok (.lmul, 1) := dk_105 (dk_at dksX4_ratio_1 7 rfl rfl)
theorem dX4_ratio_32 : decode cX4_ratio 32 = .ok (.ladd, 1) := dk_97 (dk_at dksX4_ratio_1 8 rfl rfl)
theorem dX4_ratio_33 : decode cX4_ratio 33 = .ok (.invokestatic 326, 3) := dk_184 1 70 (dk_at dksX4_ratio_1 9 rfl rfl)
theorem dX4_ratio_36 : decode cX4_ratio 36 = .ok (.lstore_n 3, 1) := dk_66 (dk_at dksX4_ratio_1 12 rfl rfl)
theorem dX4_ratio_37 : decode cX4_ratio 37 = .ok (.aload_n 0, 1) := dk_42 (dk_at dksX4_ratio_1 13 rfl rfl)
theorem dX4_ratio_38 : decode cX4_ratio 38 = .ok (.getfield 291, 3) := dk_180 1 35 (dk_at dksX4_ratio_1 14 rfl rfl)
theorem dX4_ratio_41 : decode cX4_ratio 41 = .ok (.ldc2_w 324, 3) := dk_20 1 68 (dk_at dksX4_ratio_1 17 rfl rfl)
theorem dX4_ratio_44 : decode cX4_ratio 44 = .ok (.ladd, 1) := dk_97 (dk_at dksX4_ratio_1 20 rfl rfl)
theorem dX4_ratio_45 : decode cX4_ratio 45 = .ok (.aload_n 0, 1) := dk_42 (dk_at dksX4_ratio_1 21 rfl rfl)
theorem dX4_ratio_46 : decode cX4_ratio 46 = .ok (.getfield 291, 3) := dk_180 1 35 (dk_at dksX4_ratio_2 0 rfl rfl)
theorem dX4_ratio_49 : decode cX4_ratio 49 = .ok (.ldc2_w 324, 3) := dk_20 1 68 (dk_at dksX4_ratio_2 3 rfl rfl)
theorem dX4_ratio_52 : decode cX4_ratio 52 = .ok (.ladd, 1) := dk_97 (dk_at dksX4_ratio_2 6 rfl rfl)
theorem dX4_ratio_53 : decode cX4_ratio 53 = .ok (.lmul, 1) := dk_105 (dk_at dksX4_ratio_2 7 rfl rfl)
theorem dX4_ratio_54 : decode cX4_ratio 54 = .ok (.aload_n 0, 1) := dk_42 (dk_at dksX4_ratio_2 8 rfl rfl)
theorem dX4_ratio_55 : decode cX4_ratio 55 = .ok (.getfield 294, 3) := dk_180 1 38 (dk_at dksX4_ratio_2 9 rfl rfl)
theorem dX4_ratio_58 : decode cX4_ratio 58 = .ok (.aload_n 0, 1) := dk_42 (dk_at dksX4_ratio_2 12 rfl rfl)
theorem dX4_ratio_59 : decode cX4_ratio 59 = .ok (.getfield 294, 3) := dk_180 1 38 (dk_at dksX4_ratio_2 13 rfl rfl)
theorem dX4_ratio_62 : decode cX4_ratio 62 = .ok (.lmul, 1) := dk_105 (dk_at dksX4_ratio_2 16 rfl rfl)
theorem dX4_ratio_63 : decode cX4_ratio 63 = .ok (.ladd, 1) := dk_97 (dk_at dksX4_ratio_2 17 rfl rfl)
theorem dX4_ratio_64 : decode cX4_ratio 64 = .ok (.invokestatic 326, 3) := dk_184 1 70 (dk_at dksX4_ratio_2 18 rfl rfl)
theorem dX4_ratio_67 : decode cX4_ratio 67 = .ok (.lstore 5, 2) := dk_55 5 (dk_at dksX4_ratio_2 21 rfl rfl)
theorem dX4_ratio_69 : decode cX4_ratio 69 = .ok (.lload 5, 2) := dk_22 5 (dk_at dksX4_ratio_3 0 rfl rfl)
theorem dX4_ratio_71 : decode cX4_ratio 71 = .ok (.lload_n 3, 1) := dk_33 (dk_at dksX4_ratio_3 2 rfl rfl)
theorem dX4_ratio_72 : decode cX4_ratio 72 = .ok (.lcmp, 1) := dk_148 (dk_at dksX4_ratio_3 3 rfl rfl)
theorem dX4_ratio_73 : decode cX4_ratio 73 = .ok (.ifCond .gt 7, 3) := dk_157 0 7 (dk_at dksX4_ratio_3 4 rfl rfl)
theorem dX4_ratio_76 : decode cX4_ratio 76 = .ok (.ldc_w 330, 3) := dk_19 1 74 (dk_at dksX4_ratio_3 7 rfl rfl)
theorem dX4_ratio_79 : decode cX4_ratio 79 = .ok (.ireturn, 1) := dk_172 (dk_at dksX4_ratio_3 10 rfl rfl)
theorem dX4_ratio_80 : decode cX4_ratio 80 = .ok (.ldc2_w 253, 3) := dk_20 0 253 (dk_at dksX4_ratio_3 11 rfl rfl)
theorem dX4_ratio_83 : decode cX4_ratio 83 = .ok (.lload 5, 2) := dk_22 5 (dk_at dksX4_ratio_3 14 rfl rfl)
theorem dX4_ratio_85 : decode cX4_ratio 85 = .ok (.lload_n 3, 1) := dk_33 (dk_at dksX4_ratio_3 16 rfl rfl)
theorem dX4_ratio_86 : decode cX4_ratio 86 = .ok (.ladd, 1) := dk_97 (dk_at dksX4_ratio_3 17 rfl rfl)
theorem dX4_ratio_87 : decode cX4_ratio 87 = .ok (.lmul, 1) := dk_105 (dk_at dksX4_ratio_3 18 rfl rfl)
theorem dX4_ratio_88 : decode cX4_ratio 88 = .ok (.lload 5, 2) := dk_22 5 (dk_at dksX4_ratio_3 19 rfl rfl)
theorem dX4_ratio_90 : decode cX4_ratio 90 = .ok (.lload_n 3, 1) := dk_33 (dk_at dksX4_ratio_3 21 rfl rfl)
theorem dX4_ratio_91 : decode cX4_ratio 91 = .ok (.lsub, 1) := dk_101 (dk_at dksX4_ratio_3 22 rfl rfl)
theorem dX4_ratio_92 : decode cX4_ratio 92 = .ok (.ldiv, 1) := dk_109 (dk_at dksX4_ratio_3 23 rfl rfl)
theorem dX4_ratio_93 : decode cX4_ratio 93 = .ok (.lconst 0, 1) := dk_9 (dk_at dksX4_ratio_4 0 rfl rfl)
theorem dX4_ratio_94 : decode cX4_ratio 94 = .ok (.ldc2_w 331, 3) := dk_20 1 75 (dk_at dksX4_ratio_4 1 rfl rfl)
theorem dX4_ratio_97 : decode cX4_ratio 97 = .ok (.invokestatic 305, 3) := dk_184 1 49 (dk_at dksX4_ratio_4 4 rfl rfl)
theorem dX4_ratio_100 : decode cX4_ratio 100 = .ok (.l2i, 1) := dk_136 (dk_at dksX4_ratio_4 7 rfl rfl)
theorem dX4_ratio_101 : decode cX4_ratio 101 = .ok (.ireturn, 1) := dk_172 (dk_at dksX4_ratio_4 8 rfl rfl)
abbrev cX4_root : ByteArray := prog_21_method_4_code
def yX4_root : MethodName := ⟨RX4, "root", "(J)J"⟩
def dkwX4_root_2 : List UInt8 := [167, 255, 215, 32, 173]
abbrev dktX4_root_2 : List UInt8 := dkwX4_root_2 ++ []
def dkwX4_root_1 : List UInt8 := [55, 6, 22, 6, 22, 6, 105, 30, 148, 157, 0, 9, 22, 6, 65, 167, 0, 9, 22, 6, 10, 101, 55, 4]
abbrev dktX4_root_1 : List UInt8 := dkwX4_root_1 ++ dktX4_root_2
def dkwX4_root_0 : List UInt8 := [9, 65, 20, 0, 64, 55, 4, 32, 22, 4, 148, 156, 0, 40, 32, 22, 4, 97, 10, 97, 20, 0, 66, 109]
abbrev dktX4_root_0 : List UInt8 := dkwX4_root_0 ++ dktX4_root_1
theorem dksX4_root_0 : cX4_root.data.toList.drop 0 = dktX4_root_0 := by decide +kernel
theorem dksX4_root_1 : cX4_root.data.toList.drop 24 = dktX4_root_1 := dk_seg dksX4_root_0 24 rfl rfl
theorem dksX4_root_2 : cX4_root.data.toList.drop 48 = dktX4_root_2 := dk_seg dksX4_root_1 24 rfl rfl
theorem dX4_root_0 : decode cX4_root 0 = .ok (.lconst 0, 1) := dk_9 (dk_at dksX4_root_0 0 rfl rfl)
theorem dX4_root_1 : decode cX4_root 1 = .ok (.lstore_n 2, 1) := dk_65 (dk_at dksX4_root_0 1 rfl rfl)
theorem dX4_root_2 : decode cX4_root 2 = .ok (.ldc2_w 64, 3) := dk_20 0 64 (dk_at dksX4_root_0 2 rfl rfl)
theorem dX4_root_5 : decode cX4_root 5 = .ok (.lstore 4, 2) := dk_55 4 (dk_at dksX4_root_0 5 rfl rfl)
theorem dX4_root_7 : decode cX4_root 7 = .ok (.lload_n 2, 1) := dk_32 (dk_at dksX4_root_0 7 rfl rfl)
theorem dX4_root_8 : decode cX4_root 8 = .ok (.lload 4, 2) := dk_22 4 (dk_at dksX4_root_0 8 rfl rfl)
theorem dX4_root_10 : decode cX4_root 10 = .ok (.lcmp, 1) := dk_148 (dk_at dksX4_root_0 10 rfl rfl)
theorem dX4_root_11 : decode cX4_root 11 = .ok (.ifCond .ge 40, 3) := dk_156 0 40 (dk_at dksX4_root_0 11 rfl rfl)
theorem dX4_root_14 : decode cX4_root 14 = .ok (.lload_n 2, 1) := dk_32 (dk_at dksX4_root_0 14 rfl rfl)
theorem dX4_root_15 : decode cX4_root 15 = .ok (.lload 4, 2) := dk_22 4 (dk_at dksX4_root_0 15 rfl rfl)
theorem dX4_root_17 : decode cX4_root 17 = .ok (.ladd, 1) := dk_97 (dk_at dksX4_root_0 17 rfl rfl)
theorem dX4_root_18 : decode cX4_root 18 = .ok (.lconst 1, 1) := dk_10 (dk_at dksX4_root_0 18 rfl rfl)
theorem dX4_root_19 : decode cX4_root 19 = .ok (.ladd, 1) := dk_97 (dk_at dksX4_root_0 19 rfl rfl)
theorem dX4_root_20 : decode cX4_root 20 = .ok (.ldc2_w 66, 3) := dk_20 0 66 (dk_at dksX4_root_0 20 rfl rfl)
theorem dX4_root_23 : decode cX4_root 23 = .ok (.ldiv, 1) := dk_109 (dk_at dksX4_root_0 23 rfl rfl)
theorem dX4_root_24 : decode cX4_root 24 = .ok (.lstore 6, 2) := dk_55 6 (dk_at dksX4_root_1 0 rfl rfl)
theorem dX4_root_26 : decode cX4_root 26 = .ok (.lload 6, 2) := dk_22 6 (dk_at dksX4_root_1 2 rfl rfl)
theorem dX4_root_28 : decode cX4_root 28 = .ok (.lload 6, 2) := dk_22 6 (dk_at dksX4_root_1 4 rfl rfl)
theorem dX4_root_30 : decode cX4_root 30 = .ok (.lmul, 1) := dk_105 (dk_at dksX4_root_1 6 rfl rfl)
theorem dX4_root_31 : decode cX4_root 31 = .ok (.lload_n 0, 1) := dk_30 (dk_at dksX4_root_1 7 rfl rfl)
theorem dX4_root_32 : decode cX4_root 32 = .ok (.lcmp, 1) := dk_148 (dk_at dksX4_root_1 8 rfl rfl)
theorem dX4_root_33 : decode cX4_root 33 = .ok (.ifCond .gt 9, 3) := dk_157 0 9 (dk_at dksX4_root_1 9 rfl rfl)
theorem dX4_root_36 : decode cX4_root 36 = .ok (.lload 6, 2) := dk_22 6 (dk_at dksX4_root_1 12 rfl rfl)
theorem dX4_root_38 : decode cX4_root 38 = .ok (.lstore_n 2, 1) := dk_65 (dk_at dksX4_root_1 14 rfl rfl)
theorem dX4_root_39 : decode cX4_root 39 = .ok (.goto 9, 3) := dk_167 0 9 (dk_at dksX4_root_1 15 rfl rfl)
theorem dX4_root_42 : decode cX4_root 42 = .ok (.lload 6, 2) := dk_22 6 (dk_at dksX4_root_1 18 rfl rfl)
theorem dX4_root_44 : decode cX4_root 44 = .ok (.lconst 1, 1) := dk_10 (dk_at dksX4_root_1 20 rfl rfl)
theorem dX4_root_45 : decode cX4_root 45 = .ok (.lsub, 1) := dk_101 (dk_at dksX4_root_1 21 rfl rfl)
theorem dX4_root_46 : decode cX4_root 46 = .ok (.lstore 4, 2) := dk_55 4 (dk_at dksX4_root_1 22 rfl rfl)
theorem dX4_root_48 : decode cX4_root 48 = .ok (.goto (-41), 3) := dk_167 255 215 (dk_at dksX4_root_2 0 rfl rfl)
theorem dX4_root_51 : decode cX4_root 51 = .ok (.lload_n 2, 1) := dk_32 (dk_at dksX4_root_2 3 rfl rfl)
theorem dX4_root_52 : decode cX4_root 52 = .ok (.lreturn, 1) := dk_173 (dk_at dksX4_root_2 4 rfl rfl)
abbrev cX4_swrAt : ByteArray := prog_21_method_61_code
def yX4_swrAt : MethodName := ⟨RX4, "swrAt", "(I)I"⟩
def dkwX4_swrAt_1 : List UInt8 := [182, 1, 77, 167, 0, 4, 2, 172]
abbrev dktX4_swrAt_1 : List UInt8 := dkwX4_swrAt_1 ++ []
def dkwX4_swrAt_0 : List UInt8 := [42, 180, 0, 194, 153, 0, 24, 27, 184, 0, 239, 153, 0, 17, 42, 42, 180, 0, 9, 4, 46, 27]
abbrev dktX4_swrAt_0 : List UInt8 := dkwX4_swrAt_0 ++ dktX4_swrAt_1
theorem dksX4_swrAt_0 : cX4_swrAt.data.toList.drop 0 = dktX4_swrAt_0 := by decide +kernel
theorem dksX4_swrAt_1 : cX4_swrAt.data.toList.drop 22 = dktX4_swrAt_1 := dk_seg dksX4_swrAt_0 22 rfl rfl
theorem dX4_swrAt_0 : decode cX4_swrAt 0 = .ok (.aload_n 0, 1) := dk_42 (dk_at dksX4_swrAt_0 0 rfl rfl)
theorem dX4_swrAt_1 : decode cX4_swrAt 1 = .ok (.getfield 194, 3) := dk_180 0 194 (dk_at dksX4_swrAt_0 1 rfl rfl)
theorem dX4_swrAt_4 : decode cX4_swrAt 4 = .ok (.ifCond .eq 24, 3) := dk_153 0 24 (dk_at dksX4_swrAt_0 4 rfl rfl)
theorem dX4_swrAt_7 : decode cX4_swrAt 7 = .ok (.iload_n 1, 1) := dk_27 (dk_at dksX4_swrAt_0 7 rfl rfl)
theorem dX4_swrAt_8 : decode cX4_swrAt 8 = .ok (.invokestatic 239, 3) := dk_184 0 239 (dk_at dksX4_swrAt_0 8 rfl rfl)
theorem dX4_swrAt_11 : decode cX4_swrAt 11 = .ok (.ifCond .eq 17, 3) := dk_153 0 17 (dk_at dksX4_swrAt_0 11 rfl rfl)
theorem dX4_swrAt_14 : decode cX4_swrAt 14 = .ok (.aload_n 0, 1) := dk_42 (dk_at dksX4_swrAt_0 14 rfl rfl)
theorem dX4_swrAt_15 : decode cX4_swrAt 15 = .ok (.aload_n 0, 1) := dk_42 (dk_at dksX4_swrAt_0 15 rfl rfl)
theorem dX4_swrAt_16 : decode cX4_swrAt 16 = .ok (.getfield 9, 3) := dk_180 0 9 (dk_at dksX4_swrAt_0 16 rfl rfl)
theorem dX4_swrAt_19 : decode cX4_swrAt 19 = .ok (.iconst 1, 1) := dk_4 (dk_at dksX4_swrAt_0 19 rfl rfl)
theorem dX4_swrAt_20 : decode cX4_swrAt 20 = .ok (.iaload, 1) := dk_46 (dk_at dksX4_swrAt_0 20 rfl rfl)
theorem dX4_swrAt_21 : decode cX4_swrAt 21 = .ok (.iload_n 1, 1) := dk_27 (dk_at dksX4_swrAt_0 21 rfl rfl)
theorem dX4_swrAt_22 : decode cX4_swrAt 22 = .ok (.invokevirtual 333, 3) := dk_182 1 77 (dk_at dksX4_swrAt_1 0 rfl rfl)
theorem dX4_swrAt_25 : decode cX4_swrAt 25 = .ok (.goto 4, 3) := dk_167 0 4 (dk_at dksX4_swrAt_1 3 rfl rfl)
theorem dX4_swrAt_28 : decode cX4_swrAt 28 = .ok (.iconst (-1), 1) := dk_2 (dk_at dksX4_swrAt_1 6 rfl rfl)
theorem dX4_swrAt_29 : decode cX4_swrAt 29 = .ok (.ireturn, 1) := dk_172 (dk_at dksX4_swrAt_1 7 rfl rfl)
abbrev cX4_swrWith : ByteArray := prog_21_method_62_code
def yX4_swrWith : MethodName := ⟨RX4, "swrWith", "(III)I"⟩
def dkwX4_swrWith_1 : List UInt8 := [180, 0, 9, 3, 46, 182, 1, 77, 167, 0, 4, 2, 172]
abbrev dktX4_swrWith_1 : List UInt8 := dkwX4_swrWith_1 ++ []
def dkwX4_swrWith_0 : List UInt8 := [42, 180, 0, 194, 153, 0, 31, 27, 28, 29, 184, 1, 23, 153, 0, 22, 42, 27, 28, 29, 184, 1, 17, 42]
abbrev dktX4_swrWith_0 : List UInt8 := dkwX4_swrWith_0 ++ dktX4_swrWith_1
theorem dksX4_swrWith_0 : cX4_swrWith.data.toList.drop 0 = dktX4_swrWith_0 := by decide +kernel
theorem dksX4_swrWith_1 : cX4_swrWith.data.toList.drop 24 = dktX4_swrWith_1 := dk_seg dksX4_swrWith_0 24 rfl rfl
theorem dX4_swrWith_0 : decode cX4_swrWith 0 = .ok (.aload_n 0, 1) := dk_42 (dk_at dksX4_swrWith_0 0 rfl rfl)
theorem dX4_swrWith_1 : decode cX4_swrWith 1 = .ok (.getfield 194, 3) := dk_180 0 194 (dk_at dksX4_swrWith_0 1 rfl rfl)
theorem dX4_swrWith_4 : decode cX4_swrWith 4 = .ok (.ifCond .eq 31, 3) := dk_153 0 31 (dk_at dksX4_swrWith_0 4 rfl rfl)
theorem dX4_swrWith_7 : decode cX4_swrWith 7 = .ok (.iload_n 1, 1) := dk_27 (dk_at dksX4_swrWith_0 7 rfl rfl)
theorem dX4_swrWith_8 : decode cX4_swrWith 8 = .ok (.iload_n 2, 1) := dk_28 (dk_at dksX4_swrWith_0 8 rfl rfl)
theorem dX4_swrWith_9 : decode cX4_swrWith 9 = .ok (.iload_n 3, 1) := dk_29 (dk_at dksX4_swrWith_0 9 rfl rfl)
theorem dX4_swrWith_10 : decode cX4_swrWith 10 = .ok (.invokestatic 279, 3) := dk_184 1 23 (dk_at dksX4_swrWith_0 10 rfl rfl)
theorem dX4_swrWith_13 : decode cX4_swrWith 13 = .ok (.ifCond .eq 22, 3) := dk_153 0 22 (dk_at dksX4_swrWith_0 13 rfl rfl)
theorem dX4_swrWith_16 : decode cX4_swrWith 16 = .ok (.aload_n 0, 1) := dk_42 (dk_at dksX4_swrWith_0 16 rfl rfl)
theorem dX4_swrWith_17 : decode cX4_swrWith 17 = .ok (.iload_n 1, 1) := dk_27 (dk_at dksX4_swrWith_0 17 rfl rfl)
theorem dX4_swrWith_18 : decode cX4_swrWith 18 = .ok (.iload_n 2, 1) := dk_28 (dk_at dksX4_swrWith_0 18 rfl rfl)
theorem dX4_swrWith_19 : decode cX4_swrWith 19 = .ok (.iload_n 3, 1) := dk_29 (dk_at dksX4_swrWith_0 19 rfl rfl)
theorem dX4_swrWith_20 : decode cX4_swrWith 20 = .ok (.invokestatic 273, 3) := dk_184 1 17 (dk_at dksX4_swrWith_0 20 rfl rfl)
theorem dX4_swrWith_23 : decode cX4_swrWith 23 = .ok (.aload_n 0, 1) := dk_42 (dk_at dksX4_swrWith_0 23 rfl rfl)
theorem dX4_swrWith_24 : decode cX4_swrWith 24 = .ok (.getfield 9, 3) := dk_180 0 9 (dk_at dksX4_swrWith_1 0 rfl rfl)
theorem dX4_swrWith_27 : decode cX4_swrWith 27 = .ok (.iconst 0, 1) := dk_3 (dk_at dksX4_swrWith_1 3 rfl rfl)
theorem dX4_swrWith_28 : decode cX4_swrWith 28 = .ok (.iaload, 1) := dk_46 (dk_at dksX4_swrWith_1 4 rfl rfl)
theorem dX4_swrWith_29 : decode cX4_swrWith 29 = .ok (.invokevirtual 333, 3) := dk_182 1 77 (dk_at dksX4_swrWith_1 5 rfl rfl)
theorem dX4_swrWith_32 : decode cX4_swrWith 32 = .ok (.goto 4, 3) := dk_167 0 4 (dk_at dksX4_swrWith_1 8 rfl rfl)
theorem dX4_swrWith_35 : decode cX4_swrWith 35 = .ok (.iconst (-1), 1) := dk_2 (dk_at dksX4_swrWith_1 11 rfl rfl)
theorem dX4_swrWith_36 : decode cX4_swrWith 36 = .ok (.ireturn, 1) := dk_172 (dk_at dksX4_swrWith_1 12 rfl rfl)
abbrev cX4_efficiency : ByteArray := prog_21_method_66_code
def yX4_efficiency : MethodName := ⟨RX4, "efficiency", "()I"⟩
def dkwX4_efficiency_0 : List UInt8 := [42, 180, 0, 194, 153, 0, 16, 42, 42, 180, 0, 9, 4, 46, 182, 1, 85, 167, 0, 4, 2, 172]
abbrev dktX4_efficiency_0 : List UInt8 := dkwX4_efficiency_0 ++ []
theorem dksX4_efficiency_0 : cX4_efficiency.data.toList.drop 0 = dktX4_efficiency_0 := by decide +kernel
theorem dX4_efficiency_0 : decode cX4_efficiency 0 = .ok (.aload_n 0, 1) := dk_42 (dk_at dksX4_efficiency_0 0 rfl rfl)
theorem dX4_efficiency_1 : decode cX4_efficiency 1 = .ok (.getfield 194, 3) := dk_180 0 194 (dk_at dksX4_efficiency_0 1 rfl rfl)
theorem dX4_efficiency_4 : decode cX4_efficiency 4 = .ok (.ifCond .eq 16, 3) := dk_153 0 16 (dk_at dksX4_efficiency_0 4 rfl rfl)
theorem dX4_efficiency_7 : decode cX4_efficiency 7 = .ok (.aload_n 0, 1) := dk_42 (dk_at dksX4_efficiency_0 7 rfl rfl)
theorem dX4_efficiency_8 : decode cX4_efficiency 8 = .ok (.aload_n 0, 1) := dk_42 (dk_at dksX4_efficiency_0 8 rfl rfl)
theorem dX4_efficiency_9 : decode cX4_efficiency 9 = .ok (.getfield 9, 3) := dk_180 0 9 (dk_at dksX4_efficiency_0 9 rfl rfl)
theorem dX4_efficiency_12 : decode cX4_efficiency 12 = .ok (.iconst 1, 1) := dk_4 (dk_at dksX4_efficiency_0 12 rfl rfl)
theorem dX4_efficiency_13 : decode cX4_efficiency 13 = .ok (.iaload, 1) := dk_46 (dk_at dksX4_efficiency_0 13 rfl rfl)
theorem dX4_efficiency_14 : decode cX4_efficiency 14 = .ok (.invokevirtual 341, 3) := dk_182 1 85 (dk_at dksX4_efficiency_0 14 rfl rfl)
theorem dX4_efficiency_17 : decode cX4_efficiency 17 = .ok (.goto 4, 3) := dk_167 0 4 (dk_at dksX4_efficiency_0 17 rfl rfl)
theorem dX4_efficiency_20 : decode cX4_efficiency 20 = .ok (.iconst (-1), 1) := dk_2 (dk_at dksX4_efficiency_0 20 rfl rfl)
theorem dX4_efficiency_21 : decode cX4_efficiency 21 = .ok (.ireturn, 1) := dk_172 (dk_at dksX4_efficiency_0 21 rfl rfl)
abbrev cX4_efficiencyOf : ByteArray := prog_21_method_63_code
def yX4_efficiencyOf : MethodName := ⟨RX4, "efficiencyOf", "(I)I"⟩
def dkwX4_efficiencyOf_1 : List UInt8 := [154, 0, 7, 3, 167, 0, 14, 20, 1, 83, 42, 180, 1, 56, 105, 32, 109, 136, 172]
abbrev dktX4_efficiencyOf_1 : List UInt8 := dkwX4_efficiencyOf_1 ++ []
def dkwX4_efficiencyOf_0 : List UInt8 := [42, 27, 42, 180, 0, 9, 3, 46, 182, 1, 65, 42, 180, 1, 56, 42, 180, 1, 31, 97, 65, 32, 9, 148]
abbrev dktX4_efficiencyOf_0 : List UInt8 := dkwX4_efficiencyOf_0 ++ dktX4_efficiencyOf_1
theorem dksX4_efficiencyOf_0 : cX4_efficiencyOf.data.toList.drop 0 = dktX4_efficiencyOf_0 := by decide +kernel
theorem dksX4_efficiencyOf_1 : cX4_efficiencyOf.data.toList.drop 24 = dktX4_efficiencyOf_1 := dk_seg dksX4_efficiencyOf_0 24 rfl rfl
theorem dX4_efficiencyOf_0 : decode cX4_efficiencyOf 0 = .ok (.aload_n 0, 1) := dk_42 (dk_at dksX4_efficiencyOf_0 0 rfl rfl)
theorem dX4_efficiencyOf_1 : decode cX4_efficiencyOf 1 = .ok (.iload_n 1, 1) := dk_27 (dk_at dksX4_efficiencyOf_0 1 rfl rfl)
theorem dX4_efficiencyOf_2 : decode cX4_efficiencyOf 2 = .ok (.aload_n 0, 1) := dk_42 (dk_at dksX4_efficiencyOf_0 2 rfl rfl)
theorem dX4_efficiencyOf_3 : decode cX4_efficiencyOf 3 = .ok (.getfield 9, 3) := dk_180 0 9 (dk_at dksX4_efficiencyOf_0 3 rfl rfl)
theorem dX4_efficiencyOf_6 : decode cX4_efficiencyOf 6 = .ok (.iconst 0, 1) := dk_3 (dk_at dksX4_efficiencyOf_0 6 rfl rfl)
theorem dX4_efficiencyOf_7 : decode cX4_efficiencyOf 7 = .ok (.iaload, 1) := dk_46 (dk_at dksX4_efficiencyOf_0 7 rfl rfl)
theorem dX4_efficiencyOf_8 : decode cX4_efficiencyOf 8 = .ok (.invokevirtual 321, 3) := dk_182 1 65 (dk_at dksX4_efficiencyOf_0 8 rfl rfl)
theorem dX4_efficiencyOf_11 : decode cX4_efficiencyOf 11 = .ok (.aload_n 0, 1) := dk_42 (dk_at dksX4_efficiencyOf_0 11 rfl rfl)
theorem dX4_efficiencyOf_12 : decode cX4_efficiencyOf 12 = .ok (.getfield 312, 3) := dk_180 1 56 (dk_at dksX4_efficiencyOf_0 12 rfl rfl)
theorem dX4_efficiencyOf_15 : decode cX4_efficiencyOf 15 = .ok (.aload_n 0, 1) := dk_42 (dk_at dksX4_efficiencyOf_0 15 rfl rfl)
theorem dX4_efficiencyOf_16 : decode cX4_efficiencyOf 16 = .ok (.getfield 287, 3) := dk_180 1 31 (dk_at dksX4_efficiencyOf_0 16 rfl rfl)
theorem dX4_efficiencyOf_19 : decode cX4_efficiencyOf 19 = .ok (.ladd, 1) := dk_97 (dk_at dksX4_efficiencyOf_0 19 rfl rfl)
theorem dX4_efficiencyOf_20 : decode cX4_efficiencyOf 20 = .ok (.lstore_n 2, 1) := dk_65 (dk_at dksX4_efficiencyOf_0 20 rfl rfl)
theorem dX4_efficiencyOf_21 : decode cX4_efficiencyOf 21 = .ok (.lload_n 2, 1) := dk_32 (dk_at dksX4_efficiencyOf_0 21 rfl rfl)
theorem dX4_efficiencyOf_22 : decode cX4_efficiencyOf 22 = .ok (.lconst 0, 1) := dk_9 (dk_at dksX4_efficiencyOf_0 22 rfl rfl)
theorem dX4_efficiencyOf_23 : decode cX4_efficiencyOf 23 = .ok (.lcmp, 1) := dk_148 (dk_at dksX4_efficiencyOf_0 23 rfl rfl)
theorem dX4_efficiencyOf_24 : decode cX4_efficiencyOf 24 = .ok (.ifCond .ne 7, 3) := dk_154 0 7 (dk_at dksX4_efficiencyOf_1 0 rfl rfl)
theorem dX4_efficiencyOf_27 : decode cX4_efficiencyOf 27 = .ok (.iconst 0, 1) := dk_3 (dk_at dksX4_efficiencyOf_1 3 rfl rfl)
theorem dX4_efficiencyOf_28 : decode cX4_efficiencyOf 28 = .ok (.goto 14, 3) := dk_167 0 14 (dk_at dksX4_efficiencyOf_1 4 rfl rfl)
theorem dX4_efficiencyOf_31 : decode cX4_efficiencyOf 31 = .ok (.ldc2_w 339, 3) := dk_20 1 83 (dk_at dksX4_efficiencyOf_1 7 rfl rfl)
theorem dX4_efficiencyOf_34 : decode cX4_efficiencyOf 34 = .ok (.aload_n 0, 1) := dk_42 (dk_at dksX4_efficiencyOf_1 10 rfl rfl)
theorem dX4_efficiencyOf_35 : decode cX4_efficiencyOf 35 = .ok (.getfield 312, 3) := dk_180 1 56 (dk_at dksX4_efficiencyOf_1 11 rfl rfl)
theorem dX4_efficiencyOf_38 : decode cX4_efficiencyOf 38 = .ok (.lmul, 1) := dk_105 (dk_at dksX4_efficiencyOf_1 14 rfl rfl)
theorem dX4_efficiencyOf_39 : decode cX4_efficiencyOf 39 = .ok (.lload_n 2, 1) := dk_32 (dk_at dksX4_efficiencyOf_1 15 rfl rfl)
theorem dX4_efficiencyOf_40 : decode cX4_efficiencyOf 40 = .ok (.ldiv, 1) := dk_109 (dk_at dksX4_efficiencyOf_1 16 rfl rfl)
theorem dX4_efficiencyOf_41 : decode cX4_efficiencyOf 41 = .ok (.l2i, 1) := dk_136 (dk_at dksX4_efficiencyOf_1 17 rfl rfl)
theorem dX4_efficiencyOf_42 : decode cX4_efficiencyOf 42 = .ok (.ireturn, 1) := dk_172 (dk_at dksX4_efficiencyOf_1 18 rfl rfl)
abbrev cX4_capacitorVoltage : ByteArray := prog_21_method_67_code
def yX4_capacitorVoltage : MethodName := ⟨RX4, "capacitorVoltage", "()I"⟩
def dkwX4_capacitorVoltage_1 : List UInt8 := [2, 172]
abbrev dktX4_capacitorVoltage_1 : List UInt8 := dkwX4_capacitorVoltage_1 ++ []
def dkwX4_capacitorVoltage_0 : List UInt8 := [42, 180, 0, 194, 153, 0, 20, 42, 42, 180, 0, 9, 4, 46, 42, 180, 0, 207, 182, 1, 90, 167, 0, 4]
abbrev dktX4_capacitorVoltage_0 : List UInt8 := dkwX4_capacitorVoltage_0 ++ dktX4_capacitorVoltage_1
theorem dksX4_capacitorVoltage_0 : cX4_capacitorVoltage.data.toList.drop 0 = dktX4_capacitorVoltage_0 := by decide +kernel
theorem dksX4_capacitorVoltage_1 : cX4_capacitorVoltage.data.toList.drop 24 = dktX4_capacitorVoltage_1 := dk_seg dksX4_capacitorVoltage_0 24 rfl rfl
theorem dX4_capacitorVoltage_0 : decode cX4_capacitorVoltage 0 = .ok (.aload_n 0, 1) := dk_42 (dk_at dksX4_capacitorVoltage_0 0 rfl rfl)
theorem dX4_capacitorVoltage_1 : decode cX4_capacitorVoltage 1 = .ok (.getfield 194, 3) := dk_180 0 194 (dk_at dksX4_capacitorVoltage_0 1 rfl rfl)
theorem dX4_capacitorVoltage_4 : decode cX4_capacitorVoltage 4 = .ok (.ifCond .eq 20, 3) := dk_153 0 20 (dk_at dksX4_capacitorVoltage_0 4 rfl rfl)
theorem dX4_capacitorVoltage_7 : decode cX4_capacitorVoltage 7 = .ok (.aload_n 0, 1) := dk_42 (dk_at dksX4_capacitorVoltage_0 7 rfl rfl)
theorem dX4_capacitorVoltage_8 : decode cX4_capacitorVoltage 8 = .ok (.aload_n 0, 1) := dk_42 (dk_at dksX4_capacitorVoltage_0 8 rfl rfl)
theorem dX4_capacitorVoltage_9 : decode cX4_capacitorVoltage 9 = .ok (.getfield 9, 3) := dk_180 0 9 (dk_at dksX4_capacitorVoltage_0 9 rfl rfl)
theorem dX4_capacitorVoltage_12 : decode cX4_capacitorVoltage 12 = .ok (.iconst 1, 1) := dk_4 (dk_at dksX4_capacitorVoltage_0 12 rfl rfl)
theorem dX4_capacitorVoltage_13 : decode cX4_capacitorVoltage 13 = .ok (.iaload, 1) := dk_46 (dk_at dksX4_capacitorVoltage_0 13 rfl rfl)
theorem dX4_capacitorVoltage_14 : decode cX4_capacitorVoltage 14 = .ok (.aload_n 0, 1) := dk_42 (dk_at dksX4_capacitorVoltage_0 14 rfl rfl)
theorem dX4_capacitorVoltage_15 : decode cX4_capacitorVoltage 15 = .ok (.getfield 207, 3) := dk_180 0 207 (dk_at dksX4_capacitorVoltage_0 15 rfl rfl)
theorem dX4_capacitorVoltage_18 : decode cX4_capacitorVoltage 18 = .ok (.invokevirtual 346, 3) := dk_182 1 90 (dk_at dksX4_capacitorVoltage_0 18 rfl rfl)
theorem dX4_capacitorVoltage_21 : decode cX4_capacitorVoltage 21 = .ok (.goto 4, 3) := dk_167 0 4 (dk_at dksX4_capacitorVoltage_0 21 rfl rfl)
theorem dX4_capacitorVoltage_24 : decode cX4_capacitorVoltage 24 = .ok (.iconst (-1), 1) := dk_2 (dk_at dksX4_capacitorVoltage_1 0 rfl rfl)
theorem dX4_capacitorVoltage_25 : decode cX4_capacitorVoltage 25 = .ok (.ireturn, 1) := dk_172 (dk_at dksX4_capacitorVoltage_1 1 rfl rfl)
abbrev cX4_voltageOf : ByteArray := prog_21_method_64_code
def yX4_voltageOf : MethodName := ⟨RX4, "voltageOf", "(II)I"⟩
def dkwX4_voltageOf_5 : List UInt8 := [55, 11, 22, 5, 22, 11, 105, 20, 1, 83, 109, 184, 1, 70, 9, 20, 1, 75, 184, 1, 49, 136, 172]
abbrev dktX4_voltageOf_5 : List UInt8 := dkwX4_voltageOf_5 ++ []
def dkwX4_voltageOf_4 : List UInt8 := [105, 22, 9, 22, 9, 105, 97, 22, 7, 109, 55, 11, 22, 11, 20, 1, 88, 148, 158, 0, 8, 20, 1, 88]
abbrev dktX4_voltageOf_4 : List UInt8 := dkwX4_voltageOf_4 ++ dktX4_voltageOf_5
def dkwX4_voltageOf_3 : List UInt8 := [167, 0, 7, 42, 180, 1, 38, 55, 9, 22, 7, 9, 148, 154, 0, 7, 19, 1, 74, 172, 22, 7, 22, 7]
abbrev dktX4_voltageOf_3 : List UInt8 := dkwX4_voltageOf_3 ++ dktX4_voltageOf_4
def dkwX4_voltageOf_2 : List UInt8 := [42, 180, 1, 56, 167, 0, 7, 42, 180, 1, 35, 55, 7, 21, 4, 153, 0, 10, 42, 180, 1, 59]
abbrev dktX4_voltageOf_2 : List UInt8 := dkwX4_voltageOf_2 ++ dktX4_voltageOf_3
def dkwX4_voltageOf_1 : List UInt8 := [153, 0, 15, 28, 133, 29, 133, 105, 20, 1, 83, 109, 167, 0, 5, 28, 133, 55, 5, 21, 4, 153, 0, 10]
abbrev dktX4_voltageOf_1 : List UInt8 := dkwX4_voltageOf_1 ++ dktX4_voltageOf_2
def dkwX4_voltageOf_0 : List UInt8 := [42, 27, 182, 1, 85, 62, 27, 184, 1, 20, 154, 0, 7, 4, 167, 0, 4, 3, 54, 4, 21, 4]
abbrev dktX4_voltageOf_0 : List UInt8 := dkwX4_voltageOf_0 ++ dktX4_voltageOf_1
theorem dksX4_voltageOf_0 : cX4_voltageOf.data.toList.drop 0 = dktX4_voltageOf_0 := by decide +kernel
theorem dksX4_voltageOf_1 : cX4_voltageOf.data.toList.drop 22 = dktX4_voltageOf_1 := dk_seg dksX4_voltageOf_0 22 rfl rfl
theorem dksX4_voltageOf_2 : cX4_voltageOf.data.toList.drop 46 = dktX4_voltageOf_2 := dk_seg dksX4_voltageOf_1 24 rfl rfl
theorem dksX4_voltageOf_3 : cX4_voltageOf.data.toList.drop 68 = dktX4_voltageOf_3 := dk_seg dksX4_voltageOf_2 22 rfl rfl
theorem dksX4_voltageOf_4 : cX4_voltageOf.data.toList.drop 92 = dktX4_voltageOf_4 := dk_seg dksX4_voltageOf_3 24 rfl rfl
theorem dksX4_voltageOf_5 : cX4_voltageOf.data.toList.drop 116 = dktX4_voltageOf_5 := dk_seg dksX4_voltageOf_4 24 rfl rfl
theorem dX4_voltageOf_0 : decode cX4_voltageOf 0 = .ok (.aload_n 0, 1) := dk_42 (dk_at dksX4_voltageOf_0 0 rfl rfl)
theorem dX4_voltageOf_1 : decode cX4_voltageOf 1 = .ok (.iload_n 1, 1) := dk_27 (dk_at dksX4_voltageOf_0 1 rfl rfl)
theorem dX4_voltageOf_2 : decode cX4_voltageOf 2 = .ok (.invokevirtual 341, 3) := dk_182 1 85 (dk_at dksX4_voltageOf_0 2 rfl rfl)
theorem dX4_voltageOf_5 : decode cX4_voltageOf 5 = .ok (.istore_n 3, 1) := dk_62 (dk_at dksX4_voltageOf_0 5 rfl rfl)
theorem dX4_voltageOf_6 : decode cX4_voltageOf 6 = .ok (.iload_n 1, 1) := dk_27 (dk_at dksX4_voltageOf_0 6 rfl rfl)
theorem dX4_voltageOf_7 : decode cX4_voltageOf 7 = .ok (.invokestatic 276, 3) := dk_184 1 20 (dk_at dksX4_voltageOf_0 7 rfl rfl)
theorem dX4_voltageOf_10 : decode cX4_voltageOf 10 = .ok (.ifCond .ne 7, 3) := dk_154 0 7 (dk_at dksX4_voltageOf_0 10 rfl rfl)
theorem dX4_voltageOf_13 : decode cX4_voltageOf 13 = .ok (.iconst 1, 1) := dk_4 (dk_at dksX4_voltageOf_0 13 rfl rfl)
theorem dX4_voltageOf_14 : decode cX4_voltageOf 14 = .ok (.goto 4, 3) := dk_167 0 4 (dk_at dksX4_voltageOf_0 14 rfl rfl)
theorem dX4_voltageOf_17 : decode cX4_voltageOf 17 = .ok (.iconst 0, 1) := dk_3 (dk_at dksX4_voltageOf_0 17 rfl rfl)
theorem dX4_voltageOf_18 : decode cX4_voltageOf 18 = .ok (.istore 4, 2) := dk_54 4 (dk_at dksX4_voltageOf_0 18 rfl rfl)
theorem dX4_voltageOf_20 : decode cX4_voltageOf 20 = .ok (.iload 4, 2) := dk_21 4 (dk_at dksX4_voltageOf_0 20 rfl rfl)
theorem dX4_voltageOf_22 : decode cX4_voltageOf 22 = .ok (.ifCond .eq 15, 3) := dk_153 0 15 (dk_at dksX4_voltageOf_1 0 rfl rfl)
theorem dX4_voltageOf_25 : decode cX4_voltageOf 25 = .ok (.iload_n 2, 1) := dk_28 (dk_at dksX4_voltageOf_1 3 rfl rfl)
theorem dX4_voltageOf_26 : decode cX4_voltageOf 26 = .ok (.i2l, 1) := dk_133 (dk_at dksX4_voltageOf_1 4 rfl rfl)
theorem dX4_voltageOf_27 : decode cX4_voltageOf 27 = .ok (.iload_n 3, 1) := dk_29 (dk_at dksX4_voltageOf_1 5 rfl rfl)
theorem dX4_voltageOf_28 : decode cX4_voltageOf 28 = .ok (.i2l, 1) := dk_133 (dk_at dksX4_voltageOf_1 6 rfl rfl)
theorem dX4_voltageOf_29 : decode cX4_voltageOf 29 = .ok (.lmul, 1) := dk_105 (dk_at dksX4_voltageOf_1 7 rfl rfl)
theorem dX4_voltageOf_30 : decode cX4_voltageOf 30 = .ok (.ldc2_w 339, 3) := dk_20 1 83 (dk_at dksX4_voltageOf_1 8 rfl rfl)
theorem dX4_voltageOf_33 : decode cX4_voltageOf 33 = .ok (.ldiv, 1) := dk_109 (dk_at dksX4_voltageOf_1 11 rfl rfl)
theorem dX4_voltageOf_34 : decode cX4_voltageOf 34 = .ok (.goto 5, 3) := dk_167 0 5 (dk_at dksX4_voltageOf_1 12 rfl rfl)
theorem dX4_voltageOf_37 : decode cX4_voltageOf 37 = .ok (.iload_n 2, 1) := dk_28 (dk_at dksX4_voltageOf_1 15 rfl rfl)
theorem dX4_voltageOf_38 : decode cX4_voltageOf 38 = .ok (.i2l, 1) := dk_133 (dk_at dksX4_voltageOf_1 16 rfl rfl)
theorem dX4_voltageOf_39 : decode cX4_voltageOf 39 = .ok (.lstore 5, 2) := dk_55 5 (dk_at dksX4_voltageOf_1 17 rfl rfl)
theorem dX4_voltageOf_41 : decode cX4_voltageOf 41 = .ok (.iload 4, 2) := dk_21 4 (dk_at dksX4_voltageOf_1 19 rfl rfl)
theorem dX4_voltageOf_43 : decode cX4_voltageOf 43 = .ok (.ifCond .eq 10, 3) := dk_153 0 10 (dk_at dksX4_voltageOf_1 21 rfl rfl)
theorem dX4_voltageOf_46 : decode cX4_voltageOf 46 = .ok (.aload_n 0, 1) := dk_42 (dk_at dksX4_voltageOf_2 0 rfl rfl)
theorem dX4_voltageOf_47 : decode cX4_voltageOf 47 = .ok (.getfield 312, 3) := dk_180 1 56 (dk_at dksX4_voltageOf_2 1 rfl rfl)
theorem dX4_voltageOf_50 : decode cX4_voltageOf 50 = .ok (.goto 7, 3) := dk_167 0 7 (dk_at dksX4_voltageOf_2 4 rfl rfl)
theorem dX4_voltageOf_53 : decode cX4_voltageOf 53 = .ok (.aload_n 0, 1) := dk_42 (dk_at dksX4_voltageOf_2 7 rfl rfl)
theorem dX4_voltageOf_54 : decode cX4_voltageOf 54 = .ok (.getfield 291, 3) := dk_180 1 35 (dk_at dksX4_voltageOf_2 8 rfl rfl)
theorem dX4_voltageOf_57 : decode cX4_voltageOf 57 = .ok (.lstore 7, 2) := dk_55 7 (dk_at dksX4_voltageOf_2 11 rfl rfl)
theorem dX4_voltageOf_59 : decode cX4_voltageOf 59 = .ok (.iload 4, 2) := dk_21 4 (dk_at dksX4_voltageOf_2 13 rfl rfl)
theorem dX4_voltageOf_61 : decode cX4_voltageOf 61 = .ok (.ifCond .eq 10, 3) := dk_153 0 10 (dk_at dksX4_voltageOf_2 15 rfl rfl)
theorem dX4_voltageOf_64 : decode cX4_voltageOf 64 = .ok (.aload_n 0, 1) := dk_42 (dk_at dksX4_voltageOf_2 18 rfl rfl)
theorem dX4_voltageOf_65 : decode cX4_voltageOf 65 = .ok (.getfield 315, 3) := dk_180 1 59 (dk_at dksX4_voltageOf_2 19 rfl rfl)
theorem dX4_voltageOf_68 : decode cX4_voltageOf 68 = .ok (.goto 7, 3) := dk_167 0 7 (dk_at dksX4_voltageOf_3 0 rfl rfl)
theorem dX4_voltageOf_71 : decode cX4_voltageOf 71 = .ok (.aload_n 0, 1) := dk_42 (dk_at dksX4_voltageOf_3 3 rfl rfl)
theorem dX4_voltageOf_72 : decode cX4_voltageOf 72 = .ok (.getfield 294, 3) := dk_180 1 38 (dk_at dksX4_voltageOf_3 4 rfl rfl)
theorem dX4_voltageOf_75 : decode cX4_voltageOf 75 = .ok (.lstore 9, 2) := dk_55 9 (dk_at dksX4_voltageOf_3 7 rfl rfl)
theorem dX4_voltageOf_77 : decode cX4_voltageOf 77 = .ok (.lload 7, 2) := dk_22 7 (dk_at dksX4_voltageOf_3 9 rfl rfl)
theorem dX4_voltageOf_79 : decode cX4_voltageOf 79 = .ok (.lconst 0, 1) := dk_9 (dk_at dksX4_voltageOf_3 11 rfl rfl)
theorem dX4_voltageOf_80 : decode cX4_voltageOf 80 = .ok (.lcmp, 1) := dk_148 (dk_at dksX4_voltageOf_3 12 rfl rfl)
theorem dX4_voltageOf_81 : decode cX4_voltageOf 81 = .ok (.ifCond .ne 7, 3) := dk_154 0 7 (dk_at dksX4_voltageOf_3 13 rfl rfl)
theorem dX4_voltageOf_84 : decode cX4_voltageOf 84 = .ok (.ldc_w 330, 3) := dk_19 1 74 (dk_at dksX4_voltageOf_3 16 rfl rfl)
theorem dX4_voltageOf_87 : decode cX4_voltageOf 87 = .ok (.ireturn, 1) := dk_172 (dk_at dksX4_voltageOf_3 19 rfl rfl)
theorem dX4_voltageOf_88 : decode cX4_voltageOf 88 = .ok (.lload 7, 2) := dk_22 7 (dk_at dksX4_voltageOf_3 20 rfl rfl)
theorem dX4_voltageOf_90 : decode cX4_voltageOf 90 = .ok (.lload 7, 2) := dk_22 7 (dk_at dksX4_voltageOf_3 22 rfl rfl)
theorem dX4_voltageOf_92 : decode cX4_voltageOf 92 = .ok (.lmul, 1) := dk_105 (dk_at dksX4_voltageOf_4 0 rfl rfl)
theorem dX4_voltageOf_93 : decode cX4_voltageOf 93 = .ok (.lload 9, 2) := dk_22 9 (dk_at dksX4_voltageOf_4 1 rfl rfl)
theorem dX4_voltageOf_95 : decode cX4_voltageOf 95 = .ok (.lload 9, 2) := dk_22 9 (dk_at dksX4_voltageOf_4 3 rfl rfl)
theorem dX4_voltageOf_97 : decode cX4_voltageOf 97 = .ok (.lmul, 1) := dk_105 (dk_at dksX4_voltageOf_4 5 rfl rfl)
theorem dX4_voltageOf_98 : decode cX4_voltageOf 98 = .ok (.ladd, 1) := dk_97 (dk_at dksX4_voltageOf_4 6 rfl rfl)
theorem dX4_voltageOf_99 : decode cX4_voltageOf 99 = .ok (.lload 7, 2) := dk_22 7 (dk_at dksX4_voltageOf_4 7 rfl rfl)
theorem dX4_voltageOf_101 : decode cX4_voltageOf 101 = .ok (.ldiv, 1) := dk_109 (dk_at dksX4_voltageOf_4 9 rfl rfl)
theorem dX4_voltageOf_102 : decode cX4_voltageOf 102 = .ok (.lstore 11, 2) := dk_55 11 (dk_at dksX4_voltageOf_4 10 rfl rfl)
theorem dX4_voltageOf_104 : decode cX4_voltageOf 104 = .ok (.lload 11, 2) := dk_22 11 (dk_at dksX4_voltageOf_4 12 rfl rfl)
theorem dX4_voltageOf_106 : decode cX4_voltageOf 106 = .ok (.ldc2_w 344, 3) := dk_20 1 88 (dk_at dksX4_voltageOf_4 14 rfl rfl)
theorem dX4_voltageOf_109 : decode cX4_voltageOf 109 = .ok (.lcmp, 1) := dk_148 (dk_at dksX4_voltageOf_4 17 rfl rfl)
theorem dX4_voltageOf_110 : decode cX4_voltageOf 110 = .ok (.ifCond .le 8, 3) := dk_158 0 8 (dk_at dksX4_voltageOf_4 18 rfl rfl)
theorem dX4_voltageOf_113 : decode cX4_voltageOf 113 = .ok (.ldc2_w 344, 3) := dk_20 1 88 (dk_at dksX4_voltageOf_4 21 rfl rfl)
theorem dX4_voltageOf_116 : decode cX4_voltageOf 116 = .ok (.lstore 11, 2) := dk_55 11 (dk_at dksX4_voltageOf_5 0 rfl rfl)
theorem dX4_voltageOf_118 : decode cX4_voltageOf 118 = .ok (.lload 5, 2) := dk_22 5 (dk_at dksX4_voltageOf_5 2 rfl rfl)
theorem dX4_voltageOf_120 : decode cX4_voltageOf 120 = .ok (.lload 11, 2) := dk_22 11 (dk_at dksX4_voltageOf_5 4 rfl rfl)
theorem dX4_voltageOf_122 : decode cX4_voltageOf 122 = .ok (.lmul, 1) := dk_105 (dk_at dksX4_voltageOf_5 6 rfl rfl)
theorem dX4_voltageOf_123 : decode cX4_voltageOf 123 = .ok (.ldc2_w 339, 3) := dk_20 1 83 (dk_at dksX4_voltageOf_5 7 rfl rfl)
theorem dX4_voltageOf_126 : decode cX4_voltageOf 126 = .ok (.ldiv, 1) := dk_109 (dk_at dksX4_voltageOf_5 10 rfl rfl)
theorem dX4_voltageOf_127 : decode cX4_voltageOf 127 = .ok (.invokestatic 326, 3) := dk_184 1 70 (dk_at dksX4_voltageOf_5 11 rfl rfl)
theorem dX4_voltageOf_130 : decode cX4_voltageOf 130 = .ok (.lconst 0, 1) := dk_9 (dk_at dksX4_voltageOf_5 14 rfl rfl)
theorem dX4_voltageOf_131 : decode cX4_voltageOf 131 = .ok (.ldc2_w 331, 3) := dk_20 1 75 (dk_at dksX4_voltageOf_5 15 rfl rfl)
theorem dX4_voltageOf_134 : decode cX4_voltageOf 134 = .ok (.invokestatic 305, 3) := dk_184 1 49 (dk_at dksX4_voltageOf_5 18 rfl rfl)
theorem dX4_voltageOf_137 : decode cX4_voltageOf 137 = .ok (.l2i, 1) := dk_136 (dk_at dksX4_voltageOf_5 21 rfl rfl)
theorem dX4_voltageOf_138 : decode cX4_voltageOf 138 = .ok (.ireturn, 1) := dk_172 (dk_at dksX4_voltageOf_5 22 rfl rfl)
abbrev cX4_greatestPower : ByteArray := prog_21_method_68_code
def yX4_greatestPower : MethodName := ⟨RX4, "greatestPower", "()I"⟩
def dkwX4_greatestPower_1 : List UInt8 := [27, 182, 1, 90, 42, 180, 0, 210, 163, 0, 5, 27, 172, 132, 1, 255, 167, 255, 229, 16, 254, 172]
abbrev dktX4_greatestPower_1 : List UInt8 := dkwX4_greatestPower_1 ++ []
def dkwX4_greatestPower_0 : List UInt8 := [42, 180, 0, 194, 154, 0, 5, 2, 172, 17, 5, 220, 60, 27, 158, 0, 29, 42, 42, 180, 0, 9, 4, 46]
abbrev dktX4_greatestPower_0 : List UInt8 := dkwX4_greatestPower_0 ++ dktX4_greatestPower_1
theorem dksX4_greatestPower_0 : cX4_greatestPower.data.toList.drop 0 = dktX4_greatestPower_0 := by decide +kernel
theorem dksX4_greatestPower_1 : cX4_greatestPower.data.toList.drop 24 = dktX4_greatestPower_1 := dk_seg dksX4_greatestPower_0 24 rfl rfl
theorem dX4_greatestPower_0 : decode cX4_greatestPower 0 = .ok (.aload_n 0, 1) := dk_42 (dk_at dksX4_greatestPower_0 0 rfl rfl)
theorem dX4_greatestPower_1 : decode cX4_greatestPower 1 = .ok (.getfield 194, 3) := dk_180 0 194 (dk_at dksX4_greatestPower_0 1 rfl rfl)
theorem dX4_greatestPower_4 : decode cX4_greatestPower 4 = .ok (.ifCond .ne 5, 3) := dk_154 0 5 (dk_at dksX4_greatestPower_0 4 rfl rfl)
theorem dX4_greatestPower_7 : decode cX4_greatestPower 7 = .ok (.iconst (-1), 1) := dk_2 (dk_at dksX4_greatestPower_0 7 rfl rfl)
theorem dX4_greatestPower_8 : decode cX4_greatestPower 8 = .ok (.ireturn, 1) := dk_172 (dk_at dksX4_greatestPower_0 8 rfl rfl)
theorem dX4_greatestPower_9 : decode cX4_greatestPower 9 = .ok (.sipush 1500, 3) := dk_17 5 220 (dk_at dksX4_greatestPower_0 9 rfl rfl)
theorem dX4_greatestPower_12 : decode cX4_greatestPower 12 = .ok (.istore_n 1, 1) := dk_60 (dk_at dksX4_greatestPower_0 12 rfl rfl)
theorem dX4_greatestPower_13 : decode cX4_greatestPower 13 = .ok (.iload_n 1, 1) := dk_27 (dk_at dksX4_greatestPower_0 13 rfl rfl)
theorem dX4_greatestPower_14 : decode cX4_greatestPower 14 = .ok (.ifCond .le 29, 3) := dk_158 0 29 (dk_at dksX4_greatestPower_0 14 rfl rfl)
theorem dX4_greatestPower_17 : decode cX4_greatestPower 17 = .ok (.aload_n 0, 1) := dk_42 (dk_at dksX4_greatestPower_0 17 rfl rfl)
theorem dX4_greatestPower_18 : decode cX4_greatestPower 18 = .ok (.aload_n 0, 1) := dk_42 (dk_at dksX4_greatestPower_0 18 rfl rfl)
theorem dX4_greatestPower_19 : decode cX4_greatestPower 19 = .ok (.getfield 9, 3) := dk_180 0 9 (dk_at dksX4_greatestPower_0 19 rfl rfl)
theorem dX4_greatestPower_22 : decode cX4_greatestPower 22 = .ok (.iconst 1, 1) := dk_4 (dk_at dksX4_greatestPower_0 22 rfl rfl)
theorem dX4_greatestPower_23 : decode cX4_greatestPower 23 = .ok (.iaload, 1) := dk_46 (dk_at dksX4_greatestPower_0 23 rfl rfl)
theorem dX4_greatestPower_24 : decode cX4_greatestPower 24 = .ok (.iload_n 1, 1) := dk_27 (dk_at dksX4_greatestPower_1 0 rfl rfl)
theorem dX4_greatestPower_25 : decode cX4_greatestPower 25 = .ok (.invokevirtual 346, 3) := dk_182 1 90 (dk_at dksX4_greatestPower_1 1 rfl rfl)
theorem dX4_greatestPower_28 : decode cX4_greatestPower 28 = .ok (.aload_n 0, 1) := dk_42 (dk_at dksX4_greatestPower_1 4 rfl rfl)
theorem dX4_greatestPower_29 : decode cX4_greatestPower 29 = .ok (.getfield 210, 3) := dk_180 0 210 (dk_at dksX4_greatestPower_1 5 rfl rfl)
theorem dX4_greatestPower_32 : decode cX4_greatestPower 32 = .ok (.if_icmp .gt 5, 3) := dk_163 0 5 (dk_at dksX4_greatestPower_1 8 rfl rfl)
theorem dX4_greatestPower_35 : decode cX4_greatestPower 35 = .ok (.iload_n 1, 1) := dk_27 (dk_at dksX4_greatestPower_1 11 rfl rfl)
theorem dX4_greatestPower_36 : decode cX4_greatestPower 36 = .ok (.ireturn, 1) := dk_172 (dk_at dksX4_greatestPower_1 12 rfl rfl)
theorem dX4_greatestPower_37 : decode cX4_greatestPower 37 = .ok (.iinc 1 (-1), 3) := dk_132 1 255 (dk_at dksX4_greatestPower_1 13 rfl rfl)
theorem dX4_greatestPower_40 : decode cX4_greatestPower 40 = .ok (.goto (-27), 3) := dk_167 255 229 (dk_at dksX4_greatestPower_1 16 rfl rfl)
theorem dX4_greatestPower_43 : decode cX4_greatestPower 43 = .ok (.bipush (-2), 2) := dk_16 254 (dk_at dksX4_greatestPower_1 19 rfl rfl)
theorem dX4_greatestPower_45 : decode cX4_greatestPower 45 = .ok (.ireturn, 1) := dk_172 (dk_at dksX4_greatestPower_1 21 rfl rfl)
abbrev cX4_highestMatched : ByteArray := prog_21_method_70_code
def yX4_highestMatched : MethodName := ⟨RX4, "highestMatched", "()I"⟩
def dkwX4_highestMatched_0 : List UInt8 := [42, 180, 0, 194, 153, 0, 12, 42, 16, 10, 182, 1, 93, 167, 0, 4, 2, 172]
abbrev dktX4_highestMatched_0 : List UInt8 := dkwX4_highestMatched_0 ++ []
theorem dksX4_highestMatched_0 : cX4_highestMatched.data.toList.drop 0 = dktX4_highestMatched_0 := by decide +kernel
theorem dX4_highestMatched_0 : decode cX4_highestMatched 0 = .ok (.aload_n 0, 1) := dk_42 (dk_at dksX4_highestMatched_0 0 rfl rfl)
theorem dX4_highestMatched_1 : decode cX4_highestMatched 1 = .ok (.getfield 194, 3) := dk_180 0 194 (dk_at dksX4_highestMatched_0 1 rfl rfl)
theorem dX4_highestMatched_4 : decode cX4_highestMatched 4 = .ok (.ifCond .eq 12, 3) := dk_153 0 12 (dk_at dksX4_highestMatched_0 4 rfl rfl)
theorem dX4_highestMatched_7 : decode cX4_highestMatched 7 = .ok (.aload_n 0, 1) := dk_42 (dk_at dksX4_highestMatched_0 7 rfl rfl)
theorem dX4_highestMatched_8 : decode cX4_highestMatched 8 = .ok (.bipush 10, 2) := dk_16 10 (dk_at dksX4_highestMatched_0 8 rfl rfl)
theorem dX4_highestMatched_10 : decode cX4_highestMatched 10 = .ok (.invokevirtual 349, 3) := dk_182 1 93 (dk_at dksX4_highestMatched_0 10 rfl rfl)
theorem dX4_highestMatched_13 : decode cX4_highestMatched 13 = .ok (.goto 4, 3) := dk_167 0 4 (dk_at dksX4_highestMatched_0 13 rfl rfl)
theorem dX4_highestMatched_16 : decode cX4_highestMatched 16 = .ok (.iconst (-1), 1) := dk_2 (dk_at dksX4_highestMatched_0 16 rfl rfl)
theorem dX4_highestMatched_17 : decode cX4_highestMatched 17 = .ok (.ireturn, 1) := dk_172 (dk_at dksX4_highestMatched_0 17 rfl rfl)
abbrev cX4_lastMatched : ByteArray := prog_21_method_69_code
def yX4_lastMatched : MethodName := ⟨RX4, "lastMatched", "(I)I"⟩
def dkwX4_lastMatched_1 : List UInt8 := [29, 182, 1, 77, 42, 180, 0, 213, 163, 0, 12, 29, 61, 29, 27, 96, 62, 167, 255, 225, 28, 172]
abbrev dktX4_lastMatched_1 : List UInt8 := dkwX4_lastMatched_1 ++ []
def dkwX4_lastMatched_0 : List UInt8 := [16, 254, 61, 42, 180, 0, 9, 3, 46, 62, 29, 184, 0, 239, 153, 0, 30, 42, 42, 180, 0, 9, 4, 46]
abbrev dktX4_lastMatched_0 : List UInt8 := dkwX4_lastMatched_0 ++ dktX4_lastMatched_1
theorem dksX4_lastMatched_0 : cX4_lastMatched.data.toList.drop 0 = dktX4_lastMatched_0 := by decide +kernel
theorem dksX4_lastMatched_1 : cX4_lastMatched.data.toList.drop 24 = dktX4_lastMatched_1 := dk_seg dksX4_lastMatched_0 24 rfl rfl
theorem dX4_lastMatched_0 : decode cX4_lastMatched 0 = .ok (.bipush (-2), 2) := dk_16 254 (dk_at dksX4_lastMatched_0 0 rfl rfl)
theorem dX4_lastMatched_2 : decode cX4_lastMatched 2 = .ok (.istore_n 2, 1) := dk_61 (dk_at dksX4_lastMatched_0 2 rfl rfl)
theorem dX4_lastMatched_3 : decode cX4_lastMatched 3 = .ok (.aload_n 0, 1) := dk_42 (dk_at dksX4_lastMatched_0 3 rfl rfl)
theorem dX4_lastMatched_4 : decode cX4_lastMatched 4 = .ok (.getfield 9, 3) := dk_180 0 9 (dk_at dksX4_lastMatched_0 4 rfl rfl)
theorem dX4_lastMatched_7 : decode cX4_lastMatched 7 = .ok (.iconst 0, 1) := dk_3 (dk_at dksX4_lastMatched_0 7 rfl rfl)
theorem dX4_lastMatched_8 : decode cX4_lastMatched 8 = .ok (.iaload, 1) := dk_46 (dk_at dksX4_lastMatched_0 8 rfl rfl)
theorem dX4_lastMatched_9 : decode cX4_lastMatched 9 = .ok (.istore_n 3, 1) := dk_62 (dk_at dksX4_lastMatched_0 9 rfl rfl)
theorem dX4_lastMatched_10 : decode cX4_lastMatched 10 = .ok (.iload_n 3, 1) := dk_29 (dk_at dksX4_lastMatched_0 10 rfl rfl)
theorem dX4_lastMatched_11 : decode cX4_lastMatched 11 = .ok (.invokestatic 239, 3) := dk_184 0 239 (dk_at dksX4_lastMatched_0 11 rfl rfl)
theorem dX4_lastMatched_14 : decode cX4_lastMatched 14 = .ok (.ifCond .eq 30, 3) := dk_153 0 30 (dk_at dksX4_lastMatched_0 14 rfl rfl)
theorem dX4_lastMatched_17 : decode cX4_lastMatched 17 = .ok (.aload_n 0, 1) := dk_42 (dk_at dksX4_lastMatched_0 17 rfl rfl)
theorem dX4_lastMatched_18 : decode cX4_lastMatched 18 = .ok (.aload_n 0, 1) := dk_42 (dk_at dksX4_lastMatched_0 18 rfl rfl)
theorem dX4_lastMatched_19 : decode cX4_lastMatched 19 = .ok (.getfield 9, 3) := dk_180 0 9 (dk_at dksX4_lastMatched_0 19 rfl rfl)
theorem dX4_lastMatched_22 : decode cX4_lastMatched 22 = .ok (.iconst 1, 1) := dk_4 (dk_at dksX4_lastMatched_0 22 rfl rfl)
theorem dX4_lastMatched_23 : decode cX4_lastMatched 23 = .ok (.iaload, 1) := dk_46 (dk_at dksX4_lastMatched_0 23 rfl rfl)
theorem dX4_lastMatched_24 : decode cX4_lastMatched 24 = .ok (.iload_n 3, 1) := dk_29 (dk_at dksX4_lastMatched_1 0 rfl rfl)
theorem dX4_lastMatched_25 : decode cX4_lastMatched 25 = .ok (.invokevirtual 333, 3) := dk_182 1 77 (dk_at dksX4_lastMatched_1 1 rfl rfl)
theorem dX4_lastMatched_28 : decode cX4_lastMatched 28 = .ok (.aload_n 0, 1) := dk_42 (dk_at dksX4_lastMatched_1 4 rfl rfl)
theorem dX4_lastMatched_29 : decode cX4_lastMatched 29 = .ok (.getfield 213, 3) := dk_180 0 213 (dk_at dksX4_lastMatched_1 5 rfl rfl)
theorem dX4_lastMatched_32 : decode cX4_lastMatched 32 = .ok (.if_icmp .gt 12, 3) := dk_163 0 12 (dk_at dksX4_lastMatched_1 8 rfl rfl)
theorem dX4_lastMatched_35 : decode cX4_lastMatched 35 = .ok (.iload_n 3, 1) := dk_29 (dk_at dksX4_lastMatched_1 11 rfl rfl)
theorem dX4_lastMatched_36 : decode cX4_lastMatched 36 = .ok (.istore_n 2, 1) := dk_61 (dk_at dksX4_lastMatched_1 12 rfl rfl)
theorem dX4_lastMatched_37 : decode cX4_lastMatched 37 = .ok (.iload_n 3, 1) := dk_29 (dk_at dksX4_lastMatched_1 13 rfl rfl)
theorem dX4_lastMatched_38 : decode cX4_lastMatched 38 = .ok (.iload_n 1, 1) := dk_27 (dk_at dksX4_lastMatched_1 14 rfl rfl)
theorem dX4_lastMatched_39 : decode cX4_lastMatched 39 = .ok (.iadd, 1) := dk_96 (dk_at dksX4_lastMatched_1 15 rfl rfl)
theorem dX4_lastMatched_40 : decode cX4_lastMatched 40 = .ok (.istore_n 3, 1) := dk_62 (dk_at dksX4_lastMatched_1 16 rfl rfl)
theorem dX4_lastMatched_41 : decode cX4_lastMatched 41 = .ok (.goto (-31), 3) := dk_167 255 225 (dk_at dksX4_lastMatched_1 17 rfl rfl)
theorem dX4_lastMatched_44 : decode cX4_lastMatched 44 = .ok (.iload_n 2, 1) := dk_28 (dk_at dksX4_lastMatched_1 20 rfl rfl)
theorem dX4_lastMatched_45 : decode cX4_lastMatched 45 = .ok (.ireturn, 1) := dk_172 (dk_at dksX4_lastMatched_1 21 rfl rfl)
abbrev cX4_lowestMatched : ByteArray := prog_21_method_71_code
def yX4_lowestMatched : MethodName := ⟨RX4, "lowestMatched", "()I"⟩
def dkwX4_lowestMatched_0 : List UInt8 := [42, 180, 0, 194, 153, 0, 12, 42, 16, 246, 182, 1, 93, 167, 0, 4, 2, 172]
abbrev dktX4_lowestMatched_0 : List UInt8 := dkwX4_lowestMatched_0 ++ []
theorem dksX4_lowestMatched_0 : cX4_lowestMatched.data.toList.drop 0 = dktX4_lowestMatched_0 := by decide +kernel
theorem dX4_lowestMatched_0 : decode cX4_lowestMatched 0 = .ok (.aload_n 0, 1) := dk_42 (dk_at dksX4_lowestMatched_0 0 rfl rfl)
theorem dX4_lowestMatched_1 : decode cX4_lowestMatched 1 = .ok (.getfield 194, 3) := dk_180 0 194 (dk_at dksX4_lowestMatched_0 1 rfl rfl)
theorem dX4_lowestMatched_4 : decode cX4_lowestMatched 4 = .ok (.ifCond .eq 12, 3) := dk_153 0 12 (dk_at dksX4_lowestMatched_0 4 rfl rfl)
theorem dX4_lowestMatched_7 : decode cX4_lowestMatched 7 = .ok (.aload_n 0, 1) := dk_42 (dk_at dksX4_lowestMatched_0 7 rfl rfl)
theorem dX4_lowestMatched_8 : decode cX4_lowestMatched 8 = .ok (.bipush (-10), 2) := dk_16 246 (dk_at dksX4_lowestMatched_0 8 rfl rfl)
theorem dX4_lowestMatched_10 : decode cX4_lowestMatched 10 = .ok (.invokevirtual 349, 3) := dk_182 1 93 (dk_at dksX4_lowestMatched_0 10 rfl rfl)
theorem dX4_lowestMatched_13 : decode cX4_lowestMatched 13 = .ok (.goto 4, 3) := dk_167 0 4 (dk_at dksX4_lowestMatched_0 13 rfl rfl)
theorem dX4_lowestMatched_16 : decode cX4_lowestMatched 16 = .ok (.iconst (-1), 1) := dk_2 (dk_at dksX4_lowestMatched_0 16 rfl rfl)
theorem dX4_lowestMatched_17 : decode cX4_lowestMatched 17 = .ok (.ireturn, 1) := dk_172 (dk_at dksX4_lowestMatched_0 17 rfl rfl)
abbrev cX4_worstInBand : ByteArray := prog_21_method_72_code
def yX4_worstInBand : MethodName := ⟨RX4, "worstInBand", "(I)I"⟩
def dkwX4_worstInBand_3 : List UInt8 := [164, 0, 9, 21, 4, 61, 21, 5, 62, 132, 4, 10, 167, 255, 216, 28, 172]
abbrev dktX4_worstInBand_3 : List UInt8 := dkwX4_worstInBand_3 ++ []
def dkwX4_worstInBand_2 : List UInt8 := [27, 46, 163, 0, 35, 42, 42, 180, 0, 9, 4, 46, 21, 4, 182, 1, 77, 54, 5, 21, 5, 29]
abbrev dktX4_worstInBand_2 : List UInt8 := dkwX4_worstInBand_2 ++ dktX4_worstInBand_3
def dkwX4_worstInBand_1 : List UInt8 := [172, 42, 180, 0, 27, 27, 46, 61, 3, 62, 42, 180, 0, 27, 27, 46, 54, 4, 21, 4, 42, 180, 0, 30]
abbrev dktX4_worstInBand_1 : List UInt8 := dkwX4_worstInBand_1 ++ dktX4_worstInBand_2
def dkwX4_worstInBand_0 : List UInt8 := [42, 180, 0, 194, 153, 0, 19, 27, 133, 9, 42, 180, 0, 216, 4, 100, 133, 184, 0, 75, 154, 0, 5, 2]
abbrev dktX4_worstInBand_0 : List UInt8 := dkwX4_worstInBand_0 ++ dktX4_worstInBand_1
theorem dksX4_worstInBand_0 : cX4_worstInBand.data.toList.drop 0 = dktX4_worstInBand_0 := by decide +kernel
theorem dksX4_worstInBand_1 : cX4_worstInBand.data.toList.drop 24 = dktX4_worstInBand_1 := dk_seg dksX4_worstInBand_0 24 rfl rfl
theorem dksX4_worstInBand_2 : cX4_worstInBand.data.toList.drop 48 = dktX4_worstInBand_2 := dk_seg dksX4_worstInBand_1 24 rfl rfl
theorem dksX4_worstInBand_3 : cX4_worstInBand.data.toList.drop 70 = dktX4_worstInBand_3 := dk_seg dksX4_worstInBand_2 22 rfl rfl
theorem dX4_worstInBand_0 : decode cX4_worstInBand 0 = .ok (.aload_n 0, 1) := dk_42 (dk_at dksX4_worstInBand_0 0 rfl rfl)
theorem dX4_worstInBand_1 : decode cX4_worstInBand 1 = .ok (.getfield 194, 3) := dk_180 0 194 (dk_at dksX4_worstInBand_0 1 rfl rfl)
theorem dX4_worstInBand_4 : decode cX4_worstInBand 4 = .ok (.ifCond .eq 19, 3) := dk_153 0 19 (dk_at dksX4_worstInBand_0 4 rfl rfl)
theorem dX4_worstInBand_7 : decode cX4_worstInBand 7 = .ok (.iload_n 1, 1) := dk_27 (dk_at dksX4_worstInBand_0 7 rfl rfl)
theorem dX4_worstInBand_8 : decode cX4_worstInBand 8 = .ok (.i2l, 1) := dk_133 (dk_at dksX4_worstInBand_0 8 rfl rfl)
theorem dX4_worstInBand_9 : decode cX4_worstInBand 9 = .ok (.lconst 0, 1) := dk_9 (dk_at dksX4_worstInBand_0 9 rfl rfl)
theorem dX4_worstInBand_10 : decode cX4_worstInBand 10 = .ok (.aload_n 0, 1) := dk_42 (dk_at dksX4_worstInBand_0 10 rfl rfl)
theorem dX4_worstInBand_11 : decode cX4_worstInBand 11 = .ok (.getfield 216, 3) := dk_180 0 216 (dk_at dksX4_worstInBand_0 11 rfl rfl)
theorem dX4_worstInBand_14 : decode cX4_worstInBand 14 = .ok (.iconst 1, 1) := dk_4 (dk_at dksX4_worstInBand_0 14 rfl rfl)
theorem dX4_worstInBand_15 : decode cX4_worstInBand 15 = .ok (.isub, 1) := dk_100 (dk_at dksX4_worstInBand_0 15 rfl rfl)
theorem dX4_worstInBand_16 : decode cX4_worstInBand 16 = .ok (.i2l, 1) := dk_133 (dk_at dksX4_worstInBand_0 16 rfl rfl)
theorem dX4_worstInBand_17 : decode cX4_worstInBand 17 = .ok (.invokestatic 75, 3) := dk_184 0 75 (dk_at dksX4_worstInBand_0 17 rfl rfl)
theorem dX4_worstInBand_20 : decode cX4_worstInBand 20 = .ok (.ifCond .ne 5, 3) := dk_154 0 5 (dk_at dksX4_worstInBand_0 20 rfl rfl)
theorem dX4_worstInBand_23 : decode cX4_worstInBand 23 = .ok (.iconst (-1), 1) := dk_2 (dk_at dksX4_worstInBand_0 23 rfl rfl)
theorem dX4_worstInBand_24 : decode cX4_worstInBand 24 = .ok (.ireturn, 1) := dk_172 (dk_at dksX4_worstInBand_1 0 rfl rfl)
theorem dX4_worstInBand_25 : decode cX4_worstInBand 25 = .ok (.aload_n 0, 1) := dk_42 (dk_at dksX4_worstInBand_1 1 rfl rfl)
theorem dX4_worstInBand_26 : decode cX4_worstInBand 26 = .ok (.getfield 27, 3) := dk_180 0 27 (dk_at dksX4_worstInBand_1 2 rfl rfl)
theorem dX4_worstInBand_29 : decode cX4_worstInBand 29 = .ok (.iload_n 1, 1) := dk_27 (dk_at dksX4_worstInBand_1 5 rfl rfl)
theorem dX4_worstInBand_30 : decode cX4_worstInBand 30 = .ok (.iaload, 1) := dk_46 (dk_at dksX4_worstInBand_1 6 rfl rfl)
theorem dX4_worstInBand_31 : decode cX4_worstInBand 31 = .ok (.istore_n 2, 1) := dk_61 (dk_at dksX4_worstInBand_1 7 rfl rfl)
theorem dX4_worstInBand_32 : decode cX4_worstInBand 32 = .ok (.iconst 0, 1) := dk_3 (dk_at dksX4_worstInBand_1 8 rfl rfl)
theorem dX4_worstInBand_33 : decode cX4_worstInBand 33 = .ok (.istore_n 3, 1) := dk_62 (dk_at dksX4_worstInBand_1 9 rfl rfl)
theorem dX4_worstInBand_34 : decode cX4_worstInBand 34 = .ok (.aload_n 0, 1) := dk_42 (dk_at dksX4_worstInBand_1 10 rfl rfl)
theorem dX4_worstInBand_35 : decode cX4_worstInBand 35 = .ok (.getfield 27, 3) := dk_180 0 27 (dk_at dksX4_worstInBand_1 11 rfl rfl)
theorem dX4_worstInBand_38 : decode cX4_worstInBand 38 = .ok (.iload_n 1, 1) := dk_27 (dk_at dksX4_worstInBand_1 14 rfl rfl)
theorem dX4_worstInBand_39 : decode cX4_worstInBand 39 = .ok (.iaload, 1) := dk_46 (dk_at dksX4_worstInBand_1 15 rfl rfl)
theorem dX4_worstInBand_40 : decode cX4_worstInBand 40 = .ok (.istore 4, 2) := dk_54 4 (dk_at dksX4_worstInBand_1 16 rfl rfl)
theorem dX4_worstInBand_42 : decode cX4_worstInBand 42 = .ok (.iload 4, 2) := dk_21 4 (dk_at dksX4_worstInBand_1 18 rfl rfl)
theorem dX4_worstInBand_44 : decode cX4_worstInBand 44 = .ok (.aload_n 0, 1) := dk_42 (dk_at dksX4_worstInBand_1 20 rfl rfl)
theorem dX4_worstInBand_45 : decode cX4_worstInBand 45 = .ok (.getfield 30, 3) := dk_180 0 30 (dk_at dksX4_worstInBand_1 21 rfl rfl)
theorem dX4_worstInBand_48 : decode cX4_worstInBand 48 = .ok (.iload_n 1, 1) := dk_27 (dk_at dksX4_worstInBand_2 0 rfl rfl)
theorem dX4_worstInBand_49 : decode cX4_worstInBand 49 = .ok (.iaload, 1) := dk_46 (dk_at dksX4_worstInBand_2 1 rfl rfl)
theorem dX4_worstInBand_50 : decode cX4_worstInBand 50 = .ok (.if_icmp .gt 35, 3) := dk_163 0 35 (dk_at dksX4_worstInBand_2 2 rfl rfl)
theorem dX4_worstInBand_53 : decode cX4_worstInBand 53 = .ok (.aload_n 0, 1) := dk_42 (dk_at dksX4_worstInBand_2 5 rfl rfl)
theorem dX4_worstInBand_54 : decode cX4_worstInBand 54 = .ok (.aload_n 0, 1) := dk_42 (dk_at dksX4_worstInBand_2 6 rfl rfl)
theorem dX4_worstInBand_55 : decode cX4_worstInBand 55 = .ok (.getfield 9, 3) := dk_180 0 9 (dk_at dksX4_worstInBand_2 7 rfl rfl)
theorem dX4_worstInBand_58 : decode cX4_worstInBand 58 = .ok (.iconst 1, 1) := dk_4 (dk_at dksX4_worstInBand_2 10 rfl rfl)
theorem dX4_worstInBand_59 : decode cX4_worstInBand 59 = .ok (.iaload, 1) := dk_46 (dk_at dksX4_worstInBand_2 11 rfl rfl)
theorem dX4_worstInBand_60 : decode cX4_worstInBand 60 = .ok (.iload 4, 2) := dk_21 4 (dk_at dksX4_worstInBand_2 12 rfl rfl)
theorem dX4_worstInBand_62 : decode cX4_worstInBand 62 = .ok (.invokevirtual 333, 3) := dk_182 1 77 (dk_at dksX4_worstInBand_2 14 rfl rfl)
theorem dX4_worstInBand_65 : decode cX4_worstInBand 65 = .ok (.istore 5, 2) := dk_54 5 (dk_at dksX4_worstInBand_2 17 rfl rfl)
theorem dX4_worstInBand_67 : decode cX4_worstInBand 67 = .ok (.iload 5, 2) := dk_21 5 (dk_at dksX4_worstInBand_2 19 rfl rfl)
theorem dX4_worstInBand_69 : decode cX4_worstInBand 69 = .ok (.iload_n 3, 1) := dk_29 (dk_at dksX4_worstInBand_2 21 rfl rfl)
theorem dX4_worstInBand_70 : decode cX4_worstInBand 70 = .ok (.if_icmp .le 9, 3) := dk_164 0 9 (dk_at dksX4_worstInBand_3 0 rfl rfl)
theorem dX4_worstInBand_73 : decode cX4_worstInBand 73 = .ok (.iload 4, 2) := dk_21 4 (dk_at dksX4_worstInBand_3 3 rfl rfl)
theorem dX4_worstInBand_75 : decode cX4_worstInBand 75 = .ok (.istore_n 2, 1) := dk_61 (dk_at dksX4_worstInBand_3 5 rfl rfl)
theorem dX4_worstInBand_76 : decode cX4_worstInBand 76 = .ok (.iload 5, 2) := dk_21 5 (dk_at dksX4_worstInBand_3 6 rfl rfl)
theorem dX4_worstInBand_78 : decode cX4_worstInBand 78 = .ok (.istore_n 3, 1) := dk_62 (dk_at dksX4_worstInBand_3 8 rfl rfl)
theorem dX4_worstInBand_79 : decode cX4_worstInBand 79 = .ok (.iinc 4 10, 3) := dk_132 4 10 (dk_at dksX4_worstInBand_3 9 rfl rfl)
theorem dX4_worstInBand_82 : decode cX4_worstInBand 82 = .ok (.goto (-40), 3) := dk_167 255 216 (dk_at dksX4_worstInBand_3 12 rfl rfl)
theorem dX4_worstInBand_85 : decode cX4_worstInBand 85 = .ok (.iload_n 2, 1) := dk_28 (dk_at dksX4_worstInBand_3 15 rfl rfl)
theorem dX4_worstInBand_86 : decode cX4_worstInBand 86 = .ok (.ireturn, 1) := dk_172 (dk_at dksX4_worstInBand_3 16 rfl rfl)
abbrev cX4_transmit : ByteArray := prog_21_method_74_code
def yX4_transmit : MethodName := ⟨RX4, "transmit", "(I)I"⟩
def dkwX4_transmit_6 : List UInt8 := [42, 180, 0, 9, 6, 3, 79, 132, 5, 1, 167, 255, 153, 21, 4, 172]
abbrev dktX4_transmit_6 : List UInt8 := dkwX4_transmit_6 ++ []
def dkwX4_transmit_5 : List UInt8 := [28, 133, 105, 9, 20, 1, 75, 184, 1, 49, 136, 167, 0, 4, 28, 42, 180, 0, 9, 6, 46, 182, 1, 103]
abbrev dktX4_transmit_5 : List UInt8 := dkwX4_transmit_5 ++ dktX4_transmit_6
def dkwX4_transmit_4 : List UInt8 := [21, 6, 153, 0, 13, 42, 180, 0, 9, 5, 3, 79, 132, 4, 1, 42, 21, 6, 153, 0, 20, 20, 1, 101]
abbrev dktX4_transmit_4 : List UInt8 := dkwX4_transmit_4 ++ dktX4_transmit_5
def dkwX4_transmit_3 : List UInt8 := [96, 167, 0, 4, 3, 79, 42, 180, 0, 9, 5, 46, 6, 160, 0, 7, 4, 167, 0, 4, 3, 54, 6]
abbrev dktX4_transmit_3 : List UInt8 := dkwX4_transmit_3 ++ dktX4_transmit_4
def dkwX4_transmit_2 : List UInt8 := [54, 5, 21, 5, 27, 162, 0, 103, 42, 180, 0, 9, 5, 29, 153, 0, 14, 42, 180, 0, 9, 5, 46, 4]
abbrev dktX4_transmit_2 : List UInt8 := dkwX4_transmit_2 ++ dktX4_transmit_3
def dkwX4_transmit_1 : List UInt8 := [182, 1, 6, 42, 182, 1, 80, 61, 42, 42, 180, 0, 9, 4, 46, 182, 1, 98, 62, 3, 54, 4, 3]
abbrev dktX4_transmit_1 : List UInt8 := dkwX4_transmit_1 ++ dktX4_transmit_2
def dkwX4_transmit_0 : List UInt8 := [42, 180, 0, 194, 153, 0, 15, 27, 133, 10, 20, 1, 96, 184, 0, 75, 154, 0, 5, 2, 172, 42]
abbrev dktX4_transmit_0 : List UInt8 := dkwX4_transmit_0 ++ dktX4_transmit_1
theorem dksX4_transmit_0 : cX4_transmit.data.toList.drop 0 = dktX4_transmit_0 := by decide +kernel
theorem dksX4_transmit_1 : cX4_transmit.data.toList.drop 22 = dktX4_transmit_1 := dk_seg dksX4_transmit_0 22 rfl rfl
theorem dksX4_transmit_2 : cX4_transmit.data.toList.drop 45 = dktX4_transmit_2 := dk_seg dksX4_transmit_1 23 rfl rfl
theorem dksX4_transmit_3 : cX4_transmit.data.toList.drop 69 = dktX4_transmit_3 := dk_seg dksX4_transmit_2 24 rfl rfl
theorem dksX4_transmit_4 : cX4_transmit.data.toList.drop 92 = dktX4_transmit_4 := dk_seg dksX4_transmit_3 23 rfl rfl
theorem dksX4_transmit_5 : cX4_transmit.data.toList.drop 116 = dktX4_transmit_5 := dk_seg dksX4_transmit_4 24 rfl rfl
theorem dksX4_transmit_6 : cX4_transmit.data.toList.drop 140 = dktX4_transmit_6 := dk_seg dksX4_transmit_5 24 rfl rfl
theorem dX4_transmit_0 : decode cX4_transmit 0 = .ok (.aload_n 0, 1) := dk_42 (dk_at dksX4_transmit_0 0 rfl rfl)
theorem dX4_transmit_1 : decode cX4_transmit 1 = .ok (.getfield 194, 3) := dk_180 0 194 (dk_at dksX4_transmit_0 1 rfl rfl)
theorem dX4_transmit_4 : decode cX4_transmit 4 = .ok (.ifCond .eq 15, 3) := dk_153 0 15 (dk_at dksX4_transmit_0 4 rfl rfl)
theorem dX4_transmit_7 : decode cX4_transmit 7 = .ok (.iload_n 1, 1) := dk_27 (dk_at dksX4_transmit_0 7 rfl rfl)
theorem dX4_transmit_8 : decode cX4_transmit 8 = .ok (.i2l, 1) := dk_133 (dk_at dksX4_transmit_0 8 rfl rfl)
theorem dX4_transmit_9 : decode cX4_transmit 9 = .ok (.lconst 1, 1) := dk_10 (dk_at dksX4_transmit_0 9 rfl rfl)
theorem dX4_transmit_10 : decode cX4_transmit 10 = .ok (.ldc2_w 352, 3) := dk_20 1 96 (dk_at dksX4_transmit_0 10 rfl rfl)
theorem dX4_transmit_13 : decode cX4_transmit 13 = .ok (.invokestatic 75, 3) := dk_184 0 75 (dk_at dksX4_transmit_0 13 rfl rfl)
theorem dX4_transmit_16 : decode cX4_transmit 16 = .ok (.ifCond .ne 5, 3) := dk_154 0 5 (dk_at dksX4_transmit_0 16 rfl rfl)
theorem dX4_transmit_19 : decode cX4_transmit 19 = .ok (.iconst (-1), 1) := dk_2 (dk_at dksX4_transmit_0 19 rfl rfl)
theorem dX4_transmit_20 : decode cX4_transmit 20 = .ok (.ireturn, 1) := dk_172 (dk_at dksX4_transmit_0 20 rfl rfl)
theorem dX4_transmit_21 : decode cX4_transmit 21 = .ok (.aload_n 0, 1) := dk_42 (dk_at dksX4_transmit_0 21 rfl rfl)
theorem dX4_transmit_22 : decode cX4_transmit 22 = .ok (.invokevirtual 262, 3) := dk_182 1 6 (dk_at dksX4_transmit_1 0 rfl rfl)
theorem dX4_transmit_25 : decode cX4_transmit 25 = .ok (.aload_n 0, 1) := dk_42 (dk_at dksX4_transmit_1 3 rfl rfl)
theorem dX4_transmit_26 : decode cX4_transmit 26 = .ok (.invokevirtual 336, 3) := dk_182 1 80 (dk_at dksX4_transmit_1 4 rfl rfl)
theorem dX4_transmit_29 : decode cX4_transmit 29 = .ok (.istore_n 2, 1) := dk_61 (dk_at dksX4_transmit_1 7 rfl rfl)
theorem dX4_transmit_30 : decode cX4_transmit 30 = .ok (.aload_n 0, 1) := dk_42 (dk_at dksX4_transmit_1 8 rfl rfl)
theorem dX4_transmit_31 : decode cX4_transmit 31 = .ok (.aload_n 0, 1) := dk_42 (dk_at dksX4_transmit_1 9 rfl rfl)
theorem dX4_transmit_32 : decode cX4_transmit 32 = .ok (.getfield 9, 3) := dk_180 0 9 (dk_at dksX4_transmit_1 10 rfl rfl)
theorem dX4_transmit_35 : decode cX4_transmit 35 = .ok (.iconst 1, 1) := dk_4 (dk_at dksX4_transmit_1 13 rfl rfl)
theorem dX4_transmit_36 : decode cX4_transmit 36 = .ok (.iaload, 1) := dk_46 (dk_at dksX4_transmit_1 14 rfl rfl)
theorem dX4_transmit_37 : decode cX4_transmit 37 = .ok (.invokevirtual 354, 3) := dk_182 1 98 (dk_at dksX4_transmit_1 15 rfl rfl)
theorem dX4_transmit_40 : decode cX4_transmit 40 = .ok (.istore_n 3, 1) := dk_62 (dk_at dksX4_transmit_1 18 rfl rfl)
theorem dX4_transmit_41 : decode cX4_transmit 41 = .ok (.iconst 0, 1) := dk_3 (dk_at dksX4_transmit_1 19 rfl rfl)
theorem dX4_transmit_42 : decode cX4_transmit 42 = .ok (.istore 4, 2) := dk_54 4 (dk_at dksX4_transmit_1 20 rfl rfl)
theorem dX4_transmit_44 : decode cX4_transmit 44 = .ok (.iconst 0, 1) := dk_3 (dk_at dksX4_transmit_1 22 rfl rfl)
theorem dX4_transmit_45 : decode cX4_transmit 45 = .ok (.istore 5, 2) := dk_54 5 (dk_at dksX4_transmit_2 0 rfl rfl)
theorem dX4_transmit_47 : decode cX4_transmit 47 = .ok (.iload 5, 2) := dk_21 5 (dk_at dksX4_transmit_2 2 rfl rfl)
theorem dX4_transmit_49 : decode cX4_transmit 49 = .ok (.iload_n 1, 1) := dk_27 (dk_at dksX4_transmit_2 4 rfl rfl)
theorem dX4_transmit_50 : decode cX4_transmit 50 = .ok (.if_icmp .ge 103, 3) := dk_162 0 103 (dk_at dksX4_transmit_2 5 rfl rfl)
theorem dX4_transmit_53 : decode cX4_transmit 53 = .ok (.aload_n 0, 1) := dk_42 (dk_at dksX4_transmit_2 8 rfl rfl)
theorem dX4_transmit_54 : decode cX4_transmit 54 = .ok (.getfield 9, 3) := dk_180 0 9 (dk_at dksX4_transmit_2 9 rfl rfl)
theorem dX4_transmit_57 : decode cX4_transmit 57 = .ok (.iconst 2, 1) := dk_5 (dk_at dksX4_transmit_2 12 rfl rfl)
theorem dX4_transmit_58 : decode cX4_transmit 58 = .ok (.iload_n 3, 1) := dk_29 (dk_at dksX4_transmit_2 13 rfl rfl)
theorem dX4_transmit_59 : decode cX4_transmit 59 = .ok (.ifCond .eq 14, 3) := dk_153 0 14 (dk_at dksX4_transmit_2 14 rfl rfl)
theorem dX4_transmit_62 : decode cX4_transmit 62 = .ok (.aload_n 0, 1) := dk_42 (dk_at dksX4_transmit_2 17 rfl rfl)
theorem dX4_transmit_63 : decode cX4_transmit 63 = .ok (.getfield 9, 3) := dk_180 0 9 (dk_at dksX4_transmit_2 18 rfl rfl)
theorem dX4_transmit_66 : decode cX4_transmit 66 = .ok (.iconst 2, 1) := dk_5 (dk_at dksX4_transmit_2 21 rfl rfl)
theorem dX4_transmit_67 : decode cX4_transmit 67 = .ok (.iaload, 1) := dk_46 (dk_at dksX4_transmit_2 22 rfl rfl)
theorem dX4_transmit_68 : decode cX4_transmit 68 = .ok (.iconst 1, 1) := dk_4 (dk_at dksX4_transmit_2 23 rfl rfl)
theorem dX4_transmit_69 : decode cX4_transmit 69 = .ok (.iadd, 1) := dk_96 (dk_at dksX4_transmit_3 0 rfl rfl)
theorem dX4_transmit_70 : decode cX4_transmit 70 = .ok (.goto 4, 3) := dk_167 0 4 (dk_at dksX4_transmit_3 1 rfl rfl)
theorem dX4_transmit_73 : decode cX4_transmit 73 = .ok (.iconst 0, 1) := dk_3 (dk_at dksX4_transmit_3 4 rfl rfl)
theorem dX4_transmit_74 : decode cX4_transmit 74 = .ok (.iastore, 1) := dk_79 (dk_at dksX4_transmit_3 5 rfl rfl)
theorem dX4_transmit_75 : decode cX4_transmit 75 = .ok (.aload_n 0, 1) := dk_42 (dk_at dksX4_transmit_3 6 rfl rfl)
theorem dX4_transmit_76 : decode cX4_transmit 76 = .ok (.getfield 9, 3) := dk_180 0 9 (dk_at dksX4_transmit_3 7 rfl rfl)
theorem dX4_transmit_79 : decode cX4_transmit 79 = .ok (.iconst 2, 1) := dk_5 (dk_at dksX4_transmit_3 10 rfl rfl)
theorem dX4_transmit_80 : decode cX4_transmit 80 = .ok (.iaload, 1) := dk_46 (dk_at dksX4_transmit_3 11 rfl rfl)
theorem dX4_transmit_81 : decode cX4_transmit 81 = .ok (.iconst 3, 1) := dk_6 (dk_at dksX4_transmit_3 12 rfl rfl)
theorem dX4_transmit_82 : decode cX4_transmit 82 = .ok (.if_icmp .ne 7, 3) := dk_160 0 7 (dk_at dksX4_transmit_3 13 rfl rfl)
theorem dX4_transmit_85 : decode cX4_transmit 85 = .ok (.iconst 1, 1) := dk_4 (dk_at dksX4_transmit_3 16 rfl rfl)
theorem dX4_transmit_86 : decode cX4_transmit 86 = .ok (.goto 4, 3) := dk_167 0 4 (dk_at dksX4_transmit_3 17 rfl rfl)
theorem dX4_transmit_89 : decode cX4_transmit 89 = .ok (.iconst 0, 1) := dk_3 (dk_at dksX4_transmit_3 20 rfl rfl)
theorem dX4_transmit_90 : decode cX4_transmit 90 = .ok (.istore 6, 2) := dk_54 6 (dk_at dksX4_transmit_3 21 rfl rfl)
theorem dX4_transmit_92 : decode cX4_transmit 92 = .ok (.iload 6, 2) := dk_21 6 (dk_at dksX4_transmit_4 0 rfl rfl)
theorem dX4_transmit_94 : decode cX4_transmit 94 = .ok (.ifCond .eq 13, 3) := dk_153 0 13 (dk_at dksX4_transmit_4 2 rfl rfl)
theorem dX4_transmit_97 : decode cX4_transmit 97 = .ok (.aload_n 0, 1) := dk_42 (dk_at dksX4_transmit_4 5 rfl rfl)
theorem dX4_transmit_98 : decode cX4_transmit 98 = .ok (.getfield 9, 3) := dk_180 0 9 (dk_at dksX4_transmit_4 6 rfl rfl)
theorem dX4_transmit_101 : decode cX4_transmit 101 = .ok (.iconst 2, 1) := dk_5 (dk_at dksX4_transmit_4 9 rfl rfl)
theorem dX4_transmit_102 : decode cX4_transmit 102 = .ok (.iconst 0, 1) := dk_3 (dk_at dksX4_transmit_4 10 rfl rfl)
theorem dX4_transmit_103 : decode cX4_transmit 103 = .ok (.iastore, 1) := dk_79 (dk_at dksX4_transmit_4 11 rfl rfl)
theorem dX4_transmit_104 : decode cX4_transmit 104 = .ok (.iinc 4 1, 3) := dk_132 4 1 (dk_at dksX4_transmit_4 12 rfl rfl)
theorem dX4_transmit_107 : decode cX4_transmit 107 = .ok (.aload_n 0, 1) := dk_42 (dk_at dksX4_transmit_4 15 rfl rfl)
theorem dX4_transmit_108 : decode cX4_transmit 108 = .ok (.iload 6, 2) := dk_21 6 (dk_at dksX4_transmit_4 16 rfl rfl)
theorem dX4_transmit_110 : decode cX4_transmit 110 = .ok (.ifCond .eq 20, 3) := dk_153 0 20 (dk_at dksX4_transmit_4 18 rfl rfl)
theorem dX4_transmit_113 : decode cX4_transmit 113 = .ok (.ldc2_w 357, 3) := dk_20 1 101 (dk_at dksX4_transmit_4 21 rfl rfl)
theorem dX4_transmit_116 : decode cX4_transmit 116 = .ok (.iload_n 2, 1) := dk_28 (dk_at dksX4_transmit_5 0 rfl rfl)
theorem dX4_transmit_117 : decode cX4_transmit 117 = .ok (.i2l, 1) := dk_133 (dk_at dksX4_transmit_5 1 rfl rfl)
theorem dX4_transmit_118 : decode cX4_transmit 118 = .ok (.lmul, 1) := dk_105 (dk_at dksX4_transmit_5 2 rfl rfl)
theorem dX4_transmit_119 : decode cX4_transmit 119 = .ok (.lconst 0, 1) := dk_9 (dk_at dksX4_transmit_5 3 rfl rfl)
theorem dX4_transmit_120 : decode cX4_transmit 120 = .ok (.ldc2_w 331, 3) := dk_20 1 75 (dk_at dksX4_transmit_5 4 rfl rfl)
theorem dX4_transmit_123 : decode cX4_transmit 123 = .ok (.invokestatic 305, 3) := dk_184 1 49 (dk_at dksX4_transmit_5 7 rfl rfl)
theorem dX4_transmit_126 : decode cX4_transmit 126 = .ok (.l2i, 1) := dk_136 (dk_at dksX4_transmit_5 10 rfl rfl)
theorem dX4_transmit_127 : decode cX4_transmit 127 = .ok (.goto 4, 3) := dk_167 0 4 (dk_at dksX4_transmit_5 11 rfl rfl)
theorem dX4_transmit_130 : decode cX4_transmit 130 = .ok (.iload_n 2, 1) := dk_28 (dk_at dksX4_transmit_5 14 rfl rfl)
theorem dX4_transmit_131 : decode cX4_transmit 131 = .ok (.aload_n 0, 1) := dk_42 (dk_at dksX4_transmit_5 15 rfl rfl)
theorem dX4_transmit_132 : decode cX4_transmit 132 = .ok (.getfield 9, 3) := dk_180 0 9 (dk_at dksX4_transmit_5 16 rfl rfl)
theorem dX4_transmit_135 : decode cX4_transmit 135 = .ok (.iconst 3, 1) := dk_6 (dk_at dksX4_transmit_5 19 rfl rfl)
theorem dX4_transmit_136 : decode cX4_transmit 136 = .ok (.iaload, 1) := dk_46 (dk_at dksX4_transmit_5 20 rfl rfl)
theorem dX4_transmit_137 : decode cX4_transmit 137 = .ok (.invokevirtual 359, 3) := dk_182 1 103 (dk_at dksX4_transmit_5 21 rfl rfl)
theorem dX4_transmit_140 : decode cX4_transmit 140 = .ok (.aload_n 0, 1) := dk_42 (dk_at dksX4_transmit_6 0 rfl rfl)
theorem dX4_transmit_141 : decode cX4_transmit 141 = .ok (.getfield 9, 3) := dk_180 0 9 (dk_at dksX4_transmit_6 1 rfl rfl)
theorem dX4_transmit_144 : decode cX4_transmit 144 = .ok (.iconst 3, 1) := dk_6 (dk_at dksX4_transmit_6 4 rfl rfl)
theorem dX4_transmit_145 : decode cX4_transmit 145 = .ok (.iconst 0, 1) := dk_3 (dk_at dksX4_transmit_6 5 rfl rfl)
theorem dX4_transmit_146 : decode cX4_transmit 146 = .ok (.iastore, 1) := dk_79 (dk_at dksX4_transmit_6 6 rfl rfl)
theorem dX4_transmit_147 : decode cX4_transmit 147 = .ok (.iinc 5 1, 3) := dk_132 5 1 (dk_at dksX4_transmit_6 7 rfl rfl)
theorem dX4_transmit_150 : decode cX4_transmit 150 = .ok (.goto (-103), 3) := dk_167 255 153 (dk_at dksX4_transmit_6 10 rfl rfl)
theorem dX4_transmit_153 : decode cX4_transmit 153 = .ok (.iload 4, 2) := dk_21 4 (dk_at dksX4_transmit_6 13 rfl rfl)
theorem dX4_transmit_155 : decode cX4_transmit 155 = .ok (.ireturn, 1) := dk_172 (dk_at dksX4_transmit_6 15 rfl rfl)
abbrev cX4_isOverloaded : ByteArray := prog_21_method_65_code
def yX4_isOverloaded : MethodName := ⟨RX4, "isOverloaded", "(I)Z"⟩
def dkwX4_isOverloaded_0 : List UInt8 := [42, 27, 42, 180, 0, 207, 182, 1, 90, 42, 180, 0, 210, 164, 0, 7, 4, 167, 0, 4, 3, 172]
abbrev dktX4_isOverloaded_0 : List UInt8 := dkwX4_isOverloaded_0 ++ []
theorem dksX4_isOverloaded_0 : cX4_isOverloaded.data.toList.drop 0 = dktX4_isOverloaded_0 := by decide +kernel
theorem dX4_isOverloaded_0 : decode cX4_isOverloaded 0 = .ok (.aload_n 0, 1) := dk_42 (dk_at dksX4_isOverloaded_0 0 rfl rfl)
theorem dX4_isOverloaded_1 : decode cX4_isOverloaded 1 = .ok (.iload_n 1, 1) := dk_27 (dk_at dksX4_isOverloaded_0 1 rfl rfl)
theorem dX4_isOverloaded_2 : decode cX4_isOverloaded 2 = .ok (.aload_n 0, 1) := dk_42 (dk_at dksX4_isOverloaded_0 2 rfl rfl)
theorem dX4_isOverloaded_3 : decode cX4_isOverloaded 3 = .ok (.getfield 207, 3) := dk_180 0 207 (dk_at dksX4_isOverloaded_0 3 rfl rfl)
theorem dX4_isOverloaded_6 : decode cX4_isOverloaded 6 = .ok (.invokevirtual 346, 3) := dk_182 1 90 (dk_at dksX4_isOverloaded_0 6 rfl rfl)
theorem dX4_isOverloaded_9 : decode cX4_isOverloaded 9 = .ok (.aload_n 0, 1) := dk_42 (dk_at dksX4_isOverloaded_0 9 rfl rfl)
theorem dX4_isOverloaded_10 : decode cX4_isOverloaded 10 = .ok (.getfield 210, 3) := dk_180 0 210 (dk_at dksX4_isOverloaded_0 10 rfl rfl)
theorem dX4_isOverloaded_13 : decode cX4_isOverloaded 13 = .ok (.if_icmp .le 7, 3) := dk_164 0 7 (dk_at dksX4_isOverloaded_0 13 rfl rfl)
theorem dX4_isOverloaded_16 : decode cX4_isOverloaded 16 = .ok (.iconst 1, 1) := dk_4 (dk_at dksX4_isOverloaded_0 16 rfl rfl)
theorem dX4_isOverloaded_17 : decode cX4_isOverloaded 17 = .ok (.goto 4, 3) := dk_167 0 4 (dk_at dksX4_isOverloaded_0 17 rfl rfl)
theorem dX4_isOverloaded_20 : decode cX4_isOverloaded 20 = .ok (.iconst 0, 1) := dk_3 (dk_at dksX4_isOverloaded_0 20 rfl rfl)
theorem dX4_isOverloaded_21 : decode cX4_isOverloaded 21 = .ok (.ireturn, 1) := dk_172 (dk_at dksX4_isOverloaded_0 21 rfl rfl)
abbrev cX4_keepReading : ByteArray := prog_21_method_73_code
def yX4_keepReading : MethodName := ⟨RX4, "keepReading", "(II)V"⟩
def dkwX4_keepReading_4 : List UInt8 := [180, 0, 9, 7, 46, 96, 28, 79, 42, 180, 0, 9, 7, 92, 46, 4, 96, 79, 177]
abbrev dktX4_keepReading_4 : List UInt8 := dkwX4_keepReading_4 ++ []
def dkwX4_keepReading_3 : List UInt8 := [79, 42, 180, 0, 9, 8, 42, 180, 0, 9, 7, 46, 96, 27, 79, 42, 180, 0, 9, 16, 105, 42]
abbrev dktX4_keepReading_3 : List UInt8 := dkwX4_keepReading_3 ++ dktX4_keepReading_4
def dkwX4_keepReading_2 : List UInt8 := [180, 0, 9, 16, 105, 29, 96, 46, 79, 132, 3, 1, 167, 255, 209, 42, 180, 0, 9, 7, 92, 46, 4, 100]
abbrev dktX4_keepReading_2 : List UInt8 := dkwX4_keepReading_2 ++ dktX4_keepReading_3
def dkwX4_keepReading_1 : List UInt8 := [29, 96, 4, 100, 42, 180, 0, 9, 8, 29, 96, 46, 79, 42, 180, 0, 9, 16, 105, 29, 96, 4, 100, 42]
abbrev dktX4_keepReading_1 : List UInt8 := dkwX4_keepReading_1 ++ dktX4_keepReading_2
def dkwX4_keepReading_0 : List UInt8 := [42, 180, 0, 9, 7, 46, 16, 100, 160, 0, 65, 4, 62, 29, 16, 100, 162, 0, 47, 42, 180, 0, 9, 8]
abbrev dktX4_keepReading_0 : List UInt8 := dkwX4_keepReading_0 ++ dktX4_keepReading_1
theorem dksX4_keepReading_0 : cX4_keepReading.data.toList.drop 0 = dktX4_keepReading_0 := by decide +kernel
theorem dksX4_keepReading_1 : cX4_keepReading.data.toList.drop 24 = dktX4_keepReading_1 := dk_seg dksX4_keepReading_0 24 rfl rfl
theorem dksX4_keepReading_2 : cX4_keepReading.data.toList.drop 48 = dktX4_keepReading_2 := dk_seg dksX4_keepReading_1 24 rfl rfl
theorem dksX4_keepReading_3 : cX4_keepReading.data.toList.drop 72 = dktX4_keepReading_3 := dk_seg dksX4_keepReading_2 24 rfl rfl
theorem dksX4_keepReading_4 : cX4_keepReading.data.toList.drop 94 = dktX4_keepReading_4 := dk_seg dksX4_keepReading_3 22 rfl rfl
theorem dX4_keepReading_0 : decode cX4_keepReading 0 = .ok (.aload_n 0, 1) := dk_42 (dk_at dksX4_keepReading_0 0 rfl rfl)
theorem dX4_keepReading_1 : decode cX4_keepReading 1 = .ok (.getfield 9, 3) := dk_180 0 9 (dk_at dksX4_keepReading_0 1 rfl rfl)
theorem dX4_keepReading_4 : decode cX4_keepReading 4 = .ok (.iconst 4, 1) := dk_7 (dk_at dksX4_keepReading_0 4 rfl rfl)
theorem dX4_keepReading_5 : decode cX4_keepReading 5 = .ok (.iaload, 1) := dk_46 (dk_at dksX4_keepReading_0 5 rfl rfl)
theorem dX4_keepReading_6 : decode cX4_keepReading 6 = .ok (.bipush 100, 2) := dk_16 100 (dk_at dksX4_keepReading_0 6 rfl rfl)
theorem dX4_keepReading_8 : decode cX4_keepReading 8 = .ok (.if_icmp .ne 65, 3) := dk_160 0 65 (dk_at dksX4_keepReading_0 8 rfl rfl)
theorem dX4_keepReading_11 : decode cX4_keepReading 11 = .ok (.iconst 1, 1) := dk_4 (dk_at dksX4_keepReading_0 11 rfl rfl)
theorem dX4_keepReading_12 : decode cX4_keepReading 12 = .ok (.istore_n 3, 1) := dk_62 (dk_at dksX4_keepReading_0 12 rfl rfl)
theorem dX4_keepReading_13 : decode cX4_keepReading 13 = .ok (.iload_n 3, 1) := dk_29 (dk_at dksX4_keepReading_0 13 rfl rfl)
theorem dX4_keepReading_14 : decode cX4_keepReading 14 = .ok (.bipush 100, 2) := dk_16 100 (dk_at dksX4_keepReading_0 14 rfl rfl)
theorem dX4_keepReading_16 : decode cX4_keepReading 16 = .ok (.if_icmp .ge 47, 3) := dk_162 0 47 (dk_at dksX4_keepReading_0 16 rfl rfl)
theorem dX4_keepReading_19 : decode cX4_keepReading 19 = .ok (.aload_n 0, 1) := dk_42 (dk_at dksX4_keepReading_0 19 rfl rfl)
theorem dX4_keepReading_20 : decode cX4_keepReading 20 = .ok (.getfield 9, 3) := dk_180 0 9 (dk_at dksX4_keepReading_0 20 rfl rfl)
theorem dX4_keepReading_23 : decode cX4_keepReading 23 = .ok (.iconst 5, 1) := dk_8 (dk_at dksX4_keepReading_0 23 rfl rfl)
theorem dX4_keepReading_24 : decode cX4_keepReading 24 = .ok (.iload_n 3, 1) := dk_29 (dk_at dksX4_keepReading_1 0 rfl rfl)
theorem dX4_keepReading_25 : decode cX4_keepReading 25 = .ok (.iadd, 1) := dk_96 (dk_at dksX4_keepReading_1 1 rfl rfl)
theorem dX4_keepReading_26 : decode cX4_keepReading 26 = .ok (.iconst 1, 1) := dk_4 (dk_at dksX4_keepReading_1 2 rfl rfl)
theorem dX4_keepReading_27 : decode cX4_keepReading 27 = .ok (.isub, 1) := dk_100 (dk_at dksX4_keepReading_1 3 rfl rfl)
theorem dX4_keepReading_28 : decode cX4_keepReading 28 = .ok (.aload_n 0, 1) := dk_42 (dk_at dksX4_keepReading_1 4 rfl rfl)
theorem dX4_keepReading_29 : decode cX4_keepReading 29 = .ok (.getfield 9, 3) := dk_180 0 9 (dk_at dksX4_keepReading_1 5 rfl rfl)
theorem dX4_keepReading_32 : decode cX4_keepReading 32 = .ok (.iconst 5, 1) := dk_8 (dk_at dksX4_keepReading_1 8 rfl rfl)
theorem dX4_keepReading_33 : decode cX4_keepReading 33 = .ok (.iload_n 3, 1) := dk_29 (dk_at dksX4_keepReading_1 9 rfl rfl)
theorem dX4_keepReading_34 : decode cX4_keepReading 34 = .ok (.iadd, 1) := dk_96 (dk_at dksX4_keepReading_1 10 rfl rfl)
theorem dX4_keepReading_35 : decode cX4_keepReading 35 = .ok (.iaload, 1) := dk_46 (dk_at dksX4_keepReading_1 11 rfl rfl)
theorem dX4_keepReading_36 : decode cX4_keepReading 36 = .ok (.iastore, 1) := dk_79 (dk_at dksX4_keepReading_1 12 rfl rfl)
theorem dX4_keepReading_37 : decode cX4_keepReading 37 = .ok (.aload_n 0, 1) := dk_42 (dk_at dksX4_keepReading_1 13 rfl rfl)
theorem dX4_keepReading_38 : decode cX4_keepReading 38 = .ok (.getfield 9, 3) := dk_180 0 9 (dk_at dksX4_keepReading_1 14 rfl rfl)
theorem dX4_keepReading_41 : decode cX4_keepReading 41 = .ok (.bipush 105, 2) := dk_16 105 (dk_at dksX4_keepReading_1 17 rfl rfl)
theorem dX4_keepReading_43 : decode cX4_keepReading 43 = .ok (.iload_n 3, 1) := dk_29 (dk_at dksX4_keepReading_1 19 rfl rfl)
theorem dX4_keepReading_44 : decode cX4_keepReading 44 = .ok (.iadd, 1) := dk_96 (dk_at dksX4_keepReading_1 20 rfl rfl)
theorem dX4_keepReading_45 : decode cX4_keepReading 45 = .ok (.iconst 1, 1) := dk_4 (dk_at dksX4_keepReading_1 21 rfl rfl)
theorem dX4_keepReading_46 : decode cX4_keepReading 46 = .ok (.isub, 1) := dk_100 (dk_at dksX4_keepReading_1 22 rfl rfl)
theorem dX4_keepReading_47 : decode cX4_keepReading 47 = .ok (.aload_n 0, 1) := dk_42 (dk_at dksX4_keepReading_1 23 rfl rfl)
theorem dX4_keepReading_48 : decode cX4_keepReading 48 = .ok (.getfield 9, 3) := dk_180 0 9 (dk_at dksX4_keepReading_2 0 rfl rfl)
theorem dX4_keepReading_51 : decode cX4_keepReading 51 = .ok (.bipush 105, 2) := dk_16 105 (dk_at dksX4_keepReading_2 3 rfl rfl)
theorem dX4_keepReading_53 : decode cX4_keepReading 53 = .ok (.iload_n 3, 1) := dk_29 (dk_at dksX4_keepReading_2 5 rfl rfl)
theorem dX4_keepReading_54 : decode cX4_keepReading 54 = .ok (.iadd, 1) := dk_96 (dk_at dksX4_keepReading_2 6 rfl rfl)
theorem dX4_keepReading_55 : decode cX4_keepReading 55 = .ok (.iaload, 1) := dk_46 (dk_at dksX4_keepReading_2 7 rfl rfl)
theorem dX4_keepReading_56 : decode cX4_keepReading 56 = .ok (.iastore, 1) := dk_79 (dk_at dksX4_keepReading_2 8 rfl rfl)
theorem dX4_keepReading_57 : decode cX4_keepReading 57 = .ok (.iinc 3 1, 3) := dk_132 3 1 (dk_at dksX4_keepReading_2 9 rfl rfl)
theorem dX4_keepReading_60 : decode cX4_keepReading 60 = .ok (.goto (-47), 3) := dk_167 255 209 (dk_at dksX4_keepReading_2 12 rfl rfl)
theorem dX4_keepReading_63 : decode cX4_keepReading 63 = .ok (.aload_n 0, 1) := dk_42 (dk_at dksX4_keepReading_2 15 rfl rfl)
theorem dX4_keepReading_64 : decode cX4_keepReading 64 = .ok (.getfield 9, 3) := dk_180 0 9 (dk_at dksX4_keepReading_2 16 rfl rfl)
theorem dX4_keepReading_67 : decode cX4_keepReading 67 = .ok (.iconst 4, 1) := dk_7 (dk_at dksX4_keepReading_2 19 rfl rfl)
theorem dX4_keepReading_68 : decode cX4_keepReading 68 = .ok (.dup2, 1) := dk_92 (dk_at dksX4_keepReading_2 20 rfl rfl)
theorem dX4_keepReading_69 : decode cX4_keepReading 69 = .ok (.iaload, 1) := dk_46 (dk_at dksX4_keepReading_2 21 rfl rfl)
theorem dX4_keepReading_70 : decode cX4_keepReading 70 = .ok (.iconst 1, 1) := dk_4 (dk_at dksX4_keepReading_2 22 rfl rfl)
theorem dX4_keepReading_71 : decode cX4_keepReading 71 = .ok (.isub, 1) := dk_100 (dk_at dksX4_keepReading_2 23 rfl rfl)
theorem dX4_keepReading_72 : decode cX4_keepReading 72 = .ok (.iastore, 1) := dk_79 (dk_at dksX4_keepReading_3 0 rfl rfl)
theorem dX4_keepReading_73 : decode cX4_keepReading 73 = .ok (.aload_n 0, 1) := dk_42 (dk_at dksX4_keepReading_3 1 rfl rfl)
theorem dX4_keepReading_74 : decode cX4_keepReading 74 = .ok (.getfield 9, 3) := dk_180 0 9 (dk_at dksX4_keepReading_3 2 rfl rfl)
theorem dX4_keepReading_77 : decode cX4_keepReading 77 = .ok (.iconst 5, 1) := dk_8 (dk_at dksX4_keepReading_3 5 rfl rfl)
theorem dX4_keepReading_78 : decode cX4_keepReading 78 = .ok (.aload_n 0, 1) := dk_42 (dk_at dksX4_keepReading_3 6 rfl rfl)
theorem dX4_keepReading_79 : decode cX4_keepReading 79 = .ok (.getfield 9, 3) := dk_180 0 9 (dk_at dksX4_keepReading_3 7 rfl rfl)
theorem dX4_keepReading_82 : decode cX4_keepReading 82 = .ok (.iconst 4, 1) := dk_7 (dk_at dksX4_keepReading_3 10 rfl rfl)
theorem dX4_keepReading_83 : decode cX4_keepReading 83 = .ok (.iaload, 1) := dk_46 (dk_at dksX4_keepReading_3 11 rfl rfl)
theorem dX4_keepReading_84 : decode cX4_keepReading 84 = .ok (.iadd, 1) := dk_96 (dk_at dksX4_keepReading_3 12 rfl rfl)
theorem dX4_keepReading_85 : decode cX4_keepReading 85 = .ok (.iload_n 1, 1) := dk_27 (dk_at dksX4_keepReading_3 13 rfl rfl)
theorem dX4_keepReading_86 : decode cX4_keepReading 86 = .ok (.iastore, 1) := dk_79 (dk_at dksX4_keepReading_3 14 rfl rfl)
theorem dX4_keepReading_87 : decode cX4_keepReading 87 = .ok (.aload_n 0, 1) := dk_42 (dk_at dksX4_keepReading_3 15 rfl rfl)
theorem dX4_keepReading_88 : decode cX4_keepReading 88 = .ok (.getfield 9, 3) := dk_180 0 9 (dk_at dksX4_keepReading_3 16 rfl rfl)
theorem dX4_keepReading_91 : decode cX4_keepReading 91 = .ok (.bipush 105, 2) := dk_16 105 (dk_at dksX4_keepReading_3 19 rfl rfl)
theorem dX4_keepReading_93 : decode cX4_keepReading 93 = .ok (.aload_n 0, 1) := dk_42 (dk_at dksX4_keepReading_3 21 rfl rfl)
theorem dX4_keepReading_94 : decode cX4_keepReading 94 = .ok (.getfield 9, 3) := dk_180 0 9 (dk_at dksX4_keepReading_4 0 rfl rfl)
theorem dX4_keepReading_97 : decode cX4_keepReading 97 = .ok (.iconst 4, 1) := dk_7 (dk_at dksX4_keepReading_4 3 rfl rfl)
theorem dX4_keepReading_98 : decode cX4_keepReading 98 = .ok (.iaload, 1) := dk_46 (dk_at dksX4_keepReading_4 4 rfl rfl)
theorem dX4_keepReading_99 : decode cX4_keepReading 99 = .ok (.iadd, 1) := dk_96 (dk_at dksX4_keepReading_4 5 rfl rfl)
theorem dX4_keepReading_100 : decode cX4_keepReading 100 = .ok (.iload_n 2, 1) := dk_28 (dk_at dksX4_keepReading_4 6 rfl rfl)
theorem dX4_keepReading_101 : decode cX4_keepReading 101 = .ok (.iastore, 1) := dk_79 (dk_at dksX4_keepReading_4 7 rfl rfl)
theorem dX4_keepReading_102 : decode cX4_keepReading 102 = .ok (.aload_n 0, 1) := dk_42 (dk_at dksX4_keepReading_4 8 rfl rfl)
theorem dX4_keepReading_103 : decode cX4_keepReading 103 = .ok (.getfield 9, 3) := dk_180 0 9 (dk_at dksX4_keepReading_4 9 rfl rfl)
theorem dX4_keepReading_106 : decode cX4_keepReading 106 = .ok (.iconst 4, 1) := dk_7 (dk_at dksX4_keepReading_4 12 rfl rfl)
theorem dX4_keepReading_107 : decode cX4_keepReading 107 = .ok (.dup2, 1) := dk_92 (dk_at dksX4_keepReading_4 13 rfl rfl)
theorem dX4_keepReading_108 : decode cX4_keepReading 108 = .ok (.iaload, 1) := dk_46 (dk_at dksX4_keepReading_4 14 rfl rfl)
theorem dX4_keepReading_109 : decode cX4_keepReading 109 = .ok (.iconst 1, 1) := dk_4 (dk_at dksX4_keepReading_4 15 rfl rfl)
theorem dX4_keepReading_110 : decode cX4_keepReading 110 = .ok (.iadd, 1) := dk_96 (dk_at dksX4_keepReading_4 16 rfl rfl)
theorem dX4_keepReading_111 : decode cX4_keepReading 111 = .ok (.iastore, 1) := dk_79 (dk_at dksX4_keepReading_4 17 rfl rfl)
theorem dX4_keepReading_112 : decode cX4_keepReading 112 = .ok (.return_, 1) := dk_177 (dk_at dksX4_keepReading_4 18 rfl rfl)
abbrev cX4_readingCount : ByteArray := prog_21_method_75_code
def yX4_readingCount : MethodName := ⟨RX4, "readingCount", "()I"⟩
def dkwX4_readingCount_0 : List UInt8 := [42, 180, 0, 194, 153, 0, 12, 42, 180, 0, 9, 7, 46, 167, 0, 4, 2, 172]
abbrev dktX4_readingCount_0 : List UInt8 := dkwX4_readingCount_0 ++ []
theorem dksX4_readingCount_0 : cX4_readingCount.data.toList.drop 0 = dktX4_readingCount_0 := by decide +kernel
theorem dX4_readingCount_0 : decode cX4_readingCount 0 = .ok (.aload_n 0, 1) := dk_42 (dk_at dksX4_readingCount_0 0 rfl rfl)
theorem dX4_readingCount_1 : decode cX4_readingCount 1 = .ok (.getfield 194, 3) := dk_180 0 194 (dk_at dksX4_readingCount_0 1 rfl rfl)
theorem dX4_readingCount_4 : decode cX4_readingCount 4 = .ok (.ifCond .eq 12, 3) := dk_153 0 12 (dk_at dksX4_readingCount_0 4 rfl rfl)
theorem dX4_readingCount_7 : decode cX4_readingCount 7 = .ok (.aload_n 0, 1) := dk_42 (dk_at dksX4_readingCount_0 7 rfl rfl)
theorem dX4_readingCount_8 : decode cX4_readingCount 8 = .ok (.getfield 9, 3) := dk_180 0 9 (dk_at dksX4_readingCount_0 8 rfl rfl)
theorem dX4_readingCount_11 : decode cX4_readingCount 11 = .ok (.iconst 4, 1) := dk_7 (dk_at dksX4_readingCount_0 11 rfl rfl)
theorem dX4_readingCount_12 : decode cX4_readingCount 12 = .ok (.iaload, 1) := dk_46 (dk_at dksX4_readingCount_0 12 rfl rfl)
theorem dX4_readingCount_13 : decode cX4_readingCount 13 = .ok (.goto 4, 3) := dk_167 0 4 (dk_at dksX4_readingCount_0 13 rfl rfl)
theorem dX4_readingCount_16 : decode cX4_readingCount 16 = .ok (.iconst (-1), 1) := dk_2 (dk_at dksX4_readingCount_0 16 rfl rfl)
theorem dX4_readingCount_17 : decode cX4_readingCount 17 = .ok (.ireturn, 1) := dk_172 (dk_at dksX4_readingCount_0 17 rfl rfl)
abbrev cX4_reading : ByteArray := prog_21_method_76_code
def yX4_reading : MethodName := ⟨RX4, "reading", "(I)I"⟩
def dkwX4_reading_1 : List UInt8 := [154, 0, 5, 2, 172, 42, 180, 0, 9, 8, 42, 180, 0, 9, 7, 46, 96, 4, 100, 27, 100, 46, 172]
abbrev dktX4_reading_1 : List UInt8 := dkwX4_reading_1 ++ []
def dkwX4_reading_0 : List UInt8 := [42, 180, 0, 194, 153, 0, 21, 27, 133, 9, 42, 180, 0, 9, 7, 46, 4, 100, 133, 184, 0, 75]
abbrev dktX4_reading_0 : List UInt8 := dkwX4_reading_0 ++ dktX4_reading_1
theorem dksX4_reading_0 : cX4_reading.data.toList.drop 0 = dktX4_reading_0 := by decide +kernel
theorem dksX4_reading_1 : cX4_reading.data.toList.drop 22 = dktX4_reading_1 := dk_seg dksX4_reading_0 22 rfl rfl
theorem dX4_reading_0 : decode cX4_reading 0 = .ok (.aload_n 0, 1) := dk_42 (dk_at dksX4_reading_0 0 rfl rfl)
theorem dX4_reading_1 : decode cX4_reading 1 = .ok (.getfield 194, 3) := dk_180 0 194 (dk_at dksX4_reading_0 1 rfl rfl)
theorem dX4_reading_4 : decode cX4_reading 4 = .ok (.ifCond .eq 21, 3) := dk_153 0 21 (dk_at dksX4_reading_0 4 rfl rfl)
theorem dX4_reading_7 : decode cX4_reading 7 = .ok (.iload_n 1, 1) := dk_27 (dk_at dksX4_reading_0 7 rfl rfl)
theorem dX4_reading_8 : decode cX4_reading 8 = .ok (.i2l, 1) := dk_133 (dk_at dksX4_reading_0 8 rfl rfl)
theorem dX4_reading_9 : decode cX4_reading 9 = .ok (.lconst 0, 1) := dk_9 (dk_at dksX4_reading_0 9 rfl rfl)
theorem dX4_reading_10 : decode cX4_reading 10 = .ok (.aload_n 0, 1) := dk_42 (dk_at dksX4_reading_0 10 rfl rfl)
theorem dX4_reading_11 : decode cX4_reading 11 = .ok (.getfield 9, 3) := dk_180 0 9 (dk_at dksX4_reading_0 11 rfl rfl)
theorem dX4_reading_14 : decode cX4_reading 14 = .ok (.iconst 4, 1) := dk_7 (dk_at dksX4_reading_0 14 rfl rfl)
theorem dX4_reading_15 : decode cX4_reading 15 = .ok (.iaload, 1) := dk_46 (dk_at dksX4_reading_0 15 rfl rfl)
theorem dX4_reading_16 : decode cX4_reading 16 = .ok (.iconst 1, 1) := dk_4 (dk_at dksX4_reading_0 16 rfl rfl)
theorem dX4_reading_17 : decode cX4_reading 17 = .ok (.isub, 1) := dk_100 (dk_at dksX4_reading_0 17 rfl rfl)
theorem dX4_reading_18 : decode cX4_reading 18 = .ok (.i2l, 1) := dk_133 (dk_at dksX4_reading_0 18 rfl rfl)
theorem dX4_reading_19 : decode cX4_reading 19 = .ok (.invokestatic 75, 3) := dk_184 0 75 (dk_at dksX4_reading_0 19 rfl rfl)
theorem dX4_reading_22 : decode cX4_reading 22 = .ok (.ifCond .ne 5, 3) := dk_154 0 5 (dk_at dksX4_reading_1 0 rfl rfl)
theorem dX4_reading_25 : decode cX4_reading 25 = .ok (.iconst (-1), 1) := dk_2 (dk_at dksX4_reading_1 3 rfl rfl)
theorem dX4_reading_26 : decode cX4_reading 26 = .ok (.ireturn, 1) := dk_172 (dk_at dksX4_reading_1 4 rfl rfl)
theorem dX4_reading_27 : decode cX4_reading 27 = .ok (.aload_n 0, 1) := dk_42 (dk_at dksX4_reading_1 5 rfl rfl)
theorem dX4_reading_28 : decode cX4_reading 28 = .ok (.getfield 9, 3) := dk_180 0 9 (dk_at dksX4_reading_1 6 rfl rfl)
theorem dX4_reading_31 : decode cX4_reading 31 = .ok (.iconst 5, 1) := dk_8 (dk_at dksX4_reading_1 9 rfl rfl)
theorem dX4_reading_32 : decode cX4_reading 32 = .ok (.aload_n 0, 1) := dk_42 (dk_at dksX4_reading_1 10 rfl rfl)
theorem dX4_reading_33 : decode cX4_reading 33 = .ok (.getfield 9, 3) := dk_180 0 9 (dk_at dksX4_reading_1 11 rfl rfl)
theorem dX4_reading_36 : decode cX4_reading 36 = .ok (.iconst 4, 1) := dk_7 (dk_at dksX4_reading_1 14 rfl rfl)
theorem dX4_reading_37 : decode cX4_reading 37 = .ok (.iaload, 1) := dk_46 (dk_at dksX4_reading_1 15 rfl rfl)
theorem dX4_reading_38 : decode cX4_reading 38 = .ok (.iadd, 1) := dk_96 (dk_at dksX4_reading_1 16 rfl rfl)
theorem dX4_reading_39 : decode cX4_reading 39 = .ok (.iconst 1, 1) := dk_4 (dk_at dksX4_reading_1 17 rfl rfl)
theorem dX4_reading_40 : decode cX4_reading 40 = .ok (.isub, 1) := dk_100 (dk_at dksX4_reading_1 18 rfl rfl)
theorem dX4_reading_41 : decode cX4_reading 41 = .ok (.iload_n 1, 1) := dk_27 (dk_at dksX4_reading_1 19 rfl rfl)
theorem dX4_reading_42 : decode cX4_reading 42 = .ok (.isub, 1) := dk_100 (dk_at dksX4_reading_1 20 rfl rfl)
theorem dX4_reading_43 : decode cX4_reading 43 = .ok (.iaload, 1) := dk_46 (dk_at dksX4_reading_1 21 rfl rfl)
theorem dX4_reading_44 : decode cX4_reading 44 = .ok (.ireturn, 1) := dk_172 (dk_at dksX4_reading_1 22 rfl rfl)
abbrev cX4_heat : ByteArray := prog_21_method_77_code
def yX4_heat : MethodName := ⟨RX4, "heat", "()I"⟩
def dkwX4_heat_0 : List UInt8 := [42, 180, 0, 194, 153, 0, 12, 42, 180, 0, 9, 5, 46, 167, 0, 4, 2, 172]
abbrev dktX4_heat_0 : List UInt8 := dkwX4_heat_0 ++ []
theorem dksX4_heat_0 : cX4_heat.data.toList.drop 0 = dktX4_heat_0 := by decide +kernel
theorem dX4_heat_0 : decode cX4_heat 0 = .ok (.aload_n 0, 1) := dk_42 (dk_at dksX4_heat_0 0 rfl rfl)
theorem dX4_heat_1 : decode cX4_heat 1 = .ok (.getfield 194, 3) := dk_180 0 194 (dk_at dksX4_heat_0 1 rfl rfl)
theorem dX4_heat_4 : decode cX4_heat 4 = .ok (.ifCond .eq 12, 3) := dk_153 0 12 (dk_at dksX4_heat_0 4 rfl rfl)
theorem dX4_heat_7 : decode cX4_heat 7 = .ok (.aload_n 0, 1) := dk_42 (dk_at dksX4_heat_0 7 rfl rfl)
theorem dX4_heat_8 : decode cX4_heat 8 = .ok (.getfield 9, 3) := dk_180 0 9 (dk_at dksX4_heat_0 8 rfl rfl)
theorem dX4_heat_11 : decode cX4_heat 11 = .ok (.iconst 2, 1) := dk_5 (dk_at dksX4_heat_0 11 rfl rfl)
theorem dX4_heat_12 : decode cX4_heat 12 = .ok (.iaload, 1) := dk_46 (dk_at dksX4_heat_0 12 rfl rfl)
theorem dX4_heat_13 : decode cX4_heat 13 = .ok (.goto 4, 3) := dk_167 0 4 (dk_at dksX4_heat_0 13 rfl rfl)
theorem dX4_heat_16 : decode cX4_heat 16 = .ok (.iconst (-1), 1) := dk_2 (dk_at dksX4_heat_0 16 rfl rfl)
theorem dX4_heat_17 : decode cX4_heat 17 = .ok (.ireturn, 1) := dk_172 (dk_at dksX4_heat_0 17 rfl rfl)
abbrev cX4_arcsNoticed : ByteArray := prog_21_method_78_code
def yX4_arcsNoticed : MethodName := ⟨RX4, "arcsNoticed", "(I)I"⟩
def dkwX4_arcsNoticed_4 : List UInt8 := [132, 3, 1, 167, 255, 185, 28, 172]
abbrev dktX4_arcsNoticed_4 : List UInt8 := dkwX4_arcsNoticed_4 ++ []
def dkwX4_arcsNoticed_3 : List UInt8 := [3, 54, 4, 42, 180, 0, 9, 16, 105, 29, 96, 46, 154, 0, 11, 21, 4, 153, 0, 6, 132, 2, 1]
abbrev dktX4_arcsNoticed_3 : List UInt8 := dkwX4_arcsNoticed_3 ++ dktX4_arcsNoticed_4
def dkwX4_arcsNoticed_2 : List UInt8 := [133, 105, 27, 133, 42, 180, 0, 9, 8, 29, 96, 4, 100, 46, 133, 105, 148, 155, 0, 7, 4, 167, 0, 4]
abbrev dktX4_arcsNoticed_2 : List UInt8 := dkwX4_arcsNoticed_2 ++ dktX4_arcsNoticed_3
def dkwX4_arcsNoticed_1 : List UInt8 := [61, 4, 62, 29, 42, 180, 0, 9, 7, 46, 162, 0, 67, 20, 1, 108, 42, 180, 0, 9, 8, 29, 96, 46]
abbrev dktX4_arcsNoticed_1 : List UInt8 := dkwX4_arcsNoticed_1 ++ dktX4_arcsNoticed_2
def dkwX4_arcsNoticed_0 : List UInt8 := [42, 180, 0, 194, 153, 0, 17, 27, 133, 20, 1, 106, 20, 0, 253, 184, 0, 75, 154, 0, 5, 2, 172, 3]
abbrev dktX4_arcsNoticed_0 : List UInt8 := dkwX4_arcsNoticed_0 ++ dktX4_arcsNoticed_1
theorem dksX4_arcsNoticed_0 : cX4_arcsNoticed.data.toList.drop 0 = dktX4_arcsNoticed_0 := by decide +kernel
theorem dksX4_arcsNoticed_1 : cX4_arcsNoticed.data.toList.drop 24 = dktX4_arcsNoticed_1 := dk_seg dksX4_arcsNoticed_0 24 rfl rfl
theorem dksX4_arcsNoticed_2 : cX4_arcsNoticed.data.toList.drop 48 = dktX4_arcsNoticed_2 := dk_seg dksX4_arcsNoticed_1 24 rfl rfl
theorem dksX4_arcsNoticed_3 : cX4_arcsNoticed.data.toList.drop 72 = dktX4_arcsNoticed_3 := dk_seg dksX4_arcsNoticed_2 24 rfl rfl
theorem dksX4_arcsNoticed_4 : cX4_arcsNoticed.data.toList.drop 95 = dktX4_arcsNoticed_4 := dk_seg dksX4_arcsNoticed_3 23 rfl rfl
theorem dX4_arcsNoticed_0 : decode cX4_arcsNoticed 0 = .ok (.aload_n 0, 1) := dk_42 (dk_at dksX4_arcsNoticed_0 0 rfl rfl)
theorem dX4_arcsNoticed_1 : decode cX4_arcsNoticed 1 = .ok (.getfield 194, 3) := dk_180 0 194 (dk_at dksX4_arcsNoticed_0 1 rfl rfl)
theorem dX4_arcsNoticed_4 : decode cX4_arcsNoticed 4 = .ok (.ifCond .eq 17, 3) := dk_153 0 17 (dk_at dksX4_arcsNoticed_0 4 rfl rfl)
theorem dX4_arcsNoticed_7 : decode cX4_arcsNoticed 7 = .ok (.iload_n 1, 1) := dk_27 (dk_at dksX4_arcsNoticed_0 7 rfl rfl)
theorem dX4_arcsNoticed_8 : decode cX4_arcsNoticed 8 = .ok (.i2l, 1) := dk_133 (dk_at dksX4_arcsNoticed_0 8 rfl rfl)
theorem dX4_arcsNoticed_9 : decode cX4_arcsNoticed 9 = .ok (.ldc2_w 362, 3) := dk_20 1 106 (dk_at dksX4_arcsNoticed_0 9 rfl rfl)
theorem dX4_arcsNoticed_12 : decode cX4_arcsNoticed 12 = .ok (.ldc2_w 253, 3) := dk_20 0 253 (dk_at dksX4_arcsNoticed_0 12 rfl rfl)
theorem dX4_arcsNoticed_15 : decode cX4_arcsNoticed 15 = .ok (.invokestatic 75, 3) := dk_184 0 75 (dk_at dksX4_arcsNoticed_0 15 rfl rfl)
theorem dX4_arcsNoticed_18 : decode cX4_arcsNoticed 18 = .ok (.ifCond .ne 5, 3) := dk_154 0 5 (dk_at dksX4_arcsNoticed_0 18 rfl rfl)
theorem dX4_arcsNoticed_21 : decode cX4_arcsNoticed 21 = .ok (.iconst (-1), 1) := dk_2 (dk_at dksX4_arcsNoticed_0 21 rfl rfl)
theorem dX4_arcsNoticed_22 : decode cX4_arcsNoticed 22 = .ok (.ireturn, 1) := dk_172 (dk_at dksX4_arcsNoticed_0 22 rfl rfl)
theorem dX4_arcsNoticed_23 : decode cX4_arcsNoticed 23 = .ok (.iconst 0, 1) := dk_3 (dk_at dksX4_arcsNoticed_0 23 rfl rfl)
theorem dX4_arcsNoticed_24 : decode cX4_arcsNoticed 24 = .ok (.istore_n 2, 1) := dk_61 (dk_at dksX4_arcsNoticed_1 0 rfl rfl)
theorem dX4_arcsNoticed_25 : decode cX4_arcsNoticed 25 = .ok (.iconst 1, 1) := dk_4 (dk_at dksX4_arcsNoticed_1 1 rfl rfl)
theorem dX4_arcsNoticed_26 : decode cX4_arcsNoticed 26 = .ok (.istore_n 3, 1) := dk_62 (dk_at dksX4_arcsNoticed_1 2 rfl rfl)
theorem dX4_arcsNoticed_27 : decode cX4_arcsNoticed 27 = .ok (.iload_n 3, 1) := dk_29 (dk_at dksX4_arcsNoticed_1 3 rfl rfl)
theorem dX4_arcsNoticed_28 : decode cX4_arcsNoticed 28 = .ok (.aload_n 0, 1) := dk_42 (dk_at dksX4_arcsNoticed_1 4 rfl rfl)
theorem dX4_arcsNoticed_29 : decode cX4_arcsNoticed 29 = .ok (.getfield 9, 3) := dk_180 0 9 (dk_at dksX4_arcsNoticed_1 5 rfl rfl)
theorem dX4_arcsNoticed_32 : decode cX4_arcsNoticed 32 = .ok (.iconst 4, 1) := dk_7 (dk_at dksX4_arcsNoticed_1 8 rfl rfl)
theorem dX4_arcsNoticed_33 : decode cX4_arcsNoticed 33 = .ok (.iaload, 1) := dk_46 (dk_at dksX4_arcsNoticed_1 9 rfl rfl)
theorem dX4_arcsNoticed_34 : decode cX4_arcsNoticed 34 = .ok (.if_icmp .ge 67, 3) := dk_162 0 67 (dk_at dksX4_arcsNoticed_1 10 rfl rfl)
theorem dX4_arcsNoticed_37 : decode cX4_arcsNoticed 37 = .ok (.ldc2_w 364, 3) := dk_20 1 108 (dk_at dksX4_arcsNoticed_1 13 rfl rfl)
theorem dX4_arcsNoticed_40 : decode cX4_arcsNoticed 40 = .ok (.aload_n 0, 1) := dk_42 (dk_at dksX4_arcsNoticed_1 16 rfl rfl)
theorem dX4_arcsNoticed_41 : decode cX4_arcsNoticed 41 = .ok (.getfield 9, 3) := dk_180 0 9 (dk_at dksX4_arcsNoticed_1 17 rfl rfl)
theorem dX4_arcsNoticed_44 : decode cX4_arcsNoticed 44 = .ok (.iconst 5, 1) := dk_8 (dk_at dksX4_arcsNoticed_1 20 rfl rfl)
theorem dX4_arcsNoticed_45 : decode cX4_arcsNoticed 45 = .ok (.iload_n 3, 1) := dk_29 (dk_at dksX4_arcsNoticed_1 21 rfl rfl)
theorem dX4_arcsNoticed_46 : decode cX4_arcsNoticed 46 = .ok (.iadd, 1) := dk_96 (dk_at dksX4_arcsNoticed_1 22 rfl rfl)
theorem dX4_arcsNoticed_47 : decode cX4_arcsNoticed 47 = .ok (.iaload, 1) := dk_46 (dk_at dksX4_arcsNoticed_1 23 rfl rfl)
theorem dX4_arcsNoticed_48 : decode cX4_arcsNoticed 48 = .ok (.i2l, 1) := dk_133 (dk_at dksX4_arcsNoticed_2 0 rfl rfl)
theorem dX4_arcsNoticed_49 : decode cX4_arcsNoticed 49 = .ok (.lmul, 1) := dk_105 (dk_at dksX4_arcsNoticed_2 1 rfl rfl)
theorem dX4_arcsNoticed_50 : decode cX4_arcsNoticed 50 = .ok (.iload_n 1, 1) := dk_27 (dk_at dksX4_arcsNoticed_2 2 rfl rfl)
theorem dX4_arcsNoticed_51 : decode cX4_arcsNoticed 51 = .ok (.i2l, 1) := dk_133 (dk_at dksX4_arcsNoticed_2 3 rfl rfl)
theorem dX4_arcsNoticed_52 : decode cX4_arcsNoticed 52 = .ok (.aload_n 0, 1) := dk_42 (dk_at dksX4_arcsNoticed_2 4 rfl rfl)
theorem dX4_arcsNoticed_53 : decode cX4_arcsNoticed 53 = .ok (.getfield 9, 3) := dk_180 0 9 (dk_at dksX4_arcsNoticed_2 5 rfl rfl)
theorem dX4_arcsNoticed_56 : decode cX4_arcsNoticed 56 = .ok (.iconst 5, 1) := dk_8 (dk_at dksX4_arcsNoticed_2 8 rfl rfl)
theorem dX4_arcsNoticed_57 : decode cX4_arcsNoticed 57 = .ok (.iload_n 3, 1) := dk_29 (dk_at dksX4_arcsNoticed_2 9 rfl rfl)
theorem dX4_arcsNoticed_58 : decode cX4_arcsNoticed 58 = .ok (.iadd, 1) := dk_96 (dk_at dksX4_arcsNoticed_2 10 rfl rfl)
theorem dX4_arcsNoticed_59 : decode cX4_arcsNoticed 59 = .ok (.iconst 1, 1) := dk_4 (dk_at dksX4_arcsNoticed_2 11 rfl rfl)
theorem dX4_arcsNoticed_60 : decode cX4_arcsNoticed 60 = .ok (.isub, 1) := dk_100 (dk_at dksX4_arcsNoticed_2 12 rfl rfl)
theorem dX4_arcsNoticed_61 : decode cX4_arcsNoticed 61 = .ok (.iaload, 1) := dk_46 (dk_at dksX4_arcsNoticed_2 13 rfl rfl)
theorem dX4_arcsNoticed_62 : decode cX4_arcsNoticed 62 = .ok (.i2l, 1) := dk_133 (dk_at dksX4_arcsNoticed_2 14 rfl rfl)
theorem dX4_arcsNoticed_63 : decode cX4_arcsNoticed 63 = .ok (.lmul, 1) := dk_105 (dk_at dksX4_arcsNoticed_2 15 rfl rfl)
theorem dX4_arcsNoticed_64 : decode cX4_arcsNoticed 64 = .ok (.lcmp, 1) := dk_148 (dk_at dksX4_arcsNoticed_2 16 rfl rfl)
theorem dX4_arcsNoticed_65 : decode cX4_arcsNoticed 65 = .ok (.ifCond .lt 7, 3) := dk_155 0 7 (dk_at dksX4_arcsNoticed_2 17 rfl rfl)
theorem dX4_arcsNoticed_68 : decode cX4_arcsNoticed 68 = .ok (.iconst 1, 1) := dk_4 (dk_at dksX4_arcsNoticed_2 20 rfl rfl)
theorem dX4_arcsNoticed_69 : decode cX4_arcsNoticed 69 = .ok (.goto 4, 3) := dk_167 0 4 (dk_at dksX4_arcsNoticed_2 21 rfl rfl)
theorem dX4_arcsNoticed_72 : decode cX4_arcsNoticed 72 = .ok (.iconst 0, 1) := dk_3 (dk_at dksX4_arcsNoticed_3 0 rfl rfl)
theorem dX4_arcsNoticed_73 : decode cX4_arcsNoticed 73 = .ok (.istore 4, 2) := dk_54 4 (dk_at dksX4_arcsNoticed_3 1 rfl rfl)
theorem dX4_arcsNoticed_75 : decode cX4_arcsNoticed 75 = .ok (.aload_n 0, 1) := dk_42 (dk_at dksX4_arcsNoticed_3 3 rfl rfl)
theorem dX4_arcsNoticed_76 : decode cX4_arcsNoticed 76 = .ok (.getfield 9, 3) := dk_180 0 9 (dk_at dksX4_arcsNoticed_3 4 rfl rfl)
theorem dX4_arcsNoticed_79 : decode cX4_arcsNoticed 79 = .ok (.bipush 105, 2) := dk_16 105 (dk_at dksX4_arcsNoticed_3 7 rfl rfl)
theorem dX4_arcsNoticed_81 : decode cX4_arcsNoticed 81 = .ok (.iload_n 3, 1) := dk_29 (dk_at dksX4_arcsNoticed_3 9 rfl rfl)
theorem dX4_arcsNoticed_82 : decode cX4_arcsNoticed 82 = .ok (.iadd, 1) := dk_96 (dk_at dksX4_arcsNoticed_3 10 rfl rfl)
theorem dX4_arcsNoticed_83 : decode cX4_arcsNoticed 83 = .ok (.iaload, 1) := dk_46 (dk_at dksX4_arcsNoticed_3 11 rfl rfl)
theorem dX4_arcsNoticed_84 : decode cX4_arcsNoticed 84 = .ok (.ifCond .ne 11, 3) := dk_154 0 11 (dk_at dksX4_arcsNoticed_3 12 rfl rfl)
theorem dX4_arcsNoticed_87 : decode cX4_arcsNoticed 87 = .ok (.iload 4, 2) := dk_21 4 (dk_at dksX4_arcsNoticed_3 15 rfl rfl)
theorem dX4_arcsNoticed_89 : decode cX4_arcsNoticed 89 = .ok (.ifCond .eq 6, 3) := dk_153 0 6 (dk_at dksX4_arcsNoticed_3 17 rfl rfl)
theorem dX4_arcsNoticed_92 : decode cX4_arcsNoticed 92 = .ok (.iinc 2 1, 3) := dk_132 2 1 (dk_at dksX4_arcsNoticed_3 20 rfl rfl)
theorem dX4_arcsNoticed_95 : decode cX4_arcsNoticed 95 = .ok (.iinc 3 1, 3) := dk_132 3 1 (dk_at dksX4_arcsNoticed_4 0 rfl rfl)
theorem dX4_arcsNoticed_98 : decode cX4_arcsNoticed 98 = .ok (.goto (-71), 3) := dk_167 255 185 (dk_at dksX4_arcsNoticed_4 3 rfl rfl)
theorem dX4_arcsNoticed_101 : decode cX4_arcsNoticed 101 = .ok (.iload_n 2, 1) := dk_28 (dk_at dksX4_arcsNoticed_4 6 rfl rfl)
theorem dX4_arcsNoticed_102 : decode cX4_arcsNoticed 102 = .ok (.ireturn, 1) := dk_172 (dk_at dksX4_arcsNoticed_4 7 rfl rfl)
abbrev cX4_tune : ByteArray := prog_21_method_83_code
def yX4_tune : MethodName := ⟨RX4, "tune", "()I"⟩
def dkwX4_tune_0 : List UInt8 := [42, 180, 0, 194, 153, 0, 16, 42, 42, 180, 0, 9, 4, 46, 182, 1, 135, 167, 0, 4, 2, 172]
abbrev dktX4_tune_0 : List UInt8 := dkwX4_tune_0 ++ []
theorem dksX4_tune_0 : cX4_tune.data.toList.drop 0 = dktX4_tune_0 := by decide +kernel
theorem dX4_tune_0 : decode cX4_tune 0 = .ok (.aload_n 0, 1) := dk_42 (dk_at dksX4_tune_0 0 rfl rfl)
theorem dX4_tune_1 : decode cX4_tune 1 = .ok (.getfield 194, 3) := dk_180 0 194 (dk_at dksX4_tune_0 1 rfl rfl)
theorem dX4_tune_4 : decode cX4_tune 4 = .ok (.ifCond .eq 16, 3) := dk_153 0 16 (dk_at dksX4_tune_0 4 rfl rfl)
theorem dX4_tune_7 : decode cX4_tune 7 = .ok (.aload_n 0, 1) := dk_42 (dk_at dksX4_tune_0 7 rfl rfl)
theorem dX4_tune_8 : decode cX4_tune 8 = .ok (.aload_n 0, 1) := dk_42 (dk_at dksX4_tune_0 8 rfl rfl)
theorem dX4_tune_9 : decode cX4_tune 9 = .ok (.getfield 9, 3) := dk_180 0 9 (dk_at dksX4_tune_0 9 rfl rfl)
theorem dX4_tune_12 : decode cX4_tune 12 = .ok (.iconst 1, 1) := dk_4 (dk_at dksX4_tune_0 12 rfl rfl)
theorem dX4_tune_13 : decode cX4_tune 13 = .ok (.iaload, 1) := dk_46 (dk_at dksX4_tune_0 13 rfl rfl)
theorem dX4_tune_14 : decode cX4_tune 14 = .ok (.invokevirtual 391, 3) := dk_182 1 135 (dk_at dksX4_tune_0 14 rfl rfl)
theorem dX4_tune_17 : decode cX4_tune 17 = .ok (.goto 4, 3) := dk_167 0 4 (dk_at dksX4_tune_0 17 rfl rfl)
theorem dX4_tune_20 : decode cX4_tune 20 = .ok (.iconst (-1), 1) := dk_2 (dk_at dksX4_tune_0 20 rfl rfl)
theorem dX4_tune_21 : decode cX4_tune 21 = .ok (.ireturn, 1) := dk_172 (dk_at dksX4_tune_0 21 rfl rfl)
abbrev cX4_finish : ByteArray := prog_21_method_82_code
def yX4_finish : MethodName := ⟨RX4, "finish", "(I)I"⟩
def dkwX4_finish_7 : List UInt8 := [180, 1, 116, 182, 1, 9, 42, 180, 1, 119, 172]
abbrev dktX4_finish_7 : List UInt8 := dkwX4_finish_7 ++ []
def dkwX4_finish_6 : List UInt8 := [7, 42, 42, 180, 1, 116, 182, 1, 85, 182, 1, 129, 16, 253, 172, 42, 182, 1, 6, 42, 4, 42]
abbrev dktX4_finish_6 : List UInt8 := dkwX4_finish_6 ++ dktX4_finish_7
def dkwX4_finish_5 : List UInt8 := [180, 0, 207, 182, 1, 90, 182, 1, 129, 42, 42, 180, 1, 116, 182, 1, 85, 17, 1, 244, 162, 0, 16, 42]
abbrev dktX4_finish_5 : List UInt8 := dkwX4_finish_5 ++ dktX4_finish_6
def dkwX4_finish_4 : List UInt8 := [182, 1, 98, 153, 0, 59, 42, 4, 42, 180, 1, 119, 182, 1, 129, 42, 6, 42, 42, 180, 1, 116, 42]
abbrev dktX4_finish_4 : List UInt8 := dkwX4_finish_4 ++ dktX4_finish_5
def dkwX4_finish_3 : List UInt8 := [153, 0, 15, 42, 5, 42, 180, 1, 116, 184, 1, 15, 182, 1, 129, 16, 253, 172, 42, 42, 180, 1, 116]
abbrev dktX4_finish_3 : List UInt8 := dkwX4_finish_3 ++ dktX4_finish_4
def dkwX4_finish_2 : List UInt8 := [180, 1, 116, 184, 1, 13, 182, 1, 129, 167, 0, 28, 42, 180, 1, 116, 184, 1, 15, 184, 1, 132]
abbrev dktX4_finish_2 : List UInt8 := dkwX4_finish_2 ++ dktX4_finish_3
def dkwX4_finish_1 : List UInt8 := [180, 1, 119, 182, 1, 129, 42, 180, 1, 116, 184, 1, 13, 184, 1, 132, 153, 0, 18, 42, 5, 42]
abbrev dktX4_finish_1 : List UInt8 := dkwX4_finish_1 ++ dktX4_finish_2
def dkwX4_finish_0 : List UInt8 := [42, 27, 182, 1, 126, 42, 3, 181, 0, 222, 42, 180, 1, 119, 42, 180, 0, 213, 164, 0, 68, 42, 4, 42]
abbrev dktX4_finish_0 : List UInt8 := dkwX4_finish_0 ++ dktX4_finish_1
theorem dksX4_finish_0 : cX4_finish.data.toList.drop 0 = dktX4_finish_0 := by decide +kernel
theorem dksX4_finish_1 : cX4_finish.data.toList.drop 24 = dktX4_finish_1 := dk_seg dksX4_finish_0 24 rfl rfl
theorem dksX4_finish_2 : cX4_finish.data.toList.drop 46 = dktX4_finish_2 := dk_seg dksX4_finish_1 22 rfl rfl
theorem dksX4_finish_3 : cX4_finish.data.toList.drop 68 = dktX4_finish_3 := dk_seg dksX4_finish_2 22 rfl rfl
theorem dksX4_finish_4 : cX4_finish.data.toList.drop 91 = dktX4_finish_4 := dk_seg dksX4_finish_3 23 rfl rfl
theorem dksX4_finish_5 : cX4_finish.data.toList.drop 114 = dktX4_finish_5 := dk_seg dksX4_finish_4 23 rfl rfl
theorem dksX4_finish_6 : cX4_finish.data.toList.drop 138 = dktX4_finish_6 := dk_seg dksX4_finish_5 24 rfl rfl
theorem dksX4_finish_7 : cX4_finish.data.toList.drop 160 = dktX4_finish_7 := dk_seg dksX4_finish_6 22 rfl rfl
theorem dX4_finish_0 : decode cX4_finish 0 = .ok (.aload_n 0, 1) := dk_42 (dk_at dksX4_finish_0 0 rfl rfl)
theorem dX4_finish_1 : decode cX4_finish 1 = .ok (.iload_n 1, 1) := dk_27 (dk_at dksX4_finish_0 1 rfl rfl)
theorem dX4_finish_2 : decode cX4_finish 2 = .ok (.invokevirtual 382, 3) := dk_182 1 126 (dk_at dksX4_finish_0 2 rfl rfl)
theorem dX4_finish_5 : decode cX4_finish 5 = .ok (.aload_n 0, 1) := dk_42 (dk_at dksX4_finish_0 5 rfl rfl)
theorem dX4_finish_6 : decode cX4_finish 6 = .ok (.iconst 0, 1) := dk_3 (dk_at dksX4_finish_0 6 rfl rfl)
theorem dX4_finish_7 : decode cX4_finish 7 = .ok (.putfield 222, 3) := dk_181 0 222 (dk_at dksX4_finish_0 7 rfl rfl)
theorem dX4_finish_10 : decode cX4_finish 10 = .ok (.aload_n 0, 1) := dk_42 (dk_at dksX4_finish_0 10 rfl rfl)
theorem dX4_finish_11 : decode cX4_finish 11 = .ok (.getfield 375, 3) := dk_180 1 119 (dk_at dksX4_finish_0 11 rfl rfl)
theorem dX4_finish_14 : decode cX4_finish 14 = .ok (.aload_n 0, 1) := dk_42 (dk_at dksX4_finish_0 14 rfl rfl)
theorem dX4_finish_15 : decode cX4_finish 15 = .ok (.getfield 213, 3) := dk_180 0 213 (dk_at dksX4_finish_0 15 rfl rfl)
theorem dX4_finish_18 : decode cX4_finish 18 = .ok (.if_icmp .le 68, 3) := dk_164 0 68 (dk_at dksX4_finish_0 18 rfl rfl)
theorem dX4_finish_21 : decode cX4_finish 21 = .ok (.aload_n 0, 1) := dk_42 (dk_at dksX4_finish_0 21 rfl rfl)
theorem dX4_finish_22 : decode cX4_finish 22 = .ok (.iconst 1, 1) := dk_4 (dk_at dksX4_finish_0 22 rfl rfl)
theorem dX4_finish_23 : decode cX4_finish 23 = .ok (.aload_n 0, 1) := dk_42 (dk_at dksX4_finish_0 23 rfl rfl)
theorem dX4_finish_24 : decode cX4_finish 24 = .ok (.getfield 375, 3) := dk_180 1 119 (dk_at dksX4_finish_1 0 rfl rfl)
theorem dX4_finish_27 : decode cX4_finish 27 = .ok (.invokevirtual 385, 3) := dk_182 1 129 (dk_at dksX4_finish_1 3 rfl rfl)
theorem dX4_finish_30 : decode cX4_finish 30 = .ok (.aload_n 0, 1) := dk_42 (dk_at dksX4_finish_1 6 rfl rfl)
theorem dX4_finish_31 : decode cX4_finish 31 = .ok (.getfield 372, 3) := dk_180 1 116 (dk_at dksX4_finish_1 7 rfl rfl)
theorem dX4_finish_34 : decode cX4_finish 34 = .ok (.invokestatic 269, 3) := dk_184 1 13 (dk_at dksX4_finish_1 10 rfl rfl)
theorem dX4_finish_37 : decode cX4_finish 37 = .ok (.invokestatic 388, 3) := dk_184 1 132 (dk_at dksX4_finish_1 13 rfl rfl)
theorem dX4_finish_40 : decode cX4_finish 40 = .ok (.ifCond .eq 18, 3) := dk_153 0 18 (dk_at dksX4_finish_1 16 rfl rfl)
theorem dX4_finish_43 : decode cX4_finish 43 = .ok (.aload_n 0, 1) := dk_42 (dk_at dksX4_finish_1 19 rfl rfl)
theorem dX4_finish_44 : decode cX4_finish 44 = .ok (.iconst 2, 1) := dk_5 (dk_at dksX4_finish_1 20 rfl rfl)
theorem dX4_finish_45 : decode cX4_finish 45 = .ok (.aload_n 0, 1) := dk_42 (dk_at dksX4_finish_1 21 rfl rfl)
theorem dX4_finish_46 : decode cX4_finish 46 = .ok (.getfield 372, 3) := dk_180 1 116 (dk_at dksX4_finish_2 0 rfl rfl)
theorem dX4_finish_49 : decode cX4_finish 49 = .ok (.invokestatic 269, 3) := dk_184 1 13 (dk_at dksX4_finish_2 3 rfl rfl)
theorem dX4_finish_52 : decode cX4_finish 52 = .ok (.invokevirtual 385, 3) := dk_182 1 129 (dk_at dksX4_finish_2 6 rfl rfl)
theorem dX4_finish_55 : decode cX4_finish 55 = .ok (.goto 28, 3) := dk_167 0 28 (dk_at dksX4_finish_2 9 rfl rfl)
theorem dX4_finish_58 : decode cX4_finish 58 = .ok (.aload_n 0, 1) := dk_42 (dk_at dksX4_finish_2 12 rfl rfl)
theorem dX4_finish_59 : decode cX4_finish 59 = .ok (.getfield 372, 3) := dk_180 1 116 (dk_at dksX4_finish_2 13 rfl rfl)
theorem dX4_finish_62 : decode cX4_finish 62 = .ok (.invokestatic 271, 3) := dk_184 1 15 (dk_at dksX4_finish_2 16 rfl rfl)
theorem dX4_finish_65 : decode cX4_finish 65 = .ok (.invokestatic 388, 3) := dk_184 1 132 (dk_at dksX4_finish_2 19 rfl rfl)
theorem dX4_finish_68 : decode cX4_finish 68 = .ok (.ifCond .eq 15, 3) := dk_153 0 15 (dk_at dksX4_finish_3 0 rfl rfl)
theorem dX4_finish_71 : decode cX4_finish 71 = .ok (.aload_n 0, 1) := dk_42 (dk_at dksX4_finish_3 3 rfl rfl)
theorem dX4_finish_72 : decode cX4_finish 72 = .ok (.iconst 2, 1) := dk_5 (dk_at dksX4_finish_3 4 rfl rfl)
theorem dX4_finish_73 : decode cX4_finish 73 = .ok (.aload_n 0, 1) := dk_42 (dk_at dksX4_finish_3 5 rfl rfl)
theorem dX4_finish_74 : decode cX4_finish 74 = .ok (.getfield 372, 3) := dk_180 1 116 (dk_at dksX4_finish_3 6 rfl rfl)
theorem dX4_finish_77 : decode cX4_finish 77 = .ok (.invokestatic 271, 3) := dk_184 1 15 (dk_at dksX4_finish_3 9 rfl rfl)
theorem dX4_finish_80 : decode cX4_finish 80 = .ok (.invokevirtual 385, 3) := dk_182 1 129 (dk_at dksX4_finish_3 12 rfl rfl)
theorem dX4_finish_83 : decode cX4_finish 83 = .ok (.bipush (-3), 2) := dk_16 253 (dk_at dksX4_finish_3 15 rfl rfl)
theorem dX4_finish_85 : decode cX4_finish 85 = .ok (.ireturn, 1) := dk_172 (dk_at dksX4_finish_3 17 rfl rfl)
theorem dX4_finish_86 : decode cX4_finish 86 = .ok (.aload_n 0, 1) := dk_42 (dk_at dksX4_finish_3 18 rfl rfl)
theorem dX4_finish_87 : decode cX4_finish 87 = .ok (.aload_n 0, 1) := dk_42 (dk_at dksX4_finish_3 19 rfl rfl)
theorem dX4_finish_88 : decode cX4_finish 88 = .ok (.getfield 372, 3) := dk_180 1 116 (dk_at dksX4_finish_3 20 rfl rfl)
theorem dX4_finish_91 : decode cX4_finish 91 = .ok (.invokevirtual 354, 3) := dk_182 1 98 (dk_at dksX4_finish_4 0 rfl rfl)
theorem dX4_finish_94 : decode cX4_finish 94 = .ok (.ifCond .eq 59, 3) := dk_153 0 59 (dk_at dksX4_finish_4 3 rfl rfl)
theorem dX4_finish_97 : decode cX4_finish 97 = .ok (.aload_n 0, 1) := dk_42 (dk_at dksX4_finish_4 6 rfl rfl)
theorem dX4_finish_98 : decode cX4_finish 98 = .ok (.iconst 1, 1) := dk_4 (dk_at dksX4_finish_4 7 rfl rfl)
theorem dX4_finish_99 : decode cX4_finish 99 = .ok (.aload_n 0, 1) := dk_42 (dk_at dksX4_finish_4 8 rfl rfl)
theorem dX4_finish_100 : decode cX4_finish 100 = .ok (.getfield 375, 3) := dk_180 1 119 (dk_at dksX4_finish_4 9 rfl rfl)
theorem dX4_finish_103 : decode cX4_finish 103 = .ok (.invokevirtual 385, 3) := dk_182 1 129 (dk_at dksX4_finish_4 12 rfl rfl)
theorem dX4_finish_106 : decode cX4_finish 106 = .ok (.aload_n 0, 1) := dk_42 (dk_at dksX4_finish_4 15 rfl rfl)
theorem dX4_finish_107 : decode cX4_finish 107 = .ok (.iconst 3, 1) := dk_6 (dk_at dksX4_finish_4 16 rfl rfl)
theorem dX4_finish_108 : decode cX4_finish 108 = .ok (.aload_n 0, 1) := dk_42 (dk_at dksX4_finish_4 17 rfl rfl)
theorem dX4_finish_109 : decode cX4_finish 109 = .ok (.aload_n 0, 1) := dk_42 (dk_at dksX4_finish_4 18 rfl rfl)
theorem dX4_finish_110 : decode cX4_finish 110 = .ok (.getfield 372, 3) := dk_180 1 116 (dk_at dksX4_finish_4 19 rfl rfl)
theorem dX4_finish_113 : decode cX4_finish 113 = .ok (.aload_n 0, 1) := dk_42 (dk_at dksX4_finish_4 22 rfl rfl)
theorem dX4_finish_114 : decode cX4_finish 114 = .ok (.getfield 207, 3) := dk_180 0 207 (dk_at dksX4_finish_5 0 rfl rfl)
theorem dX4_finish_117 : decode cX4_finish 117 = .ok (.invokevirtual 346, 3) := dk_182 1 90 (dk_at dksX4_finish_5 3 rfl rfl)
theorem dX4_finish_120 : decode cX4_finish 120 = .ok (.invokevirtual 385, 3) := dk_182 1 129 (dk_at dksX4_finish_5 6 rfl rfl)
theorem dX4_finish_123 : decode cX4_finish 123 = .ok (.aload_n 0, 1) := dk_42 (dk_at dksX4_finish_5 9 rfl rfl)
theorem dX4_finish_124 : decode cX4_finish 124 = .ok (.aload_n 0, 1) := dk_42 (dk_at dksX4_finish_5 10 rfl rfl)
theorem dX4_finish_125 : decode cX4_finish 125 = .ok (.getfield 372, 3) := dk_180 1 116 (dk_at dksX4_finish_5 11 rfl rfl)
theorem dX4_finish_128 : decode cX4_finish 128 = .ok (.invokevirtual 341, 3) := dk_182 1 85 (dk_at dksX4_finish_5 14 rfl rfl)
theorem dX4_finish_131 : decode cX4_finish 131 = .ok (.sipush 500, 3) := dk_17 1 244 (dk_at dksX4_finish_5 17 rfl rfl)
theorem dX4_finish_134 : decode cX4_finish 134 = .ok (.if_icmp .ge 16, 3) := dk_162 0 16 (dk_at dksX4_finish_5 20 rfl rfl)
theorem dX4_finish_137 : decode cX4_finish 137 = .ok (.aload_n 0, 1) := dk_42 (dk_at dksX4_finish_5 23 rfl rfl)
theorem dX4_finish_138 : decode cX4_finish 138 = .ok (.iconst 4, 1) := dk_7 (dk_at dksX4_finish_6 0 rfl rfl)
theorem dX4_finish_139 : decode cX4_finish 139 = .ok (.aload_n 0, 1) := dk_42 (dk_at dksX4_finish_6 1 rfl rfl)
theorem dX4_finish_140 : decode cX4_finish 140 = .ok (.aload_n 0, 1) := dk_42 (dk_at dksX4_finish_6 2 rfl rfl)
theorem dX4_finish_141 : decode cX4_finish 141 = .ok (.getfield 372, 3) := dk_180 1 116 (dk_at dksX4_finish_6 3 rfl rfl)
theorem dX4_finish_144 : decode cX4_finish 144 = .ok (.invokevirtual 341, 3) := dk_182 1 85 (dk_at dksX4_finish_6 6 rfl rfl)
theorem dX4_finish_147 : decode cX4_finish 147 = .ok (.invokevirtual 385, 3) := dk_182 1 129 (dk_at dksX4_finish_6 9 rfl rfl)
theorem dX4_finish_150 : decode cX4_finish 150 = .ok (.bipush (-3), 2) := dk_16 253 (dk_at dksX4_finish_6 12 rfl rfl)
theorem dX4_finish_152 : decode cX4_finish 152 = .ok (.ireturn, 1) := dk_172 (dk_at dksX4_finish_6 14 rfl rfl)
theorem dX4_finish_153 : decode cX4_finish 153 = .ok (.aload_n 0, 1) := dk_42 (dk_at dksX4_finish_6 15 rfl rfl)
theorem dX4_finish_154 : decode cX4_finish 154 = .ok (.invokevirtual 262, 3) := dk_182 1 6 (dk_at dksX4_finish_6 16 rfl rfl)
theorem dX4_finish_157 : decode cX4_finish 157 = .ok (.aload_n 0, 1) := dk_42 (dk_at dksX4_finish_6 19 rfl rfl)
theorem dX4_finish_158 : decode cX4_finish 158 = .ok (.iconst 1, 1) := dk_4 (dk_at dksX4_finish_6 20 rfl rfl)
theorem dX4_finish_159 : decode cX4_finish 159 = .ok (.aload_n 0, 1) := dk_42 (dk_at dksX4_finish_6 21 rfl rfl)
theorem dX4_finish_160 : decode cX4_finish 160 = .ok (.getfield 372, 3) := dk_180 1 116 (dk_at dksX4_finish_7 0 rfl rfl)
theorem dX4_finish_163 : decode cX4_finish 163 = .ok (.invokevirtual 265, 3) := dk_182 1 9 (dk_at dksX4_finish_7 3 rfl rfl)
theorem dX4_finish_166 : decode cX4_finish 166 = .ok (.aload_n 0, 1) := dk_42 (dk_at dksX4_finish_7 6 rfl rfl)
theorem dX4_finish_167 : decode cX4_finish 167 = .ok (.getfield 375, 3) := dk_180 1 119 (dk_at dksX4_finish_7 7 rfl rfl)
theorem dX4_finish_170 : decode cX4_finish 170 = .ok (.ireturn, 1) := dk_172 (dk_at dksX4_finish_7 10 rfl rfl)
abbrev cX4_search : ByteArray := prog_21_method_80_code
def yX4_search : MethodName := ⟨RX4, "search", "(I)V"⟩
def dkwX4_search_6 : List UInt8 := [180, 1, 113, 181, 1, 119, 167, 0, 7, 28, 5, 108, 61, 167, 255, 132, 177]
abbrev dktX4_search_6 : List UInt8 := dkwX4_search_6 ++ []
def dkwX4_search_5 : List UInt8 := [182, 1, 122, 42, 180, 1, 113, 42, 180, 1, 119, 162, 0, 22, 42, 42, 180, 1, 110, 181, 1, 116, 42, 42]
abbrev dktX4_search_5 : List UInt8 := dkwX4_search_5 ++ dktX4_search_6
def dkwX4_search_4 : List UInt8 := [96, 182, 1, 122, 42, 29, 21, 4, 21, 5, 28, 100, 182, 1, 122, 42, 4, 29, 100, 21, 4, 21, 5]
abbrev dktX4_search_4 : List UInt8 := dkwX4_search_4 ++ dktX4_search_5
def dkwX4_search_3 : List UInt8 := [96, 21, 5, 182, 1, 122, 42, 29, 21, 4, 28, 100, 21, 5, 182, 1, 122, 42, 29, 21, 4, 21, 5, 28]
abbrev dktX4_search_3 : List UInt8 := dkwX4_search_3 ++ dktX4_search_4
def dkwX4_search_2 : List UInt8 := [184, 1, 13, 54, 4, 42, 180, 1, 116, 184, 1, 15, 54, 5, 42, 2, 181, 1, 110, 42, 29, 21, 4, 28]
abbrev dktX4_search_2 : List UInt8 := dkwX4_search_2 ++ dktX4_search_3
def dkwX4_search_1 : List UInt8 := [181, 0, 225, 16, 16, 61, 28, 158, 0, 126, 42, 180, 1, 116, 184, 1, 20, 62, 42, 180, 1, 116]
abbrev dktX4_search_1 : List UInt8 := dkwX4_search_1 ++ dktX4_search_2
def dkwX4_search_0 : List UInt8 := [42, 27, 181, 1, 116, 42, 42, 27, 42, 180, 0, 9, 3, 46, 182, 1, 77, 181, 1, 119, 42, 4]
abbrev dktX4_search_0 : List UInt8 := dkwX4_search_0 ++ dktX4_search_1
theorem dksX4_search_0 : cX4_search.data.toList.drop 0 = dktX4_search_0 := by decide +kernel
theorem dksX4_search_1 : cX4_search.data.toList.drop 22 = dktX4_search_1 := dk_seg dksX4_search_0 22 rfl rfl
theorem dksX4_search_2 : cX4_search.data.toList.drop 44 = dktX4_search_2 := dk_seg dksX4_search_1 22 rfl rfl
theorem dksX4_search_3 : cX4_search.data.toList.drop 68 = dktX4_search_3 := dk_seg dksX4_search_2 24 rfl rfl
theorem dksX4_search_4 : cX4_search.data.toList.drop 92 = dktX4_search_4 := dk_seg dksX4_search_3 24 rfl rfl
theorem dksX4_search_5 : cX4_search.data.toList.drop 115 = dktX4_search_5 := dk_seg dksX4_search_4 23 rfl rfl
theorem dksX4_search_6 : cX4_search.data.toList.drop 139 = dktX4_search_6 := dk_seg dksX4_search_5 24 rfl rfl
theorem dX4_search_0 : decode cX4_search 0 = .ok (.aload_n 0, 1) := dk_42 (dk_at dksX4_search_0 0 rfl rfl)
theorem dX4_search_1 : decode cX4_search 1 = .ok (.iload_n 1, 1) := dk_27 (dk_at dksX4_search_0 1 rfl rfl)
theorem dX4_search_2 : decode cX4_search 2 = .ok (.putfield 372, 3) := dk_181 1 116 (dk_at dksX4_search_0 2 rfl rfl)
theorem dX4_search_5 : decode cX4_search 5 = .ok (.aload_n 0, 1) := dk_42 (dk_at dksX4_search_0 5 rfl rfl)
theorem dX4_search_6 : decode cX4_search 6 = .ok (.aload_n 0, 1) := dk_42 (dk_at dksX4_search_0 6 rfl rfl)
theorem dX4_search_7 : decode cX4_search 7 = .ok (.iload_n 1, 1) := dk_27 (dk_at dksX4_search_0 7 rfl rfl)
theorem dX4_search_8 : decode cX4_search 8 = .ok (.aload_n 0, 1) := dk_42 (dk_at dksX4_search_0 8 rfl rfl)
theorem dX4_search_9 : decode cX4_search 9 = .ok (.getfield 9, 3) := dk_180 0 9 (dk_at dksX4_search_0 9 rfl rfl)
theorem dX4_search_12 : decode cX4_search 12 = .ok (.iconst 0, 1) := dk_3 (dk_at dksX4_search_0 12 rfl rfl)
theorem dX4_search_13 : decode cX4_search 13 = .ok (.iaload, 1) := dk_46 (dk_at dksX4_search_0 13 rfl rfl)
theorem dX4_search_14 : decode cX4_search 14 = .ok (.invokevirtual 333, 3) := dk_182 1 77 (dk_at dksX4_search_0 14 rfl rfl)
theorem dX4_search_17 : decode cX4_search 17 = .ok (.putfield 375, 3) := dk_181 1 119 (dk_at dksX4_search_0 17 rfl rfl)
theorem dX4_search_20 : decode cX4_search 20 = .ok (.aload_n 0, 1) := dk_42 (dk_at dksX4_search_0 20 rfl rfl)
theorem dX4_search_21 : decode cX4_search 21 = .ok (.iconst 1, 1) := dk_4 (dk_at dksX4_search_0 21 rfl rfl)
theorem dX4_search_22 : decode cX4_search 22 = .ok (.putfield 225, 3) := dk_181 0 225 (dk_at dksX4_search_1 0 rfl rfl)
theorem dX4_search_25 : decode cX4_search 25 = .ok (.bipush 16, 2) := dk_16 16 (dk_at dksX4_search_1 3 rfl rfl)
theorem dX4_search_27 : decode cX4_search 27 = .ok (.istore_n 2, 1) := dk_61 (dk_at dksX4_search_1 5 rfl rfl)
theorem dX4_search_28 : decode cX4_search 28 = .ok (.iload_n 2, 1) := dk_28 (dk_at dksX4_search_1 6 rfl rfl)
theorem dX4_search_29 : decode cX4_search 29 = .ok (.ifCond .le 126, 3) := dk_158 0 126 (dk_at dksX4_search_1 7 rfl rfl)
theorem dX4_search_32 : decode cX4_search 32 = .ok (.aload_n 0, 1) := dk_42 (dk_at dksX4_search_1 10 rfl rfl)
theorem dX4_search_33 : decode cX4_search 33 = .ok (.getfield 372, 3) := dk_180 1 116 (dk_at dksX4_search_1 11 rfl rfl)
theorem dX4_search_36 : decode cX4_search 36 = .ok (.invokestatic 276, 3) := dk_184 1 20 (dk_at dksX4_search_1 14 rfl rfl)
theorem dX4_search_39 : decode cX4_search 39 = .ok (.istore_n 3, 1) := dk_62 (dk_at dksX4_search_1 17 rfl rfl)
theorem dX4_search_40 : decode cX4_search 40 = .ok (.aload_n 0, 1) := dk_42 (dk_at dksX4_search_1 18 rfl rfl)
theorem dX4_search_41 : decode cX4_search 41 = .ok (.getfield 372, 3) := dk_180 1 116 (dk_at dksX4_search_1 19 rfl rfl)
theorem dX4_search_44 : decode cX4_search 44 = .ok (.invokestatic 269, 3) := dk_184 1 13 (dk_at dksX4_search_2 0 rfl rfl)
theorem dX4_search_47 : decode cX4_search 47 = .ok (.istore 4, 2) := dk_54 4 (dk_at dksX4_search_2 3 rfl rfl)
theorem dX4_search_49 : decode cX4_search 49 = .ok (.aload_n 0, 1) := dk_42 (dk_at dksX4_search_2 5 rfl rfl)
theorem dX4_search_50 : decode cX4_search 50 = .ok (.getfield 372, 3) := dk_180 1 116 (dk_at dksX4_search_2 6 rfl rfl)
theorem dX4_search_53 : decode cX4_search 53 = .ok (.invokestatic 271, 3) := dk_184 1 15 (dk_at dksX4_search_2 9 rfl rfl)
theorem dX4_search_56 : decode cX4_search 56 = .ok (.istore 5, 2) := dk_54 5 (dk_at dksX4_search_2 12 rfl rfl)
theorem dX4_search_58 : decode cX4_search 58 = .ok (.aload_n 0, 1) := dk_42 (dk_at dksX4_search_2 14 rfl rfl)
theorem dX4_search_59 : decode cX4_search 59 = .ok (.iconst (-1), 1) := dk_2 (dk_at dksX4_search_2 15 rfl rfl)
theorem dX4_search_60 : decode cX4_search 60 = .ok (.putfield 366, 3) := dk_181 1 110 (dk_at dksX4_search_2 16 rfl rfl)
theorem dX4_search_63 : decode cX4_search 63 = .ok (.aload_n 0, 1) := dk_42 (dk_at dksX4_search_2 19 rfl rfl)
theorem dX4_search_64 : decode cX4_search 64 = .ok (.iload_n 3, 1) := dk_29 (dk_at dksX4_search_2 20 rfl rfl)
theorem dX4_search_65 : decode cX4_search 65 = .ok (.iload 4, 2) := dk_21 4 (dk_at dksX4_search_2 21 rfl rfl)
theorem dX4_search_67 : decode cX4_search 67 = .ok (.iload_n 2, 1) := dk_28 (dk_at dksX4_search_2 23 rfl rfl)
theorem dX4_search_68 : decode cX4_search 68 = .ok (.iadd, 1) := dk_96 (dk_at dksX4_search_3 0 rfl rfl)
theorem dX4_search_69 : decode cX4_search 69 = .ok (.iload 5, 2) := dk_21 5 (dk_at dksX4_search_3 1 rfl rfl)
theorem dX4_search_71 : decode cX4_search 71 = .ok (.invokevirtual 378, 3) := dk_182 1 122 (dk_at dksX4_search_3 3 rfl rfl)
theorem dX4_search_74 : decode cX4_search 74 = .ok (.aload_n 0, 1) := dk_42 (dk_at dksX4_search_3 6 rfl rfl)
theorem dX4_search_75 : decode cX4_search 75 = .ok (.iload_n 3, 1) := dk_29 (dk_at dksX4_search_3 7 rfl rfl)
theorem dX4_search_76 : decode cX4_search 76 = .ok (.iload 4, 2) := dk_21 4 (dk_at dksX4_search_3 8 rfl rfl)
theorem dX4_search_78 : decode cX4_search 78 = .ok (.iload_n 2, 1) := dk_28 (dk_at dksX4_search_3 10 rfl rfl)
theorem dX4_search_79 : decode cX4_search 79 = .ok (.isub, 1) := dk_100 (dk_at dksX4_search_3 11 rfl rfl)
theorem dX4_search_80 : decode cX4_search 80 = .ok (.iload 5, 2) := dk_21 5 (dk_at dksX4_search_3 12 rfl rfl)
theorem dX4_search_82 : decode cX4_search 82 = .ok (.invokevirtual 378, 3) := dk_182 1 122 (dk_at dksX4_search_3 14 rfl rfl)
theorem dX4_search_85 : decode cX4_search 85 = .ok (.aload_n 0, 1) := dk_42 (dk_at dksX4_search_3 17 rfl rfl)
theorem dX4_search_86 : decode cX4_search 86 = .ok (.iload_n 3, 1) := dk_29 (dk_at dksX4_search_3 18 rfl rfl)
theorem dX4_search_87 : decode cX4_search 87 = .ok (.iload 4, 2) := dk_21 4 (dk_at dksX4_search_3 19 rfl rfl)
theorem dX4_search_89 : decode cX4_search 89 = .ok (.iload 5, 2) := dk_21 5 (dk_at dksX4_search_3 21 rfl rfl)
theorem dX4_search_91 : decode cX4_search 91 = .ok (.iload_n 2, 1) := dk_28 (dk_at dksX4_search_3 23 rfl rfl)
theorem dX4_search_92 : decode cX4_search 92 = .ok (.iadd, 1) := dk_96 (dk_at dksX4_search_4 0 rfl rfl)
theorem dX4_search_93 : decode cX4_search 93 = .ok (.invokevirtual 378, 3) := dk_182 1 122 (dk_at dksX4_search_4 1 rfl rfl)
theorem dX4_search_96 : decode cX4_search 96 = .ok (.aload_n 0, 1) := dk_42 (dk_at dksX4_search_4 4 rfl rfl)
theorem dX4_search_97 : decode cX4_search 97 = .ok (.iload_n 3, 1) := dk_29 (dk_at dksX4_search_4 5 rfl rfl)
theorem dX4_search_98 : decode cX4_search 98 = .ok (.iload 4, 2) := dk_21 4 (dk_at dksX4_search_4 6 rfl rfl)
theorem dX4_search_100 : decode cX4_search 100 = .ok (.iload 5, 2) := dk_21 5 (dk_at dksX4_search_4 8 rfl rfl)
theorem dX4_search_102 : decode cX4_search 102 = .ok (.iload_n 2, 1) := dk_28 (dk_at dksX4_search_4 10 rfl rfl)
theorem dX4_search_103 : decode cX4_search 103 = .ok (.isub, 1) := dk_100 (dk_at dksX4_search_4 11 rfl rfl)
theorem dX4_search_104 : decode cX4_search 104 = .ok (.invokevirtual 378, 3) := dk_182 1 122 (dk_at dksX4_search_4 12 rfl rfl)
theorem dX4_search_107 : decode cX4_search 107 = .ok (.aload_n 0, 1) := dk_42 (dk_at dksX4_search_4 15 rfl rfl)
theorem dX4_search_108 : decode cX4_search 108 = .ok (.iconst 1, 1) := dk_4 (dk_at dksX4_search_4 16 rfl rfl)
theorem dX4_search_109 : decode cX4_search 109 = .ok (.iload_n 3, 1) := dk_29 (dk_at dksX4_search_4 17 rfl rfl)
theorem dX4_search_110 : decode cX4_search 110 = .ok (.isub, 1) := dk_100 (dk_at dksX4_search_4 18 rfl rfl)
theorem dX4_search_111 : decode cX4_search 111 = .ok (.iload 4, 2) := dk_21 4 (dk_at dksX4_search_4 19 rfl rfl)
theorem dX4_search_113 : decode cX4_search 113 = .ok (.iload 5, 2) := dk_21 5 (dk_at dksX4_search_4 21 rfl rfl)
theorem dX4_search_115 : decode cX4_search 115 = .ok (.invokevirtual 378, 3) := dk_182 1 122 (dk_at dksX4_search_5 0 rfl rfl)
theorem dX4_search_118 : decode cX4_search 118 = .ok (.aload_n 0, 1) := dk_42 (dk_at dksX4_search_5 3 rfl rfl)
theorem dX4_search_119 : decode cX4_search 119 = .ok (.getfield 369, 3) := dk_180 1 113 (dk_at dksX4_search_5 4 rfl rfl)
theorem dX4_search_122 : decode cX4_search 122 = .ok (.aload_n 0, 1) := dk_42 (dk_at dksX4_search_5 7 rfl rfl)
theorem dX4_search_123 : decode cX4_search 123 = .ok (.getfield 375, 3) := dk_180 1 119 (dk_at dksX4_search_5 8 rfl rfl)
theorem dX4_search_126 : decode cX4_search 126 = .ok (.if_icmp .ge 22, 3) := dk_162 0 22 (dk_at dksX4_search_5 11 rfl rfl)
theorem dX4_search_129 : decode cX4_search 129 = .ok (.aload_n 0, 1) := dk_42 (dk_at dksX4_search_5 14 rfl rfl)
theorem dX4_search_130 : decode cX4_search 130 = .ok (.aload_n 0, 1) := dk_42 (dk_at dksX4_search_5 15 rfl rfl)
theorem dX4_search_131 : decode cX4_search 131 = .ok (.getfield 366, 3) := dk_180 1 110 (dk_at dksX4_search_5 16 rfl rfl)
theorem dX4_search_134 : decode cX4_search 134 = .ok (.putfield 372, 3) := dk_181 1 116 (dk_at dksX4_search_5 19 rfl rfl)
theorem dX4_search_137 : decode cX4_search 137 = .ok (.aload_n 0, 1) := dk_42 (dk_at dksX4_search_5 22 rfl rfl)
theorem dX4_search_138 : decode cX4_search 138 = .ok (.aload_n 0, 1) := dk_42 (dk_at dksX4_search_5 23 rfl rfl)
theorem dX4_search_139 : decode cX4_search 139 = .ok (.getfield 369, 3) := dk_180 1 113 (dk_at dksX4_search_6 0 rfl rfl)
theorem dX4_search_142 : decode cX4_search 142 = .ok (.putfield 375, 3) := dk_181 1 119 (dk_at dksX4_search_6 3 rfl rfl)
theorem dX4_search_145 : decode cX4_search 145 = .ok (.goto 7, 3) := dk_167 0 7 (dk_at dksX4_search_6 6 rfl rfl)
theorem dX4_search_148 : decode cX4_search 148 = .ok (.iload_n 2, 1) := dk_28 (dk_at dksX4_search_6 9 rfl rfl)
theorem dX4_search_149 : decode cX4_search 149 = .ok (.iconst 2, 1) := dk_5 (dk_at dksX4_search_6 10 rfl rfl)
theorem dX4_search_150 : decode cX4_search 150 = .ok (.idiv, 1) := dk_108 (dk_at dksX4_search_6 11 rfl rfl)
theorem dX4_search_151 : decode cX4_search 151 = .ok (.istore_n 2, 1) := dk_61 (dk_at dksX4_search_6 12 rfl rfl)
theorem dX4_search_152 : decode cX4_search 152 = .ok (.goto (-124), 3) := dk_167 255 132 (dk_at dksX4_search_6 13 rfl rfl)
theorem dX4_search_155 : decode cX4_search 155 = .ok (.return_, 1) := dk_177 (dk_at dksX4_search_6 16 rfl rfl)
abbrev cX4_tryOne : ByteArray := prog_21_method_79_code
def yX4_tryOne : MethodName := ⟨RX4, "tryOne", "(III)V"⟩
def dkwX4_tryOne_3 : List UInt8 := [177]
abbrev dktX4_tryOne_3 : List UInt8 := dkwX4_tryOne_3 ++ []
def dkwX4_tryOne_2 : List UInt8 := [155, 0, 12, 21, 5, 42, 180, 1, 113, 162, 0, 15, 42, 21, 4, 181, 1, 110, 42, 21, 5, 181, 1, 113]
abbrev dktX4_tryOne_2 : List UInt8 := dkwX4_tryOne_2 ++ dktX4_tryOne_3
def dkwX4_tryOne_1 : List UInt8 := [180, 0, 9, 3, 46, 182, 1, 77, 54, 5, 42, 89, 180, 0, 225, 4, 96, 181, 0, 225, 42, 180, 1, 110]
abbrev dktX4_tryOne_1 : List UInt8 := dkwX4_tryOne_1 ++ dktX4_tryOne_2
def dkwX4_tryOne_0 : List UInt8 := [27, 28, 29, 184, 1, 23, 154, 0, 4, 177, 27, 28, 29, 184, 1, 17, 54, 4, 42, 21, 4, 42]
abbrev dktX4_tryOne_0 : List UInt8 := dkwX4_tryOne_0 ++ dktX4_tryOne_1
theorem dksX4_tryOne_0 : cX4_tryOne.data.toList.drop 0 = dktX4_tryOne_0 := by decide +kernel
theorem dksX4_tryOne_1 : cX4_tryOne.data.toList.drop 22 = dktX4_tryOne_1 := dk_seg dksX4_tryOne_0 22 rfl rfl
theorem dksX4_tryOne_2 : cX4_tryOne.data.toList.drop 46 = dktX4_tryOne_2 := dk_seg dksX4_tryOne_1 24 rfl rfl
theorem dksX4_tryOne_3 : cX4_tryOne.data.toList.drop 70 = dktX4_tryOne_3 := dk_seg dksX4_tryOne_2 24 rfl rfl
theorem dX4_tryOne_0 : decode cX4_tryOne 0 = .ok (.iload_n 1, 1) := dk_27 (dk_at dksX4_tryOne_0 0 rfl rfl)
theorem dX4_tryOne_1 : decode cX4_tryOne 1 = .ok (.iload_n 2, 1) := dk_28 (dk_at dksX4_tryOne_0 1 rfl rfl)
theorem dX4_tryOne_2 : decode cX4_tryOne 2 = .ok (.iload_n 3, 1) := dk_29 (dk_at dksX4_tryOne_0 2 rfl rfl)
theorem dX4_tryOne_3 : decode cX4_tryOne 3 = .ok (.invokestatic 279, 3) := dk_184 1 23 (dk_at dksX4_tryOne_0 3 rfl rfl)
theorem dX4_tryOne_6 : decode cX4_tryOne 6 = .ok (.ifCond .ne 4, 3) := dk_154 0 4 (dk_at dksX4_tryOne_0 6 rfl rfl)
theorem dX4_tryOne_9 : decode cX4_tryOne 9 = .ok (.return_, 1) := dk_177 (dk_at dksX4_tryOne_0 9 rfl rfl)
theorem dX4_tryOne_10 : decode cX4_tryOne 10 = .ok (.iload_n 1, 1) := dk_27 (dk_at dksX4_tryOne_0 10 rfl rfl)
theorem dX4_tryOne_11 : decode cX4_tryOne 11 = .ok (.iload_n 2, 1) := dk_28 (dk_at dksX4_tryOne_0 11 rfl rfl)
theorem dX4_tryOne_12 : decode cX4_tryOne 12 = .ok (.iload_n 3, 1) := dk_29 (dk_at dksX4_tryOne_0 12 rfl rfl)
theorem dX4_tryOne_13 : decode cX4_tryOne 13 = .ok (.invokestatic 273, 3) := dk_184 1 17 (dk_at dksX4_tryOne_0 13 rfl rfl)
theorem dX4_tryOne_16 : decode cX4_tryOne 16 = .ok (.istore 4, 2) := dk_54 4 (dk_at dksX4_tryOne_0 16 rfl rfl)
theorem dX4_tryOne_18 : decode cX4_tryOne 18 = .ok (.aload_n 0, 1) := dk_42 (dk_at dksX4_tryOne_0 18 rfl rfl)
theorem dX4_tryOne_19 : decode cX4_tryOne 19 = .ok (.iload 4, 2) := dk_21 4 (dk_at dksX4_tryOne_0 19 rfl rfl)
theorem dX4_tryOne_21 : decode cX4_tryOne 21 = .ok (.aload_n 0, 1) := dk_42 (dk_at dksX4_tryOne_0 21 rfl rfl)
theorem dX4_tryOne_22 : decode cX4_tryOne 22 = .ok (.getfield 9, 3) := dk_180 0 9 (dk_at dksX4_tryOne_1 0 rfl rfl)
theorem dX4_tryOne_25 : decode cX4_tryOne 25 = .ok (.iconst 0, 1) := dk_3 (dk_at dksX4_tryOne_1 3 rfl rfl)
theorem dX4_tryOne_26 : decode cX4_tryOne 26 = .ok (.iaload, 1) := dk_46 (dk_at dksX4_tryOne_1 4 rfl rfl)
theorem dX4_tryOne_27 : decode cX4_tryOne 27 = .ok (.invokevirtual 333, 3) := dk_182 1 77 (dk_at dksX4_tryOne_1 5 rfl rfl)
theorem dX4_tryOne_30 : decode cX4_tryOne 30 = .ok (.istore 5, 2) := dk_54 5 (dk_at dksX4_tryOne_1 8 rfl rfl)
theorem dX4_tryOne_32 : decode cX4_tryOne 32 = .ok (.aload_n 0, 1) := dk_42 (dk_at dksX4_tryOne_1 10 rfl rfl)
theorem dX4_tryOne_33 : decode cX4_tryOne 33 = .ok (.dup, 1) := dk_89 (dk_at dksX4_tryOne_1 11 rfl rfl)
theorem dX4_tryOne_34 : decode cX4_tryOne 34 = .ok (.getfield 225, 3) := dk_180 0 225 (dk_at dksX4_tryOne_1 12 rfl rfl)
theorem dX4_tryOne_37 : decode cX4_tryOne 37 = .ok (.iconst 1, 1) := dk_4 (dk_at dksX4_tryOne_1 15 rfl rfl)
theorem dX4_tryOne_38 : decode cX4_tryOne 38 = .ok (.iadd, 1) := dk_96 (dk_at dksX4_tryOne_1 16 rfl rfl)
theorem dX4_tryOne_39 : decode cX4_tryOne 39 = .ok (.putfield 225, 3) := dk_181 0 225 (dk_at dksX4_tryOne_1 17 rfl rfl)
theorem dX4_tryOne_42 : decode cX4_tryOne 42 = .ok (.aload_n 0, 1) := dk_42 (dk_at dksX4_tryOne_1 20 rfl rfl)
theorem dX4_tryOne_43 : decode cX4_tryOne 43 = .ok (.getfield 366, 3) := dk_180 1 110 (dk_at dksX4_tryOne_1 21 rfl rfl)
theorem dX4_tryOne_46 : decode cX4_tryOne 46 = .ok (.ifCond .lt 12, 3) := dk_155 0 12 (dk_at dksX4_tryOne_2 0 rfl rfl)
theorem dX4_tryOne_49 : decode cX4_tryOne 49 = .ok (.iload 5, 2) := dk_21 5 (dk_at dksX4_tryOne_2 3 rfl rfl)
theorem dX4_tryOne_51 : decode cX4_tryOne 51 = .ok (.aload_n 0, 1) := dk_42 (dk_at dksX4_tryOne_2 5 rfl rfl)
theorem dX4_tryOne_52 : decode cX4_tryOne 52 = .ok (.getfield 369, 3) := dk_180 1 113 (dk_at dksX4_tryOne_2 6 rfl rfl)
theorem dX4_tryOne_55 : decode cX4_tryOne 55 = .ok (.if_icmp .ge 15, 3) := dk_162 0 15 (dk_at dksX4_tryOne_2 9 rfl rfl)
theorem dX4_tryOne_58 : decode cX4_tryOne 58 = .ok (.aload_n 0, 1) := dk_42 (dk_at dksX4_tryOne_2 12 rfl rfl)
theorem dX4_tryOne_59 : decode cX4_tryOne 59 = .ok (.iload 4, 2) := dk_21 4 (dk_at dksX4_tryOne_2 13 rfl rfl)
theorem dX4_tryOne_61 : decode cX4_tryOne 61 = .ok (.putfield 366, 3) := dk_181 1 110 (dk_at dksX4_tryOne_2 15 rfl rfl)
theorem dX4_tryOne_64 : decode cX4_tryOne 64 = .ok (.aload_n 0, 1) := dk_42 (dk_at dksX4_tryOne_2 18 rfl rfl)
theorem dX4_tryOne_65 : decode cX4_tryOne 65 = .ok (.iload 5, 2) := dk_21 5 (dk_at dksX4_tryOne_2 19 rfl rfl)
theorem dX4_tryOne_67 : decode cX4_tryOne 67 = .ok (.putfield 369, 3) := dk_181 1 113 (dk_at dksX4_tryOne_2 21 rfl rfl)
theorem dX4_tryOne_70 : decode cX4_tryOne 70 = .ok (.return_, 1) := dk_177 (dk_at dksX4_tryOne_3 0 rfl rfl)
abbrev cX4_link : ByteArray := prog_21_method_89_code
def yX4_link : MethodName := ⟨RX4, "link", "(II)V"⟩
def dkwX4_link_1 : List UInt8 := [180, 0, 222, 4, 96, 181, 0, 222, 177]
abbrev dktX4_link_1 : List UInt8 := dkwX4_link_1 ++ []
def dkwX4_link_0 : List UInt8 := [42, 180, 0, 58, 42, 180, 0, 222, 27, 79, 42, 180, 0, 61, 42, 180, 0, 222, 28, 79, 42, 89]
abbrev dktX4_link_0 : List UInt8 := dkwX4_link_0 ++ dktX4_link_1
theorem dksX4_link_0 : cX4_link.data.toList.drop 0 = dktX4_link_0 := by decide +kernel
theorem dksX4_link_1 : cX4_link.data.toList.drop 22 = dktX4_link_1 := dk_seg dksX4_link_0 22 rfl rfl
theorem dX4_link_0 : decode cX4_link 0 = .ok (.aload_n 0, 1) := dk_42 (dk_at dksX4_link_0 0 rfl rfl)
theorem dX4_link_1 : decode cX4_link 1 = .ok (.getfield 58, 3) := dk_180 0 58 (dk_at dksX4_link_0 1 rfl rfl)
theorem dX4_link_4 : decode cX4_link 4 = .ok (.aload_n 0, 1) := dk_42 (dk_at dksX4_link_0 4 rfl rfl)
theorem dX4_link_5 : decode cX4_link 5 = .ok (.getfield 222, 3) := dk_180 0 222 (dk_at dksX4_link_0 5 rfl rfl)
theorem dX4_link_8 : decode cX4_link 8 = .ok (.iload_n 1, 1) := dk_27 (dk_at dksX4_link_0 8 rfl rfl)
theorem dX4_link_9 : decode cX4_link 9 = .ok (.iastore, 1) := dk_79 (dk_at dksX4_link_0 9 rfl rfl)
theorem dX4_link_10 : decode cX4_link 10 = .ok (.aload_n 0, 1) := dk_42 (dk_at dksX4_link_0 10 rfl rfl)
theorem dX4_link_11 : decode cX4_link 11 = .ok (.getfield 61, 3) := dk_180 0 61 (dk_at dksX4_link_0 11 rfl rfl)
theorem dX4_link_14 : decode cX4_link 14 = .ok (.aload_n 0, 1) := dk_42 (dk_at dksX4_link_0 14 rfl rfl)
theorem dX4_link_15 : decode cX4_link 15 = .ok (.getfield 222, 3) := dk_180 0 222 (dk_at dksX4_link_0 15 rfl rfl)
theorem dX4_link_18 : decode cX4_link 18 = .ok (.iload_n 2, 1) := dk_28 (dk_at dksX4_link_0 18 rfl rfl)
theorem dX4_link_19 : decode cX4_link 19 = .ok (.iastore, 1) := dk_79 (dk_at dksX4_link_0 19 rfl rfl)
theorem dX4_link_20 : decode cX4_link 20 = .ok (.aload_n 0, 1) := dk_42 (dk_at dksX4_link_0 20 rfl rfl)
theorem dX4_link_21 : decode cX4_link 21 = .ok (.dup, 1) := dk_89 (dk_at dksX4_link_0 21 rfl rfl)
theorem dX4_link_22 : decode cX4_link 22 = .ok (.getfield 222, 3) := dk_180 0 222 (dk_at dksX4_link_1 0 rfl rfl)
theorem dX4_link_25 : decode cX4_link 25 = .ok (.iconst 1, 1) := dk_4 (dk_at dksX4_link_1 3 rfl rfl)
theorem dX4_link_26 : decode cX4_link 26 = .ok (.iadd, 1) := dk_96 (dk_at dksX4_link_1 4 rfl rfl)
theorem dX4_link_27 : decode cX4_link 27 = .ok (.putfield 222, 3) := dk_181 0 222 (dk_at dksX4_link_1 5 rfl rfl)
theorem dX4_link_30 : decode cX4_link 30 = .ok (.return_, 1) := dk_177 (dk_at dksX4_link_1 8 rfl rfl)
abbrev cX4_isEdge : ByteArray := prog_21_method_81_code
def yX4_isEdge : MethodName := ⟨RX4, "isEdge", "(I)Z"⟩
def dkwX4_isEdge_0 : List UInt8 := [26, 153, 0, 9, 26, 16, 63, 160, 0, 7, 4, 167, 0, 4, 3, 172]
abbrev dktX4_isEdge_0 : List UInt8 := dkwX4_isEdge_0 ++ []
theorem dksX4_isEdge_0 : cX4_isEdge.data.toList.drop 0 = dktX4_isEdge_0 := by decide +kernel
theorem dX4_isEdge_0 : decode cX4_isEdge 0 = .ok (.iload_n 0, 1) := dk_26 (dk_at dksX4_isEdge_0 0 rfl rfl)
theorem dX4_isEdge_1 : decode cX4_isEdge 1 = .ok (.ifCond .eq 9, 3) := dk_153 0 9 (dk_at dksX4_isEdge_0 1 rfl rfl)
theorem dX4_isEdge_4 : decode cX4_isEdge 4 = .ok (.iload_n 0, 1) := dk_26 (dk_at dksX4_isEdge_0 4 rfl rfl)
theorem dX4_isEdge_5 : decode cX4_isEdge 5 = .ok (.bipush 63, 2) := dk_16 63 (dk_at dksX4_isEdge_0 5 rfl rfl)
theorem dX4_isEdge_7 : decode cX4_isEdge 7 = .ok (.if_icmp .ne 7, 3) := dk_160 0 7 (dk_at dksX4_isEdge_0 7 rfl rfl)
theorem dX4_isEdge_10 : decode cX4_isEdge 10 = .ok (.iconst 1, 1) := dk_4 (dk_at dksX4_isEdge_0 10 rfl rfl)
theorem dX4_isEdge_11 : decode cX4_isEdge 11 = .ok (.goto 4, 3) := dk_167 0 4 (dk_at dksX4_isEdge_0 11 rfl rfl)
theorem dX4_isEdge_14 : decode cX4_isEdge 14 = .ok (.iconst 0, 1) := dk_3 (dk_at dksX4_isEdge_0 14 rfl rfl)
theorem dX4_isEdge_15 : decode cX4_isEdge 15 = .ok (.ireturn, 1) := dk_172 (dk_at dksX4_isEdge_0 15 rfl rfl)
abbrev cX4_tuneCold : ByteArray := prog_21_method_84_code
def yX4_tuneCold : MethodName := ⟨RX4, "tuneCold", "()I"⟩
def dkwX4_tuneCold_0 : List UInt8 := [42, 180, 0, 194, 153, 0, 11, 42, 3, 182, 1, 135, 167, 0, 4, 2, 172]
abbrev dktX4_tuneCold_0 : List UInt8 := dkwX4_tuneCold_0 ++ []
theorem dksX4_tuneCold_0 : cX4_tuneCold.data.toList.drop 0 = dktX4_tuneCold_0 := by decide +kernel
theorem dX4_tuneCold_0 : decode cX4_tuneCold 0 = .ok (.aload_n 0, 1) := dk_42 (dk_at dksX4_tuneCold_0 0 rfl rfl)
theorem dX4_tuneCold_1 : decode cX4_tuneCold 1 = .ok (.getfield 194, 3) := dk_180 0 194 (dk_at dksX4_tuneCold_0 1 rfl rfl)
theorem dX4_tuneCold_4 : decode cX4_tuneCold 4 = .ok (.ifCond .eq 11, 3) := dk_153 0 11 (dk_at dksX4_tuneCold_0 4 rfl rfl)
theorem dX4_tuneCold_7 : decode cX4_tuneCold 7 = .ok (.aload_n 0, 1) := dk_42 (dk_at dksX4_tuneCold_0 7 rfl rfl)
theorem dX4_tuneCold_8 : decode cX4_tuneCold 8 = .ok (.iconst 0, 1) := dk_3 (dk_at dksX4_tuneCold_0 8 rfl rfl)
theorem dX4_tuneCold_9 : decode cX4_tuneCold 9 = .ok (.invokevirtual 391, 3) := dk_182 1 135 (dk_at dksX4_tuneCold_0 9 rfl rfl)
theorem dX4_tuneCold_12 : decode cX4_tuneCold 12 = .ok (.goto 4, 3) := dk_167 0 4 (dk_at dksX4_tuneCold_0 12 rfl rfl)
theorem dX4_tuneCold_15 : decode cX4_tuneCold 15 = .ok (.iconst (-1), 1) := dk_2 (dk_at dksX4_tuneCold_0 15 rfl rfl)
theorem dX4_tuneCold_16 : decode cX4_tuneCold 16 = .ok (.ireturn, 1) := dk_172 (dk_at dksX4_tuneCold_0 16 rfl rfl)
abbrev cX4_tuneFromMemory : ByteArray := prog_21_method_85_code
def yX4_tuneFromMemory : MethodName := ⟨RX4, "tuneFromMemory", "()I"⟩
def dkwX4_tuneFromMemory_3 : List UInt8 := [4, 167, 0, 4, 3, 62, 42, 29, 153, 0, 7, 28, 167, 0, 4, 3, 182, 1, 135, 172]
abbrev dktX4_tuneFromMemory_3 : List UInt8 := dkwX4_tuneFromMemory_3 ++ []
def dkwX4_tuneFromMemory_2 : List UInt8 := [28, 42, 180, 0, 9, 3, 46, 182, 1, 77, 42, 3, 42, 180, 0, 9, 3, 46, 182, 1, 77, 163, 0, 7]
abbrev dktX4_tuneFromMemory_2 : List UInt8 := dkwX4_tuneFromMemory_2 ++ dktX4_tuneFromMemory_3
def dkwX4_tuneFromMemory_1 : List UInt8 := [4, 3, 182, 1, 129, 42, 182, 1, 141, 16, 254, 172, 42, 180, 0, 9, 17, 0, 222, 27, 96, 46, 61, 42]
abbrev dktX4_tuneFromMemory_1 : List UInt8 := dkwX4_tuneFromMemory_1 ++ dktX4_tuneFromMemory_2
def dkwX4_tuneFromMemory_0 : List UInt8 := [42, 180, 0, 194, 154, 0, 5, 2, 172, 42, 182, 1, 138, 60, 27, 156, 0, 21, 42, 3, 181, 0, 222, 42]
abbrev dktX4_tuneFromMemory_0 : List UInt8 := dkwX4_tuneFromMemory_0 ++ dktX4_tuneFromMemory_1
theorem dksX4_tuneFromMemory_0 : cX4_tuneFromMemory.data.toList.drop 0 = dktX4_tuneFromMemory_0 := by decide +kernel
theorem dksX4_tuneFromMemory_1 : cX4_tuneFromMemory.data.toList.drop 24 = dktX4_tuneFromMemory_1 := dk_seg dksX4_tuneFromMemory_0 24 rfl rfl
theorem dksX4_tuneFromMemory_2 : cX4_tuneFromMemory.data.toList.drop 48 = dktX4_tuneFromMemory_2 := dk_seg dksX4_tuneFromMemory_1 24 rfl rfl
theorem dksX4_tuneFromMemory_3 : cX4_tuneFromMemory.data.toList.drop 72 = dktX4_tuneFromMemory_3 := dk_seg dksX4_tuneFromMemory_2 24 rfl rfl
theorem dX4_tuneFromMemory_0 : decode cX4_tuneFromMemory 0 = .ok (.aload_n 0, 1) := dk_42 (dk_at dksX4_tuneFromMemory_0 0 rfl rfl)
theorem dX4_tuneFromMemory_1 : decode cX4_tuneFromMemory 1 = .ok (.getfield 194, 3) := dk_180 0 194 (dk_at dksX4_tuneFromMemory_0 1 rfl rfl)
theorem dX4_tuneFromMemory_4 : decode cX4_tuneFromMemory 4 = .ok (.ifCond .ne 5, 3) := dk_154 0 5 (dk_at dksX4_tuneFromMemory_0 4 rfl rfl)
theorem dX4_tuneFromMemory_7 : decode cX4_tuneFromMemory 7 = .ok (.iconst (-1), 1) := dk_2 (dk_at dksX4_tuneFromMemory_0 7 rfl rfl)
theorem dX4_tuneFromMemory_8 : decode cX4_tuneFromMemory 8 = .ok (.ireturn, 1) := dk_172 (dk_at dksX4_tuneFromMemory_0 8 rfl rfl)
theorem dX4_tuneFromMemory_9 : decode cX4_tuneFromMemory 9 = .ok (.aload_n 0, 1) := dk_42 (dk_at dksX4_tuneFromMemory_0 9 rfl rfl)
theorem dX4_tuneFromMemory_10 : decode cX4_tuneFromMemory 10 = .ok (.invokevirtual 394, 3) := dk_182 1 138 (dk_at dksX4_tuneFromMemory_0 10 rfl rfl)
theorem dX4_tuneFromMemory_13 : decode cX4_tuneFromMemory 13 = .ok (.istore_n 1, 1) := dk_60 (dk_at dksX4_tuneFromMemory_0 13 rfl rfl)
theorem dX4_tuneFromMemory_14 : decode cX4_tuneFromMemory 14 = .ok (.iload_n 1, 1) := dk_27 (dk_at dksX4_tuneFromMemory_0 14 rfl rfl)
theorem dX4_tuneFromMemory_15 : decode cX4_tuneFromMemory 15 = .ok (.ifCond .ge 21, 3) := dk_156 0 21 (dk_at dksX4_tuneFromMemory_0 15 rfl rfl)
theorem dX4_tuneFromMemory_18 : decode cX4_tuneFromMemory 18 = .ok (.aload_n 0, 1) := dk_42 (dk_at dksX4_tuneFromMemory_0 18 rfl rfl)
theorem dX4_tuneFromMemory_19 : decode cX4_tuneFromMemory 19 = .ok (.iconst 0, 1) := dk_3 (dk_at dksX4_tuneFromMemory_0 19 rfl rfl)
theorem dX4_tuneFromMemory_20 : decode cX4_tuneFromMemory 20 = .ok (.putfield 222, 3) := dk_181 0 222 (dk_at dksX4_tuneFromMemory_0 20 rfl rfl)
theorem dX4_tuneFromMemory_23 : decode cX4_tuneFromMemory 23 = .ok (.aload_n 0, 1) := dk_42 (dk_at dksX4_tuneFromMemory_0 23 rfl rfl)
theorem dX4_tuneFromMemory_24 : decode cX4_tuneFromMemory 24 = .ok (.iconst 1, 1) := dk_4 (dk_at dksX4_tuneFromMemory_1 0 rfl rfl)
theorem dX4_tuneFromMemory_25 : decode cX4_tuneFromMemory 25 = .ok (.iconst 0, 1) := dk_3 (dk_at dksX4_tuneFromMemory_1 1 rfl rfl)
theorem dX4_tuneFromMemory_26 : decode cX4_tuneFromMemory 26 = .ok (.invokevirtual 385, 3) := dk_182 1 129 (dk_at dksX4_tuneFromMemory_1 2 rfl rfl)
theorem dX4_tuneFromMemory_29 : decode cX4_tuneFromMemory 29 = .ok (.aload_n 0, 1) := dk_42 (dk_at dksX4_tuneFromMemory_1 5 rfl rfl)
theorem dX4_tuneFromMemory_30 : decode cX4_tuneFromMemory 30 = .ok (.invokevirtual 397, 3) := dk_182 1 141 (dk_at dksX4_tuneFromMemory_1 6 rfl rfl)
theorem dX4_tuneFromMemory_33 : decode cX4_tuneFromMemory 33 = .ok (.bipush (-2), 2) := dk_16 254 (dk_at dksX4_tuneFromMemory_1 9 rfl rfl)
theorem dX4_tuneFromMemory_35 : decode cX4_tuneFromMemory 35 = .ok (.ireturn, 1) := dk_172 (dk_at dksX4_tuneFromMemory_1 11 rfl rfl)
theorem dX4_tuneFromMemory_36 : decode cX4_tuneFromMemory 36 = .ok (.aload_n 0, 1) := dk_42 (dk_at dksX4_tuneFromMemory_1 12 rfl rfl)
theorem dX4_tuneFromMemory_37 : decode cX4_tuneFromMemory 37 = .ok (.getfield 9, 3) := dk_180 0 9 (dk_at dksX4_tuneFromMemory_1 13 rfl rfl)
theorem dX4_tuneFromMemory_40 : decode cX4_tuneFromMemory 40 = .ok (.sipush 222, 3) := dk_17 0 222 (dk_at dksX4_tuneFromMemory_1 16 rfl rfl)
theorem dX4_tuneFromMemory_43 : decode cX4_tuneFromMemory 43 = .ok (.iload_n 1, 1) := dk_27 (dk_at dksX4_tuneFromMemory_1 19 rfl rfl)
theorem dX4_tuneFromMemory_44 : decode cX4_tuneFromMemory 44 = .ok (.iadd, 1) := dk_96 (dk_at dksX4_tuneFromMemory_1 20 rfl rfl)
theorem dX4_tuneFromMemory_45 : decode cX4_tuneFromMemory 45 = .ok (.iaload, 1) := dk_46 (dk_at dksX4_tuneFromMemory_1 21 rfl rfl)
theorem dX4_tuneFromMemory_46 : decode cX4_tuneFromMemory 46 = .ok (.istore_n 2, 1) := dk_61 (dk_at dksX4_tuneFromMemory_1 22 rfl rfl)
theorem dX4_tuneFromMemory_47 : decode cX4_tuneFromMemory 47 = .ok (.aload_n 0, 1) := dk_42 (dk_at dksX4_tuneFromMemory_1 23 rfl rfl)
theorem dX4_tuneFromMemory_48 : decode cX4_tuneFromMemory 48 = .ok (.iload_n 2, 1) := dk_28 (dk_at dksX4_tuneFromMemory_2 0 rfl rfl)
theorem dX4_tuneFromMemory_49 : decode cX4_tuneFromMemory 49 = .ok (.aload_n 0, 1) := dk_42 (dk_at dksX4_tuneFromMemory_2 1 rfl rfl)
theorem dX4_tuneFromMemory_50 : decode cX4_tuneFromMemory 50 = .ok (.getfield 9, 3) := dk_180 0 9 (dk_at dksX4_tuneFromMemory_2 2 rfl rfl)
theorem dX4_tuneFromMemory_53 : decode cX4_tuneFromMemory 53 = .ok (.iconst 0, 1) := dk_3 (dk_at dksX4_tuneFromMemory_2 5 rfl rfl)
theorem dX4_tuneFromMemory_54 : decode cX4_tuneFromMemory 54 = .ok (.iaload, 1) := dk_46 (dk_at dksX4_tuneFromMemory_2 6 rfl rfl)
theorem dX4_tuneFromMemory_55 : decode cX4_tuneFromMemory 55 = .ok (.invokevirtual 333, 3) := dk_182 1 77 (dk_at dksX4_tuneFromMemory_2 7 rfl rfl)
theorem dX4_tuneFromMemory_58 : decode cX4_tuneFromMemory 58 = .ok (.aload_n 0, 1) := dk_42 (dk_at dksX4_tuneFromMemory_2 10 rfl rfl)
theorem dX4_tuneFromMemory_59 : decode cX4_tuneFromMemory 59 = .ok (.iconst 0, 1) := dk_3 (dk_at dksX4_tuneFromMemory_2 11 rfl rfl)
theorem dX4_tuneFromMemory_60 : decode cX4_tuneFromMemory 60 = .ok (.aload_n 0, 1) := dk_42 (dk_at dksX4_tuneFromMemory_2 12 rfl rfl)
theorem dX4_tuneFromMemory_61 : decode cX4_tuneFromMemory 61 = .ok (.getfield 9, 3) := dk_180 0 9 (dk_at dksX4_tuneFromMemory_2 13 rfl rfl)
theorem dX4_tuneFromMemory_64 : decode cX4_tuneFromMemory 64 = .ok (.iconst 0, 1) := dk_3 (dk_at dksX4_tuneFromMemory_2 16 rfl rfl)
theorem dX4_tuneFromMemory_65 : decode cX4_tuneFromMemory 65 = .ok (.iaload, 1) := dk_46 (dk_at dksX4_tuneFromMemory_2 17 rfl rfl)
theorem dX4_tuneFromMemory_66 : decode cX4_tuneFromMemory 66 = .ok (.invokevirtual 333, 3) := dk_182 1 77 (dk_at dksX4_tuneFromMemory_2 18 rfl rfl)
theorem dX4_tuneFromMemory_69 : decode cX4_tuneFromMemory 69 = .ok (.if_icmp .gt 7, 3) := dk_163 0 7 (dk_at dksX4_tuneFromMemory_2 21 rfl rfl)
theorem dX4_tuneFromMemory_72 : decode cX4_tuneFromMemory 72 = .ok (.iconst 1, 1) := dk_4 (dk_at dksX4_tuneFromMemory_3 0 rfl rfl)
theorem dX4_tuneFromMemory_73 : decode cX4_tuneFromMemory 73 = .ok (.goto 4, 3) := dk_167 0 4 (dk_at dksX4_tuneFromMemory_3 1 rfl rfl)
theorem dX4_tuneFromMemory_76 : decode cX4_tuneFromMemory 76 = .ok (.iconst 0, 1) := dk_3 (dk_at dksX4_tuneFromMemory_3 4 rfl rfl)
theorem dX4_tuneFromMemory_77 : decode cX4_tuneFromMemory 77 = .ok (.istore_n 3, 1) := dk_62 (dk_at dksX4_tuneFromMemory_3 5 rfl rfl)
theorem dX4_tuneFromMemory_78 : decode cX4_tuneFromMemory 78 = .ok (.aload_n 0, 1) := dk_42 (dk_at dksX4_tuneFromMemory_3 6 rfl rfl)
theorem dX4_tuneFromMemory_79 : decode cX4_tuneFromMemory 79 = .ok (.iload_n 3, 1) := dk_29 (dk_at dksX4_tuneFromMemory_3 7 rfl rfl)
theorem dX4_tuneFromMemory_80 : decode cX4_tuneFromMemory 80 = .ok (.ifCond .eq 7, 3) := dk_153 0 7 (dk_at dksX4_tuneFromMemory_3 8 rfl rfl)
theorem dX4_tuneFromMemory_83 : decode cX4_tuneFromMemory 83 = .ok (.iload_n 2, 1) := dk_28 (dk_at dksX4_tuneFromMemory_3 11 rfl rfl)
theorem dX4_tuneFromMemory_84 : decode cX4_tuneFromMemory 84 = .ok (.goto 4, 3) := dk_167 0 4 (dk_at dksX4_tuneFromMemory_3 12 rfl rfl)
theorem dX4_tuneFromMemory_87 : decode cX4_tuneFromMemory 87 = .ok (.iconst 0, 1) := dk_3 (dk_at dksX4_tuneFromMemory_3 15 rfl rfl)
theorem dX4_tuneFromMemory_88 : decode cX4_tuneFromMemory 88 = .ok (.invokevirtual 391, 3) := dk_182 1 135 (dk_at dksX4_tuneFromMemory_3 16 rfl rfl)
theorem dX4_tuneFromMemory_91 : decode cX4_tuneFromMemory 91 = .ok (.ireturn, 1) := dk_172 (dk_at dksX4_tuneFromMemory_3 19 rfl rfl)
abbrev cX4_suitable : ByteArray := prog_21_method_95_code
def yX4_suitable : MethodName := ⟨RX4, "suitable", "()I"⟩
def dkwX4_suitable_5 : List UInt8 := [167, 255, 154, 28, 172]
abbrev dktX4_suitable_5 : List UInt8 := dkwX4_suitable_5 ++ []
def dkwX4_suitable_4 : List UInt8 := [21, 6, 153, 0, 19, 28, 155, 0, 9, 21, 5, 29, 162, 0, 9, 21, 4, 61, 21, 5, 62, 132, 4, 1]
abbrev dktX4_suitable_4 : List UInt8 := dkwX4_suitable_4 ++ dktX4_suitable_5
def dkwX4_suitable_3 : List UInt8 := [180, 0, 9, 17, 0, 206, 21, 4, 96, 46, 182, 1, 2, 27, 160, 0, 7, 4, 167, 0, 4, 3, 54, 6]
abbrev dktX4_suitable_3 : List UInt8 := dkwX4_suitable_3 ++ dktX4_suitable_4
def dkwX4_suitable_2 : List UInt8 := [100, 54, 5, 21, 5, 156, 0, 9, 21, 5, 116, 167, 0, 5, 21, 5, 54, 5, 27, 155, 0, 26, 42, 42]
abbrev dktX4_suitable_2 : List UInt8 := dkwX4_suitable_2 ++ dktX4_suitable_3
def dkwX4_suitable_1 : List UInt8 := [17, 0, 205, 46, 162, 0, 95, 42, 180, 0, 9, 17, 0, 206, 21, 4, 96, 46, 42, 180, 0, 9, 3, 46]
abbrev dktX4_suitable_1 : List UInt8 := dkwX4_suitable_1 ++ dktX4_suitable_2
def dkwX4_suitable_0 : List UInt8 := [42, 42, 180, 0, 9, 3, 46, 182, 1, 2, 60, 2, 61, 3, 62, 3, 54, 4, 21, 4, 42, 180, 0, 9]
abbrev dktX4_suitable_0 : List UInt8 := dkwX4_suitable_0 ++ dktX4_suitable_1
theorem dksX4_suitable_0 : cX4_suitable.data.toList.drop 0 = dktX4_suitable_0 := by decide +kernel
theorem dksX4_suitable_1 : cX4_suitable.data.toList.drop 24 = dktX4_suitable_1 := dk_seg dksX4_suitable_0 24 rfl rfl
theorem dksX4_suitable_2 : cX4_suitable.data.toList.drop 48 = dktX4_suitable_2 := dk_seg dksX4_suitable_1 24 rfl rfl
theorem dksX4_suitable_3 : cX4_suitable.data.toList.drop 72 = dktX4_suitable_3 := dk_seg dksX4_suitable_2 24 rfl rfl
theorem dksX4_suitable_4 : cX4_suitable.data.toList.drop 96 = dktX4_suitable_4 := dk_seg dksX4_suitable_3 24 rfl rfl
theorem dksX4_suitable_5 : cX4_suitable.data.toList.drop 120 = dktX4_suitable_5 := dk_seg dksX4_suitable_4 24 rfl rfl
theorem dX4_suitable_0 : decode cX4_suitable 0 = .ok (.aload_n 0, 1) := dk_42 (dk_at dksX4_suitable_0 0 rfl rfl)
theorem dX4_suitable_1 : decode cX4_suitable 1 = .ok (.aload_n 0, 1) := dk_42 (dk_at dksX4_suitable_0 1 rfl rfl)
theorem dX4_suitable_2 : decode cX4_suitable 2 = .ok (.getfield 9, 3) := dk_180 0 9 (dk_at dksX4_suitable_0 2 rfl rfl)
theorem dX4_suitable_5 : decode cX4_suitable 5 = .ok (.iconst 0, 1) := dk_3 (dk_at dksX4_suitable_0 5 rfl rfl)
theorem dX4_suitable_6 : decode cX4_suitable 6 = .ok (.iaload, 1) := dk_46 (dk_at dksX4_suitable_0 6 rfl rfl)
theorem dX4_suitable_7 : decode cX4_suitable 7 = .ok (.invokevirtual 258, 3) := dk_182 1 2 (dk_at dksX4_suitable_0 7 rfl rfl)
theorem dX4_suitable_10 : decode cX4_suitable 10 = .ok (.istore_n 1, 1) := dk_60 (dk_at dksX4_suitable_0 10 rfl rfl)
theorem dX4_suitable_11 : decode cX4_suitable 11 = .ok (.iconst (-1), 1) := dk_2 (dk_at dksX4_suitable_0 11 rfl rfl)
theorem dX4_suitable_12 : decode cX4_suitable 12 = .ok (.istore_n 2, 1) := dk_61 (dk_at dksX4_suitable_0 12 rfl rfl)
theorem dX4_suitable_13 : decode cX4_suitable 13 = .ok (.iconst 0, 1) := dk_3 (dk_at dksX4_suitable_0 13 rfl rfl)
theorem dX4_suitable_14 : decode cX4_suitable 14 = .ok (.istore_n 3, 1) := dk_62 (dk_at dksX4_suitable_0 14 rfl rfl)
theorem dX4_suitable_15 : decode cX4_suitable 15 = .ok (.iconst 0, 1) := dk_3 (dk_at dksX4_suitable_0 15 rfl rfl)
theorem dX4_suitable_16 : decode cX4_suitable 16 = .ok (.istore 4, 2) := dk_54 4 (dk_at dksX4_suitable_0 16 rfl rfl)
theorem dX4_suitable_18 : decode cX4_suitable 18 = .ok (.iload 4, 2) := dk_21 4 (dk_at dksX4_suitable_0 18 rfl rfl)
theorem dX4_suitable_20 : decode cX4_suitable 20 = .ok (.aload_n 0, 1) := dk_42 (dk_at dksX4_suitable_0 20 rfl rfl)
theorem dX4_suitable_21 : decode cX4_suitable 21 = .ok (.getfield 9, 3) := dk_180 0 9 (dk_at dksX4_suitable_0 21 rfl rfl)
theorem dX4_suitable_24 : decode cX4_suitable 24 = .ok (.sipush 205, 3) := dk_17 0 205 (dk_at dksX4_suitable_1 0 rfl rfl)
theorem dX4_suitable_27 : decode cX4_suitable 27 = .ok (.iaload, 1) := dk_46 (dk_at dksX4_suitable_1 3 rfl rfl)
theorem dX4_suitable_28 : decode cX4_suitable 28 = .ok (.if_icmp .ge 95, 3) := dk_162 0 95 (dk_at dksX4_suitable_1 4 rfl rfl)
theorem dX4_suitable_31 : decode cX4_suitable 31 = .ok (.aload_n 0, 1) := dk_42 (dk_at dksX4_suitable_1 7 rfl rfl)
theorem dX4_suitable_32 : decode cX4_suitable 32 = .ok (.getfield 9, 3) := dk_180 0 9 (dk_at dksX4_suitable_1 8 rfl rfl)
theorem dX4_suitable_35 : decode cX4_suitable 35 = .ok (.sipush 206, 3) := dk_17 0 206 (dk_at dksX4_suitable_1 11 rfl rfl)
theorem dX4_suitable_38 : decode cX4_suitable 38 = .ok (.iload 4, 2) := dk_21 4 (dk_at dksX4_suitable_1 14 rfl rfl)
theorem dX4_suitable_40 : decode cX4_suitable 40 = .ok (.iadd, 1) := dk_96 (dk_at dksX4_suitable_1 16 rfl rfl)
theorem dX4_suitable_41 : decode cX4_suitable 41 = .ok (.iaload, 1) := dk_46 (dk_at dksX4_suitable_1 17 rfl rfl)
theorem dX4_suitable_42 : decode cX4_suitable 42 = .ok (.aload_n 0, 1) := dk_42 (dk_at dksX4_suitable_1 18 rfl rfl)
theorem dX4_suitable_43 : decode cX4_suitable 43 = .ok (.getfield 9, 3) := dk_180 0 9 (dk_at dksX4_suitable_1 19 rfl rfl)
theorem dX4_suitable_46 : decode cX4_suitable 46 = .ok (.iconst 0, 1) := dk_3 (dk_at dksX4_suitable_1 22 rfl rfl)
theorem dX4_suitable_47 : decode cX4_suitable 47 = .ok (.iaload, 1) := dk_46 (dk_at dksX4_suitable_1 23 rfl rfl)
theorem dX4_suitable_48 : decode cX4_suitable 48 = .ok (.isub, 1) := dk_100 (dk_at dksX4_suitable_2 0 rfl rfl)
theorem dX4_suitable_49 : decode cX4_suitable 49 = .ok (.istore 5, 2) := dk_54 5 (dk_at dksX4_suitable_2 1 rfl rfl)
theorem dX4_suitable_51 : decode cX4_suitable 51 = .ok (.iload 5, 2) := dk_21 5 (dk_at dksX4_suitable_2 3 rfl rfl)
theorem dX4_suitable_53 : decode cX4_suitable 53 = .ok (.ifCond .ge 9, 3) := dk_156 0 9 (dk_at dksX4_suitable_2 5 rfl rfl)
theorem dX4_suitable_56 : decode cX4_suitable 56 = .ok (.iload 5, 2) := dk_21 5 (dk_at dksX4_suitable_2 8 rfl rfl)
theorem dX4_suitable_58 : decode cX4_suitable 58 = .ok (.ineg, 1) := dk_116 (dk_at dksX4_suitable_2 10 rfl rfl)
theorem dX4_suitable_59 : decode cX4_suitable 59 = .ok (.goto 5, 3) := dk_167 0 5 (dk_at dksX4_suitable_2 11 rfl rfl)
theorem dX4_suitable_62 : decode cX4_suitable 62 = .ok (.iload 5, 2) := dk_21 5 (dk_at dksX4_suitable_2 14 rfl rfl)
theorem dX4_suitable_64 : decode cX4_suitable 64 = .ok (.istore 5, 2) := dk_54 5 (dk_at dksX4_suitable_2 16 rfl rfl)
theorem dX4_suitable_66 : decode cX4_suitable 66 = .ok (.iload_n 1, 1) := dk_27 (dk_at dksX4_suitable_2 18 rfl rfl)
theorem dX4_suitable_67 : decode cX4_suitable 67 = .ok (.ifCond .lt 26, 3) := dk_155 0 26 (dk_at dksX4_suitable_2 19 rfl rfl)
theorem dX4_suitable_70 : decode cX4_suitable 70 = .ok (.aload_n 0, 1) := dk_42 (dk_at dksX4_suitable_2 22 rfl rfl)
theorem dX4_suitable_71 : decode cX4_suitable 71 = .ok (.aload_n 0, 1) := dk_42 (dk_at dksX4_suitable_2 23 rfl rfl)
theorem dX4_suitable_72 : decode cX4_suitable 72 = .ok (.getfield 9, 3) := dk_180 0 9 (dk_at dksX4_suitable_3 0 rfl rfl)
theorem dX4_suitable_75 : decode cX4_suitable 75 = .ok (.sipush 206, 3) := dk_17 0 206 (dk_at dksX4_suitable_3 3 rfl rfl)
theorem dX4_suitable_78 : decode cX4_suitable 78 = .ok (.iload 4, 2) := dk_21 4 (dk_at dksX4_suitable_3 6 rfl rfl)
theorem dX4_suitable_80 : decode cX4_suitable 80 = .ok (.iadd, 1) := dk_96 (dk_at dksX4_suitable_3 8 rfl rfl)
theorem dX4_suitable_81 : decode cX4_suitable 81 = .ok (.iaload, 1) := dk_46 (dk_at dksX4_suitable_3 9 rfl rfl)
theorem dX4_suitable_82 : decode cX4_suitable 82 = .ok (.invokevirtual 258, 3) := dk_182 1 2 (dk_at dksX4_suitable_3 10 rfl rfl)
theorem dX4_suitable_85 : decode cX4_suitable 85 = .ok (.iload_n 1, 1) := dk_27 (dk_at dksX4_suitable_3 13 rfl rfl)
theorem dX4_suitable_86 : decode cX4_suitable 86 = .ok (.if_icmp .ne 7, 3) := dk_160 0 7 (dk_at dksX4_suitable_3 14 rfl rfl)
theorem dX4_suitable_89 : decode cX4_suitable 89 = .ok (.iconst 1, 1) := dk_4 (dk_at dksX4_suitable_3 17 rfl rfl)
theorem dX4_suitable_90 : decode cX4_suitable 90 = .ok (.goto 4, 3) := dk_167 0 4 (dk_at dksX4_suitable_3 18 rfl rfl)
theorem dX4_suitable_93 : decode cX4_suitable 93 = .ok (.iconst 0, 1) := dk_3 (dk_at dksX4_suitable_3 21 rfl rfl)
theorem dX4_suitable_94 : decode cX4_suitable 94 = .ok (.istore 6, 2) := dk_54 6 (dk_at dksX4_suitable_3 22 rfl rfl)
theorem dX4_suitable_96 : decode cX4_suitable 96 = .ok (.iload 6, 2) := dk_21 6 (dk_at dksX4_suitable_4 0 rfl rfl)
theorem dX4_suitable_98 : decode cX4_suitable 98 = .ok (.ifCond .eq 19, 3) := dk_153 0 19 (dk_at dksX4_suitable_4 2 rfl rfl)
theorem dX4_suitable_101 : decode cX4_suitable 101 = .ok (.iload_n 2, 1) := dk_28 (dk_at dksX4_suitable_4 5 rfl rfl)
theorem dX4_suitable_102 : decode cX4_suitable 102 = .ok (.ifCond .lt 9, 3) := dk_155 0 9 (dk_at dksX4_suitable_4 6 rfl rfl)
theorem dX4_suitable_105 : decode cX4_suitable 105 = .ok (.iload 5, 2) := dk_21 5 (dk_at dksX4_suitable_4 9 rfl rfl)
theorem dX4_suitable_107 : decode cX4_suitable 107 = .ok (.iload_n 3, 1) := dk_29 (dk_at dksX4_suitable_4 11 rfl rfl)
theorem dX4_suitable_108 : decode cX4_suitable 108 = .ok (.if_icmp .ge 9, 3) := dk_162 0 9 (dk_at dksX4_suitable_4 12 rfl rfl)
theorem dX4_suitable_111 : decode cX4_suitable 111 = .ok (.iload 4, 2) := dk_21 4 (dk_at dksX4_suitable_4 15 rfl rfl)
theorem dX4_suitable_113 : decode cX4_suitable 113 = .ok (.istore_n 2, 1) := dk_61 (dk_at dksX4_suitable_4 17 rfl rfl)
theorem dX4_suitable_114 : decode cX4_suitable 114 = .ok (.iload 5, 2) := dk_21 5 (dk_at dksX4_suitable_4 18 rfl rfl)
theorem dX4_suitable_116 : decode cX4_suitable 116 = .ok (.istore_n 3, 1) := dk_62 (dk_at dksX4_suitable_4 20 rfl rfl)
theorem dX4_suitable_117 : decode cX4_suitable 117 = .ok (.iinc 4 1, 3) := dk_132 4 1 (dk_at dksX4_suitable_4 21 rfl rfl)
theorem dX4_suitable_120 : decode cX4_suitable 120 = .ok (.goto (-102), 3) := dk_167 255 154 (dk_at dksX4_suitable_5 0 rfl rfl)
theorem dX4_suitable_123 : decode cX4_suitable 123 = .ok (.iload_n 2, 1) := dk_28 (dk_at dksX4_suitable_5 3 rfl rfl)
theorem dX4_suitable_124 : decode cX4_suitable 124 = .ok (.ireturn, 1) := dk_172 (dk_at dksX4_suitable_5 4 rfl rfl)
abbrev cX4_linkMissing : ByteArray := prog_21_method_90_code
def yX4_linkMissing : MethodName := ⟨RX4, "linkMissing", "()V"⟩
def dkwX4_linkMissing_1 : List UInt8 := [42, 16, 6, 3, 182, 1, 129, 177]
abbrev dktX4_linkMissing_1 : List UInt8 := dkwX4_linkMissing_1 ++ []
def dkwX4_linkMissing_0 : List UInt8 := [42, 8, 42, 180, 0, 9, 3, 46, 182, 1, 129, 42, 42, 180, 0, 9, 3, 46, 182, 1, 2, 156, 0, 10]
abbrev dktX4_linkMissing_0 : List UInt8 := dkwX4_linkMissing_0 ++ dktX4_linkMissing_1
theorem dksX4_linkMissing_0 : cX4_linkMissing.data.toList.drop 0 = dktX4_linkMissing_0 := by decide +kernel
theorem dksX4_linkMissing_1 : cX4_linkMissing.data.toList.drop 24 = dktX4_linkMissing_1 := dk_seg dksX4_linkMissing_0 24 rfl rfl
theorem dX4_linkMissing_0 : decode cX4_linkMissing 0 = .ok (.aload_n 0, 1) := dk_42 (dk_at dksX4_linkMissing_0 0 rfl rfl)
theorem dX4_linkMissing_1 : decode cX4_linkMissing 1 = .ok (.iconst 5, 1) := dk_8 (dk_at dksX4_linkMissing_0 1 rfl rfl)
theorem dX4_linkMissing_2 : decode cX4_linkMissing 2 = .ok (.aload_n 0, 1) := dk_42 (dk_at dksX4_linkMissing_0 2 rfl rfl)
theorem dX4_linkMissing_3 : decode cX4_linkMissing 3 = .ok (.getfield 9, 3) := dk_180 0 9 (dk_at dksX4_linkMissing_0 3 rfl rfl)
theorem dX4_linkMissing_6 : decode cX4_linkMissing 6 = .ok (.iconst 0, 1) := dk_3 (dk_at dksX4_linkMissing_0 6 rfl rfl)
theorem dX4_linkMissing_7 : decode cX4_linkMissing 7 = .ok (.iaload, 1) := dk_46 (dk_at dksX4_linkMissing_0 7 rfl rfl)
theorem dX4_linkMissing_8 : decode cX4_linkMissing 8 = .ok (.invokevirtual 385, 3) := dk_182 1 129 (dk_at dksX4_linkMissing_0 8 rfl rfl)
theorem dX4_linkMissing_11 : decode cX4_linkMissing 11 = .ok (.aload_n 0, 1) := dk_42 (dk_at dksX4_linkMissing_0 11 rfl rfl)
theorem dX4_linkMissing_12 : decode cX4_linkMissing 12 = .ok (.aload_n 0, 1) := dk_42 (dk_at dksX4_linkMissing_0 12 rfl rfl)
theorem dX4_linkMissing_13 : decode cX4_linkMissing 13 = .ok (.getfield 9, 3) := dk_180 0 9 (dk_at dksX4_linkMissing_0 13 rfl rfl)
theorem dX4_linkMissing_16 : decode cX4_linkMissing 16 = .ok (.iconst 0, 1) := dk_3 (dk_at dksX4_linkMissing_0 16 rfl rfl)
theorem dX4_linkMissing_17 : decode cX4_linkMissing 17 = .ok (.iaload, 1) := dk_46 (dk_at dksX4_linkMissing_0 17 rfl rfl)
theorem dX4_linkMissing_18 : decode cX4_linkMissing 18 = .ok (.invokevirtual 258, 3) := dk_182 1 2 (dk_at dksX4_linkMissing_0 18 rfl rfl)
theorem dX4_linkMissing_21 : decode cX4_linkMissing 21 = .ok (.ifCond .ge 10, 3) := dk_156 0 10 (dk_at dksX4_linkMissing_0 21 rfl rfl)
theorem dX4_linkMissing_24 : decode cX4_linkMissing 24 = .ok (.aload_n 0, 1) := dk_42 (dk_at dksX4_linkMissing_1 0 rfl rfl)
theorem dX4_linkMissing_25 : decode cX4_linkMissing 25 = .ok (.bipush 6, 2) := dk_16 6 (dk_at dksX4_linkMissing_1 1 rfl rfl)
theorem dX4_linkMissing_27 : decode cX4_linkMissing 27 = .ok (.iconst 0, 1) := dk_3 (dk_at dksX4_linkMissing_1 3 rfl rfl)
theorem dX4_linkMissing_28 : decode cX4_linkMissing 28 = .ok (.invokevirtual 385, 3) := dk_182 1 129 (dk_at dksX4_linkMissing_1 4 rfl rfl)
theorem dX4_linkMissing_31 : decode cX4_linkMissing 31 = .ok (.return_, 1) := dk_177 (dk_at dksX4_linkMissing_1 7 rfl rfl)
abbrev cX4_evaluations : ByteArray := prog_21_method_86_code
def yX4_evaluations : MethodName := ⟨RX4, "evaluations", "()I"⟩
def dkwX4_evaluations_0 : List UInt8 := [42, 180, 0, 194, 153, 0, 10, 42, 180, 0, 225, 167, 0, 4, 2, 172]
abbrev dktX4_evaluations_0 : List UInt8 := dkwX4_evaluations_0 ++ []
theorem dksX4_evaluations_0 : cX4_evaluations.data.toList.drop 0 = dktX4_evaluations_0 := by decide +kernel
theorem dX4_evaluations_0 : decode cX4_evaluations 0 = .ok (.aload_n 0, 1) := dk_42 (dk_at dksX4_evaluations_0 0 rfl rfl)
theorem dX4_evaluations_1 : decode cX4_evaluations 1 = .ok (.getfield 194, 3) := dk_180 0 194 (dk_at dksX4_evaluations_0 1 rfl rfl)
theorem dX4_evaluations_4 : decode cX4_evaluations 4 = .ok (.ifCond .eq 10, 3) := dk_153 0 10 (dk_at dksX4_evaluations_0 4 rfl rfl)
theorem dX4_evaluations_7 : decode cX4_evaluations 7 = .ok (.aload_n 0, 1) := dk_42 (dk_at dksX4_evaluations_0 7 rfl rfl)
theorem dX4_evaluations_8 : decode cX4_evaluations 8 = .ok (.getfield 225, 3) := dk_180 0 225 (dk_at dksX4_evaluations_0 8 rfl rfl)
theorem dX4_evaluations_11 : decode cX4_evaluations 11 = .ok (.goto 4, 3) := dk_167 0 4 (dk_at dksX4_evaluations_0 11 rfl rfl)
theorem dX4_evaluations_14 : decode cX4_evaluations 14 = .ok (.iconst (-1), 1) := dk_2 (dk_at dksX4_evaluations_0 14 rfl rfl)
theorem dX4_evaluations_15 : decode cX4_evaluations 15 = .ok (.ireturn, 1) := dk_172 (dk_at dksX4_evaluations_0 15 rfl rfl)
abbrev cX4_bestSettings : ByteArray := prog_21_method_87_code
def yX4_bestSettings : MethodName := ⟨RX4, "bestSettings", "()I"⟩
def dkwX4_bestSettings_2 : List UInt8 := [132, 3, 1, 167, 255, 222, 27, 172]
abbrev dktX4_bestSettings_2 : List UInt8 := dkwX4_bestSettings_2 ++ []
def dkwX4_bestSettings_1 : List UInt8 := [42, 29, 42, 180, 0, 9, 3, 46, 182, 1, 77, 54, 4, 21, 4, 28, 162, 0, 8, 29, 60, 21, 4, 61]
abbrev dktX4_bestSettings_1 : List UInt8 := dkwX4_bestSettings_1 ++ dktX4_bestSettings_2
def dkwX4_bestSettings_0 : List UInt8 := [42, 180, 0, 194, 154, 0, 5, 2, 172, 3, 60, 19, 1, 144, 61, 3, 62, 29, 17, 32, 0, 162, 0, 33]
abbrev dktX4_bestSettings_0 : List UInt8 := dkwX4_bestSettings_0 ++ dktX4_bestSettings_1
theorem dksX4_bestSettings_0 : cX4_bestSettings.data.toList.drop 0 = dktX4_bestSettings_0 := by decide +kernel
theorem dksX4_bestSettings_1 : cX4_bestSettings.data.toList.drop 24 = dktX4_bestSettings_1 := dk_seg dksX4_bestSettings_0 24 rfl rfl
theorem dksX4_bestSettings_2 : cX4_bestSettings.data.toList.drop 48 = dktX4_bestSettings_2 := dk_seg dksX4_bestSettings_1 24 rfl rfl
theorem dX4_bestSettings_0 : decode cX4_bestSettings 0 = .ok (.aload_n 0, 1) := dk_42 (dk_at dksX4_bestSettings_0 0 rfl rfl)
theorem dX4_bestSettings_1 : decode cX4_bestSettings 1 = .ok (.getfield 194, 3) := dk_180 0 194 (dk_at dksX4_bestSettings_0 1 rfl rfl)
theorem dX4_bestSettings_4 : decode cX4_bestSettings 4 = .ok (.ifCond .ne 5, 3) := dk_154 0 5 (dk_at dksX4_bestSettings_0 4 rfl rfl)
theorem dX4_bestSettings_7 : decode cX4_bestSettings 7 = .ok (.iconst (-1), 1) := dk_2 (dk_at dksX4_bestSettings_0 7 rfl rfl)
theorem dX4_bestSettings_8 : decode cX4_bestSettings 8 = .ok (.ireturn, 1) := dk_172 (dk_at dksX4_bestSettings_0 8 rfl rfl)
theorem dX4_bestSettings_9 : decode cX4_bestSettings 9 = .ok (.iconst 0, 1) := dk_3 (dk_at dksX4_bestSettings_0 9 rfl rfl)
theorem dX4_bestSettings_10 : decode cX4_bestSettings 10 = .ok (.istore_n 1, 1) := dk_60 (dk_at dksX4_bestSettings_0 10 rfl rfl)
theorem dX4_bestSettings_11 : decode cX4_bestSettings 11 = .ok (.ldc_w 400, 3) := dk_19 1 144 (dk_at dksX4_bestSettings_0 11 rfl rfl)
theorem dX4_bestSettings_14 : decode cX4_bestSettings 14 = .ok (.istore_n 2, 1) := dk_61 (dk_at dksX4_bestSettings_0 14 rfl rfl)
theorem dX4_bestSettings_15 : decode cX4_bestSettings 15 = .ok (.iconst 0, 1) := dk_3 (dk_at dksX4_bestSettings_0 15 rfl rfl)
theorem dX4_bestSettings_16 : decode cX4_bestSettings 16 = .ok (.istore_n 3, 1) := dk_62 (dk_at dksX4_bestSettings_0 16 rfl rfl)
theorem dX4_bestSettings_17 : decode cX4_bestSettings 17 = .ok (.iload_n 3, 1) := dk_29 (dk_at dksX4_bestSettings_0 17 rfl rfl)
theorem dX4_bestSettings_18 : decode cX4_bestSettings 18 = .ok (.sipush 8192, 3) := dk_17 32 0 (dk_at dksX4_bestSettings_0 18 rfl rfl)
theorem dX4_bestSettings_21 : decode cX4_bestSettings 21 = .ok (.if_icmp .ge 33, 3) := dk_162 0 33 (dk_at dksX4_bestSettings_0 21 rfl rfl)
theorem dX4_bestSettings_24 : decode cX4_bestSettings 24 = .ok (.aload_n 0, 1) := dk_42 (dk_at dksX4_bestSettings_1 0 rfl rfl)
theorem dX4_bestSettings_25 : decode cX4_bestSettings 25 = .ok (.iload_n 3, 1) := dk_29 (dk_at dksX4_bestSettings_1 1 rfl rfl)
theorem dX4_bestSettings_26 : decode cX4_bestSettings 26 = .ok (.aload_n 0, 1) := dk_42 (dk_at dksX4_bestSettings_1 2 rfl rfl)
theorem dX4_bestSettings_27 : decode cX4_bestSettings 27 = .ok (.getfield 9, 3) := dk_180 0 9 (dk_at dksX4_bestSettings_1 3 rfl rfl)
theorem dX4_bestSettings_30 : decode cX4_bestSettings 30 = .ok (.iconst 0, 1) := dk_3 (dk_at dksX4_bestSettings_1 6 rfl rfl)
theorem dX4_bestSettings_31 : decode cX4_bestSettings 31 = .ok (.iaload, 1) := dk_46 (dk_at dksX4_bestSettings_1 7 rfl rfl)
theorem dX4_bestSettings_32 : decode cX4_bestSettings 32 = .ok (.invokevirtual 333, 3) := dk_182 1 77 (dk_at dksX4_bestSettings_1 8 rfl rfl)
theorem dX4_bestSettings_35 : decode cX4_bestSettings 35 = .ok (.istore 4, 2) := dk_54 4 (dk_at dksX4_bestSettings_1 11 rfl rfl)
theorem dX4_bestSettings_37 : decode cX4_bestSettings 37 = .ok (.iload 4, 2) := dk_21 4 (dk_at dksX4_bestSettings_1 13 rfl rfl)
theorem dX4_bestSettings_39 : decode cX4_bestSettings 39 = .ok (.iload_n 2, 1) := dk_28 (dk_at dksX4_bestSettings_1 15 rfl rfl)
theorem dX4_bestSettings_40 : decode cX4_bestSettings 40 = .ok (.if_icmp .ge 8, 3) := dk_162 0 8 (dk_at dksX4_bestSettings_1 16 rfl rfl)
theorem dX4_bestSettings_43 : decode cX4_bestSettings 43 = .ok (.iload_n 3, 1) := dk_29 (dk_at dksX4_bestSettings_1 19 rfl rfl)
theorem dX4_bestSettings_44 : decode cX4_bestSettings 44 = .ok (.istore_n 1, 1) := dk_60 (dk_at dksX4_bestSettings_1 20 rfl rfl)
theorem dX4_bestSettings_45 : decode cX4_bestSettings 45 = .ok (.iload 4, 2) := dk_21 4 (dk_at dksX4_bestSettings_1 21 rfl rfl)
theorem dX4_bestSettings_47 : decode cX4_bestSettings 47 = .ok (.istore_n 2, 1) := dk_61 (dk_at dksX4_bestSettings_1 23 rfl rfl)
theorem dX4_bestSettings_48 : decode cX4_bestSettings 48 = .ok (.iinc 3 1, 3) := dk_132 3 1 (dk_at dksX4_bestSettings_2 0 rfl rfl)
theorem dX4_bestSettings_51 : decode cX4_bestSettings 51 = .ok (.goto (-34), 3) := dk_167 255 222 (dk_at dksX4_bestSettings_2 3 rfl rfl)
theorem dX4_bestSettings_54 : decode cX4_bestSettings 54 = .ok (.iload_n 1, 1) := dk_27 (dk_at dksX4_bestSettings_2 6 rfl rfl)
theorem dX4_bestSettings_55 : decode cX4_bestSettings 55 = .ok (.ireturn, 1) := dk_172 (dk_at dksX4_bestSettings_2 7 rfl rfl)
abbrev cX4_mostEfficient : ByteArray := prog_21_method_88_code
def yX4_mostEfficient : MethodName := ⟨RX4, "mostEfficient", "()I"⟩
def dkwX4_mostEfficient_2 : List UInt8 := [182, 1, 85, 54, 4, 21, 4, 28, 164, 0, 8, 29, 60, 21, 4, 61, 132, 3, 1, 167, 255, 207, 27, 172]
abbrev dktX4_mostEfficient_2 : List UInt8 := dkwX4_mostEfficient_2 ++ []
def dkwX4_mostEfficient_1 : List UInt8 := [29, 42, 180, 0, 9, 3, 46, 182, 1, 77, 42, 180, 0, 213, 164, 0, 6, 167, 0, 21, 42, 29]
abbrev dktX4_mostEfficient_1 : List UInt8 := dkwX4_mostEfficient_1 ++ dktX4_mostEfficient_2
def dkwX4_mostEfficient_0 : List UInt8 := [42, 180, 0, 194, 154, 0, 5, 2, 172, 16, 254, 60, 2, 61, 3, 62, 29, 17, 32, 0, 162, 0, 48, 42]
abbrev dktX4_mostEfficient_0 : List UInt8 := dkwX4_mostEfficient_0 ++ dktX4_mostEfficient_1
theorem dksX4_mostEfficient_0 : cX4_mostEfficient.data.toList.drop 0 = dktX4_mostEfficient_0 := by decide +kernel
theorem dksX4_mostEfficient_1 : cX4_mostEfficient.data.toList.drop 24 = dktX4_mostEfficient_1 := dk_seg dksX4_mostEfficient_0 24 rfl rfl
theorem dksX4_mostEfficient_2 : cX4_mostEfficient.data.toList.drop 46 = dktX4_mostEfficient_2 := dk_seg dksX4_mostEfficient_1 22 rfl rfl
theorem dX4_mostEfficient_0 : decode cX4_mostEfficient 0 = .ok (.aload_n 0, 1) := dk_42 (dk_at dksX4_mostEfficient_0 0 rfl rfl)
theorem dX4_mostEfficient_1 : decode cX4_mostEfficient 1 = .ok (.getfield 194, 3) := dk_180 0 194 (dk_at dksX4_mostEfficient_0 1 rfl rfl)
theorem dX4_mostEfficient_4 : decode cX4_mostEfficient 4 = .ok (.ifCond .ne 5, 3) := dk_154 0 5 (dk_at dksX4_mostEfficient_0 4 rfl rfl)
theorem dX4_mostEfficient_7 : decode cX4_mostEfficient 7 = .ok (.iconst (-1), 1) := dk_2 (dk_at dksX4_mostEfficient_0 7 rfl rfl)
theorem dX4_mostEfficient_8 : decode cX4_mostEfficient 8 = .ok (.ireturn, 1) := dk_172 (dk_at dksX4_mostEfficient_0 8 rfl rfl)
theorem dX4_mostEfficient_9 : decode cX4_mostEfficient 9 = .ok (.bipush (-2), 2) := dk_16 254 (dk_at dksX4_mostEfficient_0 9 rfl rfl)
theorem dX4_mostEfficient_11 : decode cX4_mostEfficient 11 = .ok (.istore_n 1, 1) := dk_60 (dk_at dksX4_mostEfficient_0 11 rfl rfl)
theorem dX4_mostEfficient_12 : decode cX4_mostEfficient 12 = .ok (.iconst (-1), 1) := dk_2 (dk_at dksX4_mostEfficient_0 12 rfl rfl)
theorem dX4_mostEfficient_13 : decode cX4_mostEfficient 13 = .ok (.istore_n 2, 1) := dk_61 (dk_at dksX4_mostEfficient_0 13 rfl rfl)
theorem dX4_mostEfficient_14 : decode cX4_mostEfficient 14 = .ok (.iconst 0, 1) := dk_3 (dk_at dksX4_mostEfficient_0 14 rfl rfl)
theorem dX4_mostEfficient_15 : decode cX4_mostEfficient 15 = .ok (.istore_n 3, 1) := dk_62 (dk_at dksX4_mostEfficient_0 15 rfl rfl)
theorem dX4_mostEfficient_16 : decode cX4_mostEfficient 16 = .ok (.iload_n 3, 1) := dk_29 (dk_at dksX4_mostEfficient_0 16 rfl rfl)
theorem dX4_mostEfficient_17 : decode cX4_mostEfficient 17 = .ok (.sipush 8192, 3) := dk_17 32 0 (dk_at dksX4_mostEfficient_0 17 rfl rfl)
theorem dX4_mostEfficient_20 : decode cX4_mostEfficient 20 = .ok (.if_icmp .ge 48, 3) := dk_162 0 48 (dk_at dksX4_mostEfficient_0 20 rfl rfl)
theorem dX4_mostEfficient_23 : decode cX4_mostEfficient 23 = .ok (.aload_n 0, 1) := dk_42 (dk_at dksX4_mostEfficient_0 23 rfl rfl)
theorem dX4_mostEfficient_24 : decode cX4_mostEfficient 24 = .ok (.iload_n 3, 1) := dk_29 (dk_at dksX4_mostEfficient_1 0 rfl rfl)
theorem dX4_mostEfficient_25 : decode cX4_mostEfficient 25 = .ok (.aload_n 0, 1) := dk_42 (dk_at dksX4_mostEfficient_1 1 rfl rfl)
theorem dX4_mostEfficient_26 : decode cX4_mostEfficient 26 = .ok (.getfield 9, 3) := dk_180 0 9 (dk_at dksX4_mostEfficient_1 2 rfl rfl)
theorem dX4_mostEfficient_29 : decode cX4_mostEfficient 29 = .ok (.iconst 0, 1) := dk_3 (dk_at dksX4_mostEfficient_1 5 rfl rfl)
theorem dX4_mostEfficient_30 : decode cX4_mostEfficient 30 = .ok (.iaload, 1) := dk_46 (dk_at dksX4_mostEfficient_1 6 rfl rfl)
theorem dX4_mostEfficient_31 : decode cX4_mostEfficient 31 = .ok (.invokevirtual 333, 3) := dk_182 1 77 (dk_at dksX4_mostEfficient_1 7 rfl rfl)
theorem dX4_mostEfficient_34 : decode cX4_mostEfficient 34 = .ok (.aload_n 0, 1) := dk_42 (dk_at dksX4_mostEfficient_1 10 rfl rfl)
theorem dX4_mostEfficient_35 : decode cX4_mostEfficient 35 = .ok (.getfield 213, 3) := dk_180 0 213 (dk_at dksX4_mostEfficient_1 11 rfl rfl)
theorem dX4_mostEfficient_38 : decode cX4_mostEfficient 38 = .ok (.if_icmp .le 6, 3) := dk_164 0 6 (dk_at dksX4_mostEfficient_1 14 rfl rfl)
theorem dX4_mostEfficient_41 : decode cX4_mostEfficient 41 = .ok (.goto 21, 3) := dk_167 0 21 (dk_at dksX4_mostEfficient_1 17 rfl rfl)
theorem dX4_mostEfficient_44 : decode cX4_mostEfficient 44 = .ok (.aload_n 0, 1) := dk_42 (dk_at dksX4_mostEfficient_1 20 rfl rfl)
theorem dX4_mostEfficient_45 : decode cX4_mostEfficient 45 = .ok (.iload_n 3, 1) := dk_29 (dk_at dksX4_mostEfficient_1 21 rfl rfl)
theorem dX4_mostEfficient_46 : decode cX4_mostEfficient 46 = .ok (.invokevirtual 341, 3) := dk_182 1 85 (dk_at dksX4_mostEfficient_2 0 rfl rfl)
theorem dX4_mostEfficient_49 : decode cX4_mostEfficient 49 = .ok (.istore 4, 2) := dk_54 4 (dk_at dksX4_mostEfficient_2 3 rfl rfl)
theorem dX4_mostEfficient_51 : decode cX4_mostEfficient 51 = .ok (.iload 4, 2) := dk_21 4 (dk_at dksX4_mostEfficient_2 5 rfl rfl)
theorem dX4_mostEfficient_53 : decode cX4_mostEfficient 53 = .ok (.iload_n 2, 1) := dk_28 (dk_at dksX4_mostEfficient_2 7 rfl rfl)
theorem dX4_mostEfficient_54 : decode cX4_mostEfficient 54 = .ok (.if_icmp .le 8, 3) := dk_164 0 8 (dk_at dksX4_mostEfficient_2 8 rfl rfl)
theorem dX4_mostEfficient_57 : decode cX4_mostEfficient 57 = .ok (.iload_n 3, 1) := dk_29 (dk_at dksX4_mostEfficient_2 11 rfl rfl)
theorem dX4_mostEfficient_58 : decode cX4_mostEfficient 58 = .ok (.istore_n 1, 1) := dk_60 (dk_at dksX4_mostEfficient_2 12 rfl rfl)
theorem dX4_mostEfficient_59 : decode cX4_mostEfficient 59 = .ok (.iload 4, 2) := dk_21 4 (dk_at dksX4_mostEfficient_2 13 rfl rfl)
theorem dX4_mostEfficient_61 : decode cX4_mostEfficient 61 = .ok (.istore_n 2, 1) := dk_61 (dk_at dksX4_mostEfficient_2 15 rfl rfl)
theorem dX4_mostEfficient_62 : decode cX4_mostEfficient 62 = .ok (.iinc 3 1, 3) := dk_132 3 1 (dk_at dksX4_mostEfficient_2 16 rfl rfl)
theorem dX4_mostEfficient_65 : decode cX4_mostEfficient 65 = .ok (.goto (-49), 3) := dk_167 255 207 (dk_at dksX4_mostEfficient_2 19 rfl rfl)
theorem dX4_mostEfficient_68 : decode cX4_mostEfficient 68 = .ok (.iload_n 1, 1) := dk_27 (dk_at dksX4_mostEfficient_2 22 rfl rfl)
theorem dX4_mostEfficient_69 : decode cX4_mostEfficient 69 = .ok (.ireturn, 1) := dk_172 (dk_at dksX4_mostEfficient_2 23 rfl rfl)
abbrev cX4_failureDepth : ByteArray := prog_21_method_91_code
def yX4_failureDepth : MethodName := ⟨RX4, "failureDepth", "()I"⟩
def dkwX4_failureDepth_0 : List UInt8 := [42, 180, 0, 194, 153, 0, 10, 42, 180, 0, 222, 167, 0, 4, 2, 172]
abbrev dktX4_failureDepth_0 : List UInt8 := dkwX4_failureDepth_0 ++ []
theorem dksX4_failureDepth_0 : cX4_failureDepth.data.toList.drop 0 = dktX4_failureDepth_0 := by decide +kernel
theorem dX4_failureDepth_0 : decode cX4_failureDepth 0 = .ok (.aload_n 0, 1) := dk_42 (dk_at dksX4_failureDepth_0 0 rfl rfl)
theorem dX4_failureDepth_1 : decode cX4_failureDepth 1 = .ok (.getfield 194, 3) := dk_180 0 194 (dk_at dksX4_failureDepth_0 1 rfl rfl)
theorem dX4_failureDepth_4 : decode cX4_failureDepth 4 = .ok (.ifCond .eq 10, 3) := dk_153 0 10 (dk_at dksX4_failureDepth_0 4 rfl rfl)
theorem dX4_failureDepth_7 : decode cX4_failureDepth 7 = .ok (.aload_n 0, 1) := dk_42 (dk_at dksX4_failureDepth_0 7 rfl rfl)
theorem dX4_failureDepth_8 : decode cX4_failureDepth 8 = .ok (.getfield 222, 3) := dk_180 0 222 (dk_at dksX4_failureDepth_0 8 rfl rfl)
theorem dX4_failureDepth_11 : decode cX4_failureDepth 11 = .ok (.goto 4, 3) := dk_167 0 4 (dk_at dksX4_failureDepth_0 11 rfl rfl)
theorem dX4_failureDepth_14 : decode cX4_failureDepth 14 = .ok (.iconst (-1), 1) := dk_2 (dk_at dksX4_failureDepth_0 14 rfl rfl)
theorem dX4_failureDepth_15 : decode cX4_failureDepth 15 = .ok (.ireturn, 1) := dk_172 (dk_at dksX4_failureDepth_0 15 rfl rfl)
abbrev cX4_failureKind : ByteArray := prog_21_method_92_code
def yX4_failureKind : MethodName := ⟨RX4, "failureKind", "(I)I"⟩
def dkwX4_failureKind_1 : List UInt8 := [180, 0, 58, 27, 46, 167, 0, 4, 2, 172]
abbrev dktX4_failureKind_1 : List UInt8 := dkwX4_failureKind_1 ++ []
def dkwX4_failureKind_0 : List UInt8 := [42, 180, 0, 194, 153, 0, 28, 27, 133, 9, 42, 180, 0, 222, 4, 100, 133, 184, 0, 75, 153, 0, 12, 42]
abbrev dktX4_failureKind_0 : List UInt8 := dkwX4_failureKind_0 ++ dktX4_failureKind_1
theorem dksX4_failureKind_0 : cX4_failureKind.data.toList.drop 0 = dktX4_failureKind_0 := by decide +kernel
theorem dksX4_failureKind_1 : cX4_failureKind.data.toList.drop 24 = dktX4_failureKind_1 := dk_seg dksX4_failureKind_0 24 rfl rfl
theorem dX4_failureKind_0 : decode cX4_failureKind 0 = .ok (.aload_n 0, 1) := dk_42 (dk_at dksX4_failureKind_0 0 rfl rfl)
theorem dX4_failureKind_1 : decode cX4_failureKind 1 = .ok (.getfield 194, 3) := dk_180 0 194 (dk_at dksX4_failureKind_0 1 rfl rfl)
theorem dX4_failureKind_4 : decode cX4_failureKind 4 = .ok (.ifCond .eq 28, 3) := dk_153 0 28 (dk_at dksX4_failureKind_0 4 rfl rfl)
theorem dX4_failureKind_7 : decode cX4_failureKind 7 = .ok (.iload_n 1, 1) := dk_27 (dk_at dksX4_failureKind_0 7 rfl rfl)
theorem dX4_failureKind_8 : decode cX4_failureKind 8 = .ok (.i2l, 1) := dk_133 (dk_at dksX4_failureKind_0 8 rfl rfl)
theorem dX4_failureKind_9 : decode cX4_failureKind 9 = .ok (.lconst 0, 1) := dk_9 (dk_at dksX4_failureKind_0 9 rfl rfl)
theorem dX4_failureKind_10 : decode cX4_failureKind 10 = .ok (.aload_n 0, 1) := dk_42 (dk_at dksX4_failureKind_0 10 rfl rfl)
theorem dX4_failureKind_11 : decode cX4_failureKind 11 = .ok (.getfield 222, 3) := dk_180 0 222 (dk_at dksX4_failureKind_0 11 rfl rfl)
theorem dX4_failureKind_14 : decode cX4_failureKind 14 = .ok (.iconst 1, 1) := dk_4 (dk_at dksX4_failureKind_0 14 rfl rfl)
theorem dX4_failureKind_15 : decode cX4_failureKind 15 = .ok (.isub, 1) := dk_100 (dk_at dksX4_failureKind_0 15 rfl rfl)
theorem dX4_failureKind_16 : decode cX4_failureKind 16 = .ok (.i2l, 1) := dk_133 (dk_at dksX4_failureKind_0 16 rfl rfl)
theorem dX4_failureKind_17 : decode cX4_failureKind 17 = .ok (.invokestatic 75, 3) := dk_184 0 75 (dk_at dksX4_failureKind_0 17 rfl rfl)
theorem dX4_failureKind_20 : decode cX4_failureKind 20 = .ok (.ifCond .eq 12, 3) := dk_153 0 12 (dk_at dksX4_failureKind_0 20 rfl rfl)
theorem dX4_failureKind_23 : decode cX4_failureKind 23 = .ok (.aload_n 0, 1) := dk_42 (dk_at dksX4_failureKind_0 23 rfl rfl)
theorem dX4_failureKind_24 : decode cX4_failureKind 24 = .ok (.getfield 58, 3) := dk_180 0 58 (dk_at dksX4_failureKind_1 0 rfl rfl)
theorem dX4_failureKind_27 : decode cX4_failureKind 27 = .ok (.iload_n 1, 1) := dk_27 (dk_at dksX4_failureKind_1 3 rfl rfl)
theorem dX4_failureKind_28 : decode cX4_failureKind 28 = .ok (.iaload, 1) := dk_46 (dk_at dksX4_failureKind_1 4 rfl rfl)
theorem dX4_failureKind_29 : decode cX4_failureKind 29 = .ok (.goto 4, 3) := dk_167 0 4 (dk_at dksX4_failureKind_1 5 rfl rfl)
theorem dX4_failureKind_32 : decode cX4_failureKind 32 = .ok (.iconst (-1), 1) := dk_2 (dk_at dksX4_failureKind_1 8 rfl rfl)
theorem dX4_failureKind_33 : decode cX4_failureKind 33 = .ok (.ireturn, 1) := dk_172 (dk_at dksX4_failureKind_1 9 rfl rfl)
abbrev cX4_failureValue : ByteArray := prog_21_method_93_code
def yX4_failureValue : MethodName := ⟨RX4, "failureValue", "(I)I"⟩
def dkwX4_failureValue_1 : List UInt8 := [180, 0, 61, 27, 46, 167, 0, 4, 2, 172]
abbrev dktX4_failureValue_1 : List UInt8 := dkwX4_failureValue_1 ++ []
def dkwX4_failureValue_0 : List UInt8 := [42, 180, 0, 194, 153, 0, 28, 27, 133, 9, 42, 180, 0, 222, 4, 100, 133, 184, 0, 75, 153, 0, 12, 42]
abbrev dktX4_failureValue_0 : List UInt8 := dkwX4_failureValue_0 ++ dktX4_failureValue_1
theorem dksX4_failureValue_0 : cX4_failureValue.data.toList.drop 0 = dktX4_failureValue_0 := by decide +kernel
theorem dksX4_failureValue_1 : cX4_failureValue.data.toList.drop 24 = dktX4_failureValue_1 := dk_seg dksX4_failureValue_0 24 rfl rfl
theorem dX4_failureValue_0 : decode cX4_failureValue 0 = .ok (.aload_n 0, 1) := dk_42 (dk_at dksX4_failureValue_0 0 rfl rfl)
theorem dX4_failureValue_1 : decode cX4_failureValue 1 = .ok (.getfield 194, 3) := dk_180 0 194 (dk_at dksX4_failureValue_0 1 rfl rfl)
theorem dX4_failureValue_4 : decode cX4_failureValue 4 = .ok (.ifCond .eq 28, 3) := dk_153 0 28 (dk_at dksX4_failureValue_0 4 rfl rfl)
theorem dX4_failureValue_7 : decode cX4_failureValue 7 = .ok (.iload_n 1, 1) := dk_27 (dk_at dksX4_failureValue_0 7 rfl rfl)
theorem dX4_failureValue_8 : decode cX4_failureValue 8 = .ok (.i2l, 1) := dk_133 (dk_at dksX4_failureValue_0 8 rfl rfl)
theorem dX4_failureValue_9 : decode cX4_failureValue 9 = .ok (.lconst 0, 1) := dk_9 (dk_at dksX4_failureValue_0 9 rfl rfl)
theorem dX4_failureValue_10 : decode cX4_failureValue 10 = .ok (.aload_n 0, 1) := dk_42 (dk_at dksX4_failureValue_0 10 rfl rfl)
theorem dX4_failureValue_11 : decode cX4_failureValue 11 = .ok (.getfield 222, 3) := dk_180 0 222 (dk_at dksX4_failureValue_0 11 rfl rfl)
theorem dX4_failureValue_14 : decode cX4_failureValue 14 = .ok (.iconst 1, 1) := dk_4 (dk_at dksX4_failureValue_0 14 rfl rfl)
theorem dX4_failureValue_15 : decode cX4_failureValue 15 = .ok (.isub, 1) := dk_100 (dk_at dksX4_failureValue_0 15 rfl rfl)
theorem dX4_failureValue_16 : decode cX4_failureValue 16 = .ok (.i2l, 1) := dk_133 (dk_at dksX4_failureValue_0 16 rfl rfl)
theorem dX4_failureValue_17 : decode cX4_failureValue 17 = .ok (.invokestatic 75, 3) := dk_184 0 75 (dk_at dksX4_failureValue_0 17 rfl rfl)
theorem dX4_failureValue_20 : decode cX4_failureValue 20 = .ok (.ifCond .eq 12, 3) := dk_153 0 12 (dk_at dksX4_failureValue_0 20 rfl rfl)
theorem dX4_failureValue_23 : decode cX4_failureValue 23 = .ok (.aload_n 0, 1) := dk_42 (dk_at dksX4_failureValue_0 23 rfl rfl)
theorem dX4_failureValue_24 : decode cX4_failureValue 24 = .ok (.getfield 61, 3) := dk_180 0 61 (dk_at dksX4_failureValue_1 0 rfl rfl)
theorem dX4_failureValue_27 : decode cX4_failureValue 27 = .ok (.iload_n 1, 1) := dk_27 (dk_at dksX4_failureValue_1 3 rfl rfl)
theorem dX4_failureValue_28 : decode cX4_failureValue 28 = .ok (.iaload, 1) := dk_46 (dk_at dksX4_failureValue_1 4 rfl rfl)
theorem dX4_failureValue_29 : decode cX4_failureValue 29 = .ok (.goto 4, 3) := dk_167 0 4 (dk_at dksX4_failureValue_1 5 rfl rfl)
theorem dX4_failureValue_32 : decode cX4_failureValue 32 = .ok (.iconst (-1), 1) := dk_2 (dk_at dksX4_failureValue_1 8 rfl rfl)
theorem dX4_failureValue_33 : decode cX4_failureValue 33 = .ok (.ireturn, 1) := dk_172 (dk_at dksX4_failureValue_1 9 rfl rfl)
abbrev cX4_store : ByteArray := prog_21_method_97_code
def yX4_store : MethodName := ⟨RX4, "store", "()I"⟩
def dkwX4_store_8 : List UInt8 := [180, 0, 9, 17, 0, 238, 27, 96, 42, 182, 1, 80, 79, 27, 172]
abbrev dktX4_store_8 : List UInt8 := dkwX4_store_8 ++ []
def dkwX4_store_7 : List UInt8 := [180, 0, 9, 3, 46, 79, 42, 180, 0, 9, 17, 0, 222, 27, 96, 42, 180, 0, 9, 4, 46, 79, 42]
abbrev dktX4_store_7 : List UInt8 := dkwX4_store_7 ++ dktX4_store_8
def dkwX4_store_6 : List UInt8 := [42, 180, 0, 9, 17, 0, 205, 92, 46, 4, 96, 79, 42, 180, 0, 9, 17, 0, 206, 27, 96, 42]
abbrev dktX4_store_6 : List UInt8 := dkwX4_store_6 ++ dktX4_store_7
def dkwX4_store_5 : List UInt8 := [17, 0, 205, 46, 62, 29, 27, 164, 0, 17, 42, 29, 4, 100, 29, 182, 1, 145, 132, 3, 255, 167, 255, 240]
abbrev dktX4_store_5 : List UInt8 := dkwX4_store_5 ++ dktX4_store_6
def dkwX4_store_4 : List UInt8 := [17, 0, 205, 46, 16, 16, 160, 0, 6, 16, 254, 172, 42, 182, 1, 6, 28, 154, 0, 43, 42, 180, 0, 9]
abbrev dktX4_store_4 : List UInt8 := dkwX4_store_4 ++ dktX4_store_5
def dkwX4_store_3 : List UInt8 := [180, 0, 9, 3, 46, 160, 0, 7, 4, 167, 0, 4, 3, 61, 28, 154, 0, 19, 42, 180, 0, 9]
abbrev dktX4_store_3 : List UInt8 := dkwX4_store_3 ++ dktX4_store_4
def dkwX4_store_2 : List UInt8 := [27, 42, 180, 0, 9, 17, 0, 205, 46, 162, 0, 26, 42, 180, 0, 9, 17, 0, 206, 27, 96, 46, 42]
abbrev dktX4_store_2 : List UInt8 := dkwX4_store_2 ++ dktX4_store_3
def dkwX4_store_1 : List UInt8 := [180, 0, 9, 17, 0, 206, 27, 96, 46, 42, 180, 0, 9, 3, 46, 162, 0, 9, 132, 1, 1, 167, 255, 222]
abbrev dktX4_store_1 : List UInt8 := dkwX4_store_1 ++ dktX4_store_2
def dkwX4_store_0 : List UInt8 := [42, 180, 0, 194, 154, 0, 5, 2, 172, 3, 60, 27, 42, 180, 0, 9, 17, 0, 205, 46, 162, 0, 28, 42]
abbrev dktX4_store_0 : List UInt8 := dkwX4_store_0 ++ dktX4_store_1
theorem dksX4_store_0 : cX4_store.data.toList.drop 0 = dktX4_store_0 := by decide +kernel
theorem dksX4_store_1 : cX4_store.data.toList.drop 24 = dktX4_store_1 := dk_seg dksX4_store_0 24 rfl rfl
theorem dksX4_store_2 : cX4_store.data.toList.drop 48 = dktX4_store_2 := dk_seg dksX4_store_1 24 rfl rfl
theorem dksX4_store_3 : cX4_store.data.toList.drop 71 = dktX4_store_3 := dk_seg dksX4_store_2 23 rfl rfl
theorem dksX4_store_4 : cX4_store.data.toList.drop 93 = dktX4_store_4 := dk_seg dksX4_store_3 22 rfl rfl
theorem dksX4_store_5 : cX4_store.data.toList.drop 117 = dktX4_store_5 := dk_seg dksX4_store_4 24 rfl rfl
theorem dksX4_store_6 : cX4_store.data.toList.drop 141 = dktX4_store_6 := dk_seg dksX4_store_5 24 rfl rfl
theorem dksX4_store_7 : cX4_store.data.toList.drop 163 = dktX4_store_7 := dk_seg dksX4_store_6 22 rfl rfl
theorem dksX4_store_8 : cX4_store.data.toList.drop 186 = dktX4_store_8 := dk_seg dksX4_store_7 23 rfl rfl
theorem dX4_store_0 : decode cX4_store 0 = .ok (.aload_n 0, 1) := dk_42 (dk_at dksX4_store_0 0 rfl rfl)
theorem dX4_store_1 : decode cX4_store 1 = .ok (.getfield 194, 3) := dk_180 0 194 (dk_at dksX4_store_0 1 rfl rfl)
theorem dX4_store_4 : decode cX4_store 4 = .ok (.ifCond .ne 5, 3) := dk_154 0 5 (dk_at dksX4_store_0 4 rfl rfl)
theorem dX4_store_7 : decode cX4_store 7 = .ok (.iconst (-1), 1) := dk_2 (dk_at dksX4_store_0 7 rfl rfl)
theorem dX4_store_8 : decode cX4_store 8 = .ok (.ireturn, 1) := dk_172 (dk_at dksX4_store_0 8 rfl rfl)
theorem dX4_store_9 : decode cX4_store 9 = .ok (.iconst 0, 1) := dk_3 (dk_at dksX4_store_0 9 rfl rfl)
theorem dX4_store_10 : decode cX4_store 10 = .ok (.istore_n 1, 1) := dk_60 (dk_at dksX4_store_0 10 rfl rfl)
theorem dX4_store_11 : decode cX4_store 11 = .ok (.iload_n 1, 1) := dk_27 (dk_at dksX4_store_0 11 rfl rfl)
theorem dX4_store_12 : decode cX4_store 12 = .ok (.aload_n 0, 1) := dk_42 (dk_at dksX4_store_0 12 rfl rfl)
theorem dX4_store_13 : decode cX4_store 13 = .ok (.getfield 9, 3) := dk_180 0 9 (dk_at dksX4_store_0 13 rfl rfl)
theorem dX4_store_16 : decode cX4_store 16 = .ok (.sipush 205, 3) := dk_17 0 205 (dk_at dksX4_store_0 16 rfl rfl)
theorem dX4_store_19 : decode cX4_store 19 = .ok (.iaload, 1) := dk_46 (dk_at dksX4_store_0 19 rfl rfl)
theorem dX4_store_20 : decode cX4_store 20 = .ok (.if_icmp .ge 28, 3) := dk_162 0 28 (dk_at dksX4_store_0 20 rfl rfl)
theorem dX4_store_23 : decode cX4_store 23 = .ok (.aload_n 0, 1) := dk_42 (dk_at dksX4_store_0 23 rfl rfl)
theorem dX4_store_24 : decode cX4_store 24 = .ok (.getfield 9, 3) := dk_180 0 9 (dk_at dksX4_store_1 0 rfl rfl)
theorem dX4_store_27 : decode cX4_store 27 = .ok (.sipush 206, 3) := dk_17 0 206 (dk_at dksX4_store_1 3 rfl rfl)
theorem dX4_store_30 : decode cX4_store 30 = .ok (.iload_n 1, 1) := dk_27 (dk_at dksX4_store_1 6 rfl rfl)
theorem dX4_store_31 : decode cX4_store 31 = .ok (.iadd, 1) := dk_96 (dk_at dksX4_store_1 7 rfl rfl)
theorem dX4_store_32 : decode cX4_store 32 = .ok (.iaload, 1) := dk_46 (dk_at dksX4_store_1 8 rfl rfl)
theorem dX4_store_33 : decode cX4_store 33 = .ok (.aload_n 0, 1) := dk_42 (dk_at dksX4_store_1 9 rfl rfl)
theorem dX4_store_34 : decode cX4_store 34 = .ok (.getfield 9, 3) := dk_180 0 9 (dk_at dksX4_store_1 10 rfl rfl)
theorem dX4_store_37 : decode cX4_store 37 = .ok (.iconst 0, 1) := dk_3 (dk_at dksX4_store_1 13 rfl rfl)
theorem dX4_store_38 : decode cX4_store 38 = .ok (.iaload, 1) := dk_46 (dk_at dksX4_store_1 14 rfl rfl)
theorem dX4_store_39 : decode cX4_store 39 = .ok (.if_icmp .ge 9, 3) := dk_162 0 9 (dk_at dksX4_store_1 15 rfl rfl)
theorem dX4_store_42 : decode cX4_store 42 = .ok (.iinc 1 1, 3) := dk_132 1 1 (dk_at dksX4_store_1 18 rfl rfl)
theorem dX4_store_45 : decode cX4_store 45 = .ok (.goto (-34), 3) := dk_167 255 222 (dk_at dksX4_store_1 21 rfl rfl)
theorem dX4_store_48 : decode cX4_store 48 = .ok (.iload_n 1, 1) := dk_27 (dk_at dksX4_store_2 0 rfl rfl)
theorem dX4_store_49 : decode cX4_store 49 = .ok (.aload_n 0, 1) := dk_42 (dk_at dksX4_store_2 1 rfl rfl)
theorem dX4_store_50 : decode cX4_store 50 = .ok (.getfield 9, 3) := dk_180 0 9 (dk_at dksX4_store_2 2 rfl rfl)
theorem dX4_store_53 : decode cX4_store 53 = .ok (.sipush 205, 3) := dk_17 0 205 (dk_at dksX4_store_2 5 rfl rfl)
theorem dX4_store_56 : decode cX4_store 56 = .ok (.iaload, 1) := dk_46 (dk_at dksX4_store_2 8 rfl rfl)
theorem dX4_store_57 : decode cX4_store 57 = .ok (.if_icmp .ge 26, 3) := dk_162 0 26 (dk_at dksX4_store_2 9 rfl rfl)
theorem dX4_store_60 : decode cX4_store 60 = .ok (.aload_n 0, 1) := dk_42 (dk_at dksX4_store_2 12 rfl rfl)
theorem dX4_store_61 : decode cX4_store 61 = .ok (.getfield 9, 3) := dk_180 0 9 (dk_at dksX4_store_2 13 rfl rfl)
theorem dX4_store_64 : decode cX4_store 64 = .ok (.sipush 206, 3) := dk_17 0 206 (dk_at dksX4_store_2 16 rfl rfl)
theorem dX4_store_67 : decode cX4_store 67 = .ok (.iload_n 1, 1) := dk_27 (dk_at dksX4_store_2 19 rfl rfl)
theorem dX4_store_68 : decode cX4_store 68 = .ok (.iadd, 1) := dk_96 (dk_at dksX4_store_2 20 rfl rfl)
theorem dX4_store_69 : decode cX4_store 69 = .ok (.iaload, 1) := dk_46 (dk_at dksX4_store_2 21 rfl rfl)
theorem dX4_store_70 : decode cX4_store 70 = .ok (.aload_n 0, 1) := dk_42 (dk_at dksX4_store_2 22 rfl rfl)
theorem dX4_store_71 : decode cX4_store 71 = .ok (.getfield 9, 3) := dk_180 0 9 (dk_at dksX4_store_3 0 rfl rfl)
theorem dX4_store_74 : decode cX4_store 74 = .ok (.iconst 0, 1) := dk_3 (dk_at dksX4_store_3 3 rfl rfl)
theorem dX4_store_75 : decode cX4_store 75 = .ok (.iaload, 1) := dk_46 (dk_at dksX4_store_3 4 rfl rfl)
theorem dX4_store_76 : decode cX4_store 76 = .ok (.if_icmp .ne 7, 3) := dk_160 0 7 (dk_at dksX4_store_3 5 rfl rfl)
theorem dX4_store_79 : decode cX4_store 79 = .ok (.iconst 1, 1) := dk_4 (dk_at dksX4_store_3 8 rfl rfl)
theorem dX4_store_80 : decode cX4_store 80 = .ok (.goto 4, 3) := dk_167 0 4 (dk_at dksX4_store_3 9 rfl rfl)
theorem dX4_store_83 : decode cX4_store 83 = .ok (.iconst 0, 1) := dk_3 (dk_at dksX4_store_3 12 rfl rfl)
theorem dX4_store_84 : decode cX4_store 84 = .ok (.istore_n 2, 1) := dk_61 (dk_at dksX4_store_3 13 rfl rfl)
theorem dX4_store_85 : decode cX4_store 85 = .ok (.iload_n 2, 1) := dk_28 (dk_at dksX4_store_3 14 rfl rfl)
theorem dX4_store_86 : decode cX4_store 86 = .ok (.ifCond .ne 19, 3) := dk_154 0 19 (dk_at dksX4_store_3 15 rfl rfl)
theorem dX4_store_89 : decode cX4_store 89 = .ok (.aload_n 0, 1) := dk_42 (dk_at dksX4_store_3 18 rfl rfl)
theorem dX4_store_90 : decode cX4_store 90 = .ok (.getfield 9, 3) := dk_180 0 9 (dk_at dksX4_store_3 19 rfl rfl)
theorem dX4_store_93 : decode cX4_store 93 = .ok (.sipush 205, 3) := dk_17 0 205 (dk_at dksX4_store_4 0 rfl rfl)
theorem dX4_store_96 : decode cX4_store 96 = .ok (.iaload, 1) := dk_46 (dk_at dksX4_store_4 3 rfl rfl)
theorem dX4_store_97 : decode cX4_store 97 = .ok (.bipush 16, 2) := dk_16 16 (dk_at dksX4_store_4 4 rfl rfl)
theorem dX4_store_99 : decode cX4_store 99 = .ok (.if_icmp .ne 6, 3) := dk_160 0 6 (dk_at dksX4_store_4 6 rfl rfl)
theorem dX4_store_102 : decode cX4_store 102 = .ok (.bipush (-2), 2) := dk_16 254 (dk_at dksX4_store_4 9 rfl rfl)
theorem dX4_store_104 : decode cX4_store 104 = .ok (.ireturn, 1) := dk_172 (dk_at dksX4_store_4 11 rfl rfl)
theorem dX4_store_105 : decode cX4_store 105 = .ok (.aload_n 0, 1) := dk_42 (dk_at dksX4_store_4 12 rfl rfl)
theorem dX4_store_106 : decode cX4_store 106 = .ok (.invokevirtual 262, 3) := dk_182 1 6 (dk_at dksX4_store_4 13 rfl rfl)
theorem dX4_store_109 : decode cX4_store 109 = .ok (.iload_n 2, 1) := dk_28 (dk_at dksX4_store_4 16 rfl rfl)
theorem dX4_store_110 : decode cX4_store 110 = .ok (.ifCond .ne 43, 3) := dk_154 0 43 (dk_at dksX4_store_4 17 rfl rfl)
theorem dX4_store_113 : decode cX4_store 113 = .ok (.aload_n 0, 1) := dk_42 (dk_at dksX4_store_4 20 rfl rfl)
theorem dX4_store_114 : decode cX4_store 114 = .ok (.getfield 9, 3) := dk_180 0 9 (dk_at dksX4_store_4 21 rfl rfl)
theorem dX4_store_117 : decode cX4_store 117 = .ok (.sipush 205, 3) := dk_17 0 205 (dk_at dksX4_store_5 0 rfl rfl)
theorem dX4_store_120 : decode cX4_store 120 = .ok (.iaload, 1) := dk_46 (dk_at dksX4_store_5 3 rfl rfl)
theorem dX4_store_121 : decode cX4_store 121 = .ok (.istore_n 3, 1) := dk_62 (dk_at dksX4_store_5 4 rfl rfl)
theorem dX4_store_122 : decode cX4_store 122 = .ok (.iload_n 3, 1) := dk_29 (dk_at dksX4_store_5 5 rfl rfl)
theorem dX4_store_123 : decode cX4_store 123 = .ok (.iload_n 1, 1) := dk_27 (dk_at dksX4_store_5 6 rfl rfl)
theorem dX4_store_124 : decode cX4_store 124 = .ok (.if_icmp .le 17, 3) := dk_164 0 17 (dk_at dksX4_store_5 7 rfl rfl)
theorem dX4_store_127 : decode cX4_store 127 = .ok (.aload_n 0, 1) := dk_42 (dk_at dksX4_store_5 10 rfl rfl)
theorem dX4_store_128 : decode cX4_store 128 = .ok (.iload_n 3, 1) := dk_29 (dk_at dksX4_store_5 11 rfl rfl)
theorem dX4_store_129 : decode cX4_store 129 = .ok (.iconst 1, 1) := dk_4 (dk_at dksX4_store_5 12 rfl rfl)
theorem dX4_store_130 : decode cX4_store 130 = .ok (.isub, 1) := dk_100 (dk_at dksX4_store_5 13 rfl rfl)
theorem dX4_store_131 : decode cX4_store 131 = .ok (.iload_n 3, 1) := dk_29 (dk_at dksX4_store_5 14 rfl rfl)
theorem dX4_store_132 : decode cX4_store 132 = .ok (.invokevirtual 401, 3) := dk_182 1 145 (dk_at dksX4_store_5 15 rfl rfl)
theorem dX4_store_135 : decode cX4_store 135 = .ok (.iinc 3 (-1), 3) := dk_132 3 255 (dk_at dksX4_store_5 18 rfl rfl)
theorem dX4_store_138 : decode cX4_store 138 = .ok (.goto (-16), 3) := dk_167 255 240 (dk_at dksX4_store_5 21 rfl rfl)
theorem dX4_store_141 : decode cX4_store 141 = .ok (.aload_n 0, 1) := dk_42 (dk_at dksX4_store_6 0 rfl rfl)
theorem dX4_store_142 : decode cX4_store 142 = .ok (.getfield 9, 3) := dk_180 0 9 (dk_at dksX4_store_6 1 rfl rfl)
theorem dX4_store_145 : decode cX4_store 145 = .ok (.sipush 205, 3) := dk_17 0 205 (dk_at dksX4_store_6 4 rfl rfl)
theorem dX4_store_148 : decode cX4_store 148 = .ok (.dup2, 1) := dk_92 (dk_at dksX4_store_6 7 rfl rfl)
theorem dX4_store_149 : decode cX4_store 149 = .ok (.iaload, 1) := dk_46 (dk_at dksX4_store_6 8 rfl rfl)
theorem dX4_store_150 : decode cX4_store 150 = .ok (.iconst 1, 1) := dk_4 (dk_at dksX4_store_6 9 rfl rfl)
theorem dX4_store_151 : decode cX4_store 151 = .ok (.iadd, 1) := dk_96 (dk_at dksX4_store_6 10 rfl rfl)
theorem dX4_store_152 : decode cX4_store 152 = .ok (.iastore, 1) := dk_79 (dk_at dksX4_store_6 11 rfl rfl)
theorem dX4_store_153 : decode cX4_store 153 = .ok (.aload_n 0, 1) := dk_42 (dk_at dksX4_store_6 12 rfl rfl)
theorem dX4_store_154 : decode cX4_store 154 = .ok (.getfield 9, 3) := dk_180 0 9 (dk_at dksX4_store_6 13 rfl rfl)
theorem dX4_store_157 : decode cX4_store 157 = .ok (.sipush 206, 3) := dk_17 0 206 (dk_at dksX4_store_6 16 rfl rfl)
theorem dX4_store_160 : decode cX4_store 160 = .ok (.iload_n 1, 1) := dk_27 (dk_at dksX4_store_6 19 rfl rfl)
theorem dX4_store_161 : decode cX4_store 161 = .ok (.iadd, 1) := dk_96 (dk_at dksX4_store_6 20 rfl rfl)
theorem dX4_store_162 : decode cX4_store 162 = .ok (.aload_n 0, 1) := dk_42 (dk_at dksX4_store_6 21 rfl rfl)
theorem dX4_store_163 : decode cX4_store 163 = .ok (.getfield 9, 3) := dk_180 0 9 (dk_at dksX4_store_7 0 rfl rfl)
theorem dX4_store_166 : decode cX4_store 166 = .ok (.iconst 0, 1) := dk_3 (dk_at dksX4_store_7 3 rfl rfl)
theorem dX4_store_167 : decode cX4_store 167 = .ok (.iaload, 1) := dk_46 (dk_at dksX4_store_7 4 rfl rfl)
theorem dX4_store_168 : decode cX4_store 168 = .ok (.iastore, 1) := dk_79 (dk_at dksX4_store_7 5 rfl rfl)
theorem dX4_store_169 : decode cX4_store 169 = .ok (.aload_n 0, 1) := dk_42 (dk_at dksX4_store_7 6 rfl rfl)
theorem dX4_store_170 : decode cX4_store 170 = .ok (.getfield 9, 3) := dk_180 0 9 (dk_at dksX4_store_7 7 rfl rfl)
theorem dX4_store_173 : decode cX4_store 173 = .ok (.sipush 222, 3) := dk_17 0 222 (dk_at dksX4_store_7 10 rfl rfl)
theorem dX4_store_176 : decode cX4_store 176 = .ok (.iload_n 1, 1) := dk_27 (dk_at dksX4_store_7 13 rfl rfl)
theorem dX4_store_177 : decode cX4_store 177 = .ok (.iadd, 1) := dk_96 (dk_at dksX4_store_7 14 rfl rfl)
theorem dX4_store_178 : decode cX4_store 178 = .ok (.aload_n 0, 1) := dk_42 (dk_at dksX4_store_7 15 rfl rfl)
theorem dX4_store_179 : decode cX4_store 179 = .ok (.getfield 9, 3) := dk_180 0 9 (dk_at dksX4_store_7 16 rfl rfl)
theorem dX4_store_182 : decode cX4_store 182 = .ok (.iconst 1, 1) := dk_4 (dk_at dksX4_store_7 19 rfl rfl)
theorem dX4_store_183 : decode cX4_store 183 = .ok (.iaload, 1) := dk_46 (dk_at dksX4_store_7 20 rfl rfl)
theorem dX4_store_184 : decode cX4_store 184 = .ok (.iastore, 1) := dk_79 (dk_at dksX4_store_7 21 rfl rfl)
theorem dX4_store_185 : decode cX4_store 185 = .ok (.aload_n 0, 1) := dk_42 (dk_at dksX4_store_7 22 rfl rfl)
theorem dX4_store_186 : decode cX4_store 186 = .ok (.getfield 9, 3) := dk_180 0 9 (dk_at dksX4_store_8 0 rfl rfl)
theorem dX4_store_189 : decode cX4_store 189 = .ok (.sipush 238, 3) := dk_17 0 238 (dk_at dksX4_store_8 3 rfl rfl)
theorem dX4_store_192 : decode cX4_store 192 = .ok (.iload_n 1, 1) := dk_27 (dk_at dksX4_store_8 6 rfl rfl)
theorem dX4_store_193 : decode cX4_store 193 = .ok (.iadd, 1) := dk_96 (dk_at dksX4_store_8 7 rfl rfl)
theorem dX4_store_194 : decode cX4_store 194 = .ok (.aload_n 0, 1) := dk_42 (dk_at dksX4_store_8 8 rfl rfl)
theorem dX4_store_195 : decode cX4_store 195 = .ok (.invokevirtual 336, 3) := dk_182 1 80 (dk_at dksX4_store_8 9 rfl rfl)
theorem dX4_store_198 : decode cX4_store 198 = .ok (.iastore, 1) := dk_79 (dk_at dksX4_store_8 12 rfl rfl)
theorem dX4_store_199 : decode cX4_store 199 = .ok (.iload_n 1, 1) := dk_27 (dk_at dksX4_store_8 13 rfl rfl)
theorem dX4_store_200 : decode cX4_store 200 = .ok (.ireturn, 1) := dk_172 (dk_at dksX4_store_8 14 rfl rfl)
abbrev cX4_moveEntry : ByteArray := prog_21_method_96_code
def yX4_moveEntry : MethodName := ⟨RX4, "moveEntry", "(II)V"⟩
def dkwX4_moveEntry_2 : List UInt8 := [96, 42, 180, 0, 9, 17, 0, 238, 27, 96, 46, 79, 177]
abbrev dktX4_moveEntry_2 : List UInt8 := dkwX4_moveEntry_2 ++ []
def dkwX4_moveEntry_1 : List UInt8 := [17, 0, 222, 28, 96, 42, 180, 0, 9, 17, 0, 222, 27, 96, 46, 79, 42, 180, 0, 9, 17, 0, 238, 28]
abbrev dktX4_moveEntry_1 : List UInt8 := dkwX4_moveEntry_1 ++ dktX4_moveEntry_2
def dkwX4_moveEntry_0 : List UInt8 := [42, 180, 0, 9, 17, 0, 206, 28, 96, 42, 180, 0, 9, 17, 0, 206, 27, 96, 46, 79, 42, 180, 0, 9]
abbrev dktX4_moveEntry_0 : List UInt8 := dkwX4_moveEntry_0 ++ dktX4_moveEntry_1
theorem dksX4_moveEntry_0 : cX4_moveEntry.data.toList.drop 0 = dktX4_moveEntry_0 := by decide +kernel
theorem dksX4_moveEntry_1 : cX4_moveEntry.data.toList.drop 24 = dktX4_moveEntry_1 := dk_seg dksX4_moveEntry_0 24 rfl rfl
theorem dksX4_moveEntry_2 : cX4_moveEntry.data.toList.drop 48 = dktX4_moveEntry_2 := dk_seg dksX4_moveEntry_1 24 rfl rfl
theorem dX4_moveEntry_0 : decode cX4_moveEntry 0 = .ok (.aload_n 0, 1) := dk_42 (dk_at dksX4_moveEntry_0 0 rfl rfl)
theorem dX4_moveEntry_1 : decode cX4_moveEntry 1 = .ok (.getfield 9, 3) := dk_180 0 9 (dk_at dksX4_moveEntry_0 1 rfl rfl)
theorem dX4_moveEntry_4 : decode cX4_moveEntry 4 = .ok (.sipush 206, 3) := dk_17 0 206 (dk_at dksX4_moveEntry_0 4 rfl rfl)
theorem dX4_moveEntry_7 : decode cX4_moveEntry 7 = .ok (.iload_n 2, 1) := dk_28 (dk_at dksX4_moveEntry_0 7 rfl rfl)
theorem dX4_moveEntry_8 : decode cX4_moveEntry 8 = .ok (.iadd, 1) := dk_96 (dk_at dksX4_moveEntry_0 8 rfl rfl)
theorem dX4_moveEntry_9 : decode cX4_moveEntry 9 = .ok (.aload_n 0, 1) := dk_42 (dk_at dksX4_moveEntry_0 9 rfl rfl)
theorem dX4_moveEntry_10 : decode cX4_moveEntry 10 = .ok (.getfield 9, 3) := dk_180 0 9 (dk_at dksX4_moveEntry_0 10 rfl rfl)
theorem dX4_moveEntry_13 : decode cX4_moveEntry 13 = .ok (.sipush 206, 3) := dk_17 0 206 (dk_at dksX4_moveEntry_0 13 rfl rfl)
theorem dX4_moveEntry_16 : decode cX4_moveEntry 16 = .ok (.iload_n 1, 1) := dk_27 (dk_at dksX4_moveEntry_0 16 rfl rfl)
theorem dX4_moveEntry_17 : decode cX4_moveEntry 17 = .ok (.iadd, 1) := dk_96 (dk_at dksX4_moveEntry_0 17 rfl rfl)
theorem dX4_moveEntry_18 : decode cX4_moveEntry 18 = .ok (.iaload, 1) := dk_46 (dk_at dksX4_moveEntry_0 18 rfl rfl)
theorem dX4_moveEntry_19 : decode cX4_moveEntry 19 = .ok (.iastore, 1) := dk_79 (dk_at dksX4_moveEntry_0 19 rfl rfl)
theorem dX4_moveEntry_20 : decode cX4_moveEntry 20 = .ok (.aload_n 0, 1) := dk_42 (dk_at dksX4_moveEntry_0 20 rfl rfl)
theorem dX4_moveEntry_21 : decode cX4_moveEntry 21 = .ok (.getfield 9, 3) := dk_180 0 9 (dk_at dksX4_moveEntry_0 21 rfl rfl)
theorem dX4_moveEntry_24 : decode cX4_moveEntry 24 = .ok (.sipush 222, 3) := dk_17 0 222 (dk_at dksX4_moveEntry_1 0 rfl rfl)
theorem dX4_moveEntry_27 : decode cX4_moveEntry 27 = .ok (.iload_n 2, 1) := dk_28 (dk_at dksX4_moveEntry_1 3 rfl rfl)
theorem dX4_moveEntry_28 : decode cX4_moveEntry 28 = .ok (.iadd, 1) := dk_96 (dk_at dksX4_moveEntry_1 4 rfl rfl)
theorem dX4_moveEntry_29 : decode cX4_moveEntry 29 = .ok (.aload_n 0, 1) := dk_42 (dk_at dksX4_moveEntry_1 5 rfl rfl)
theorem dX4_moveEntry_30 : decode cX4_moveEntry 30 = .ok (.getfield 9, 3) := dk_180 0 9 (dk_at dksX4_moveEntry_1 6 rfl rfl)
theorem dX4_moveEntry_33 : decode cX4_moveEntry 33 = .ok (.sipush 222, 3) := dk_17 0 222 (dk_at dksX4_moveEntry_1 9 rfl rfl)
theorem dX4_moveEntry_36 : decode cX4_moveEntry 36 = .ok (.iload_n 1, 1) := dk_27 (dk_at dksX4_moveEntry_1 12 rfl rfl)
theorem dX4_moveEntry_37 : decode cX4_moveEntry 37 = .ok (.iadd, 1) := dk_96 (dk_at dksX4_moveEntry_1 13 rfl rfl)
theorem dX4_moveEntry_38 : decode cX4_moveEntry 38 = .ok (.iaload, 1) := dk_46 (dk_at dksX4_moveEntry_1 14 rfl rfl)
theorem dX4_moveEntry_39 : decode cX4_moveEntry 39 = .ok (.iastore, 1) := dk_79 (dk_at dksX4_moveEntry_1 15 rfl rfl)
theorem dX4_moveEntry_40 : decode cX4_moveEntry 40 = .ok (.aload_n 0, 1) := dk_42 (dk_at dksX4_moveEntry_1 16 rfl rfl)
theorem dX4_moveEntry_41 : decode cX4_moveEntry 41 = .ok (.getfield 9, 3) := dk_180 0 9 (dk_at dksX4_moveEntry_1 17 rfl rfl)
theorem dX4_moveEntry_44 : decode cX4_moveEntry 44 = .ok (.sipush 238, 3) := dk_17 0 238 (dk_at dksX4_moveEntry_1 20 rfl rfl)
theorem dX4_moveEntry_47 : decode cX4_moveEntry 47 = .ok (.iload_n 2, 1) := dk_28 (dk_at dksX4_moveEntry_1 23 rfl rfl)
theorem dX4_moveEntry_48 : decode cX4_moveEntry 48 = .ok (.iadd, 1) := dk_96 (dk_at dksX4_moveEntry_2 0 rfl rfl)
theorem dX4_moveEntry_49 : decode cX4_moveEntry 49 = .ok (.aload_n 0, 1) := dk_42 (dk_at dksX4_moveEntry_2 1 rfl rfl)
theorem dX4_moveEntry_50 : decode cX4_moveEntry 50 = .ok (.getfield 9, 3) := dk_180 0 9 (dk_at dksX4_moveEntry_2 2 rfl rfl)
theorem dX4_moveEntry_53 : decode cX4_moveEntry 53 = .ok (.sipush 238, 3) := dk_17 0 238 (dk_at dksX4_moveEntry_2 5 rfl rfl)
theorem dX4_moveEntry_56 : decode cX4_moveEntry 56 = .ok (.iload_n 1, 1) := dk_27 (dk_at dksX4_moveEntry_2 8 rfl rfl)
theorem dX4_moveEntry_57 : decode cX4_moveEntry 57 = .ok (.iadd, 1) := dk_96 (dk_at dksX4_moveEntry_2 9 rfl rfl)
theorem dX4_moveEntry_58 : decode cX4_moveEntry 58 = .ok (.iaload, 1) := dk_46 (dk_at dksX4_moveEntry_2 10 rfl rfl)
theorem dX4_moveEntry_59 : decode cX4_moveEntry 59 = .ok (.iastore, 1) := dk_79 (dk_at dksX4_moveEntry_2 11 rfl rfl)
theorem dX4_moveEntry_60 : decode cX4_moveEntry 60 = .ok (.return_, 1) := dk_177 (dk_at dksX4_moveEntry_2 12 rfl rfl)
abbrev cX4_recall : ByteArray := prog_21_method_98_code
def yX4_recall : MethodName := ⟨RX4, "recall", "()I"⟩
def dkwX4_recall_2 : List UInt8 := [182, 1, 9, 27, 172]
abbrev dktX4_recall_2 : List UInt8 := dkwX4_recall_2 ++ []
def dkwX4_recall_1 : List UInt8 := [182, 1, 141, 16, 254, 172, 42, 182, 1, 6, 42, 4, 42, 180, 0, 9, 17, 0, 222, 27, 96, 46]
abbrev dktX4_recall_1 : List UInt8 := dkwX4_recall_1 ++ dktX4_recall_2
def dkwX4_recall_0 : List UInt8 := [42, 180, 0, 194, 154, 0, 5, 2, 172, 42, 182, 1, 138, 60, 42, 3, 181, 0, 222, 27, 156, 0, 10, 42]
abbrev dktX4_recall_0 : List UInt8 := dkwX4_recall_0 ++ dktX4_recall_1
theorem dksX4_recall_0 : cX4_recall.data.toList.drop 0 = dktX4_recall_0 := by decide +kernel
theorem dksX4_recall_1 : cX4_recall.data.toList.drop 24 = dktX4_recall_1 := dk_seg dksX4_recall_0 24 rfl rfl
theorem dksX4_recall_2 : cX4_recall.data.toList.drop 46 = dktX4_recall_2 := dk_seg dksX4_recall_1 22 rfl rfl
theorem dX4_recall_0 : decode cX4_recall 0 = .ok (.aload_n 0, 1) := dk_42 (dk_at dksX4_recall_0 0 rfl rfl)
theorem dX4_recall_1 : decode cX4_recall 1 = .ok (.getfield 194, 3) := dk_180 0 194 (dk_at dksX4_recall_0 1 rfl rfl)
theorem dX4_recall_4 : decode cX4_recall 4 = .ok (.ifCond .ne 5, 3) := dk_154 0 5 (dk_at dksX4_recall_0 4 rfl rfl)
theorem dX4_recall_7 : decode cX4_recall 7 = .ok (.iconst (-1), 1) := dk_2 (dk_at dksX4_recall_0 7 rfl rfl)
theorem dX4_recall_8 : decode cX4_recall 8 = .ok (.ireturn, 1) := dk_172 (dk_at dksX4_recall_0 8 rfl rfl)
theorem dX4_recall_9 : decode cX4_recall 9 = .ok (.aload_n 0, 1) := dk_42 (dk_at dksX4_recall_0 9 rfl rfl)
theorem dX4_recall_10 : decode cX4_recall 10 = .ok (.invokevirtual 394, 3) := dk_182 1 138 (dk_at dksX4_recall_0 10 rfl rfl)
theorem dX4_recall_13 : decode cX4_recall 13 = .ok (.istore_n 1, 1) := dk_60 (dk_at dksX4_recall_0 13 rfl rfl)
theorem dX4_recall_14 : decode cX4_recall 14 = .ok (.aload_n 0, 1) := dk_42 (dk_at dksX4_recall_0 14 rfl rfl)
theorem dX4_recall_15 : decode cX4_recall 15 = .ok (.iconst 0, 1) := dk_3 (dk_at dksX4_recall_0 15 rfl rfl)
theorem dX4_recall_16 : decode cX4_recall 16 = .ok (.putfield 222, 3) := dk_181 0 222 (dk_at dksX4_recall_0 16 rfl rfl)
theorem dX4_recall_19 : decode cX4_recall 19 = .ok (.iload_n 1, 1) := dk_27 (dk_at dksX4_recall_0 19 rfl rfl)
theorem dX4_recall_20 : decode cX4_recall 20 = .ok (.ifCond .ge 10, 3) := dk_156 0 10 (dk_at dksX4_recall_0 20 rfl rfl)
theorem dX4_recall_23 : decode cX4_recall 23 = .ok (.aload_n 0, 1) := dk_42 (dk_at dksX4_recall_0 23 rfl rfl)
theorem dX4_recall_24 : decode cX4_recall 24 = .ok (.invokevirtual 397, 3) := dk_182 1 141 (dk_at dksX4_recall_1 0 rfl rfl)
theorem dX4_recall_27 : decode cX4_recall 27 = .ok (.bipush (-2), 2) := dk_16 254 (dk_at dksX4_recall_1 3 rfl rfl)
theorem dX4_recall_29 : decode cX4_recall 29 = .ok (.ireturn, 1) := dk_172 (dk_at dksX4_recall_1 5 rfl rfl)
theorem dX4_recall_30 : decode cX4_recall 30 = .ok (.aload_n 0, 1) := dk_42 (dk_at dksX4_recall_1 6 rfl rfl)
theorem dX4_recall_31 : decode cX4_recall 31 = .ok (.invokevirtual 262, 3) := dk_182 1 6 (dk_at dksX4_recall_1 7 rfl rfl)
theorem dX4_recall_34 : decode cX4_recall 34 = .ok (.aload_n 0, 1) := dk_42 (dk_at dksX4_recall_1 10 rfl rfl)
theorem dX4_recall_35 : decode cX4_recall 35 = .ok (.iconst 1, 1) := dk_4 (dk_at dksX4_recall_1 11 rfl rfl)
theorem dX4_recall_36 : decode cX4_recall 36 = .ok (.aload_n 0, 1) := dk_42 (dk_at dksX4_recall_1 12 rfl rfl)
theorem dX4_recall_37 : decode cX4_recall 37 = .ok (.getfield 9, 3) := dk_180 0 9 (dk_at dksX4_recall_1 13 rfl rfl)
theorem dX4_recall_40 : decode cX4_recall 40 = .ok (.sipush 222, 3) := dk_17 0 222 (dk_at dksX4_recall_1 16 rfl rfl)
theorem dX4_recall_43 : decode cX4_recall 43 = .ok (.iload_n 1, 1) := dk_27 (dk_at dksX4_recall_1 19 rfl rfl)
theorem dX4_recall_44 : decode cX4_recall 44 = .ok (.iadd, 1) := dk_96 (dk_at dksX4_recall_1 20 rfl rfl)
theorem dX4_recall_45 : decode cX4_recall 45 = .ok (.iaload, 1) := dk_46 (dk_at dksX4_recall_1 21 rfl rfl)
theorem dX4_recall_46 : decode cX4_recall 46 = .ok (.invokevirtual 265, 3) := dk_182 1 9 (dk_at dksX4_recall_2 0 rfl rfl)
theorem dX4_recall_49 : decode cX4_recall 49 = .ok (.iload_n 1, 1) := dk_27 (dk_at dksX4_recall_2 3 rfl rfl)
theorem dX4_recall_50 : decode cX4_recall 50 = .ok (.ireturn, 1) := dk_172 (dk_at dksX4_recall_2 4 rfl rfl)
abbrev cX4_forget : ByteArray := prog_21_method_99_code
def yX4_forget : MethodName := ⟨RX4, "forget", "(I)I"⟩
def dkwX4_forget_2 : List UInt8 := [180, 0, 9, 17, 0, 205, 92, 46, 4, 100, 79, 42, 180, 0, 9, 17, 0, 205, 46, 172]
abbrev dktX4_forget_2 : List UInt8 := dkwX4_forget_2 ++ []
def dkwX4_forget_1 : List UInt8 := [17, 0, 205, 46, 162, 0, 17, 42, 28, 28, 4, 100, 182, 1, 145, 132, 2, 1, 167, 255, 233, 42]
abbrev dktX4_forget_1 : List UInt8 := dkwX4_forget_1 ++ dktX4_forget_2
def dkwX4_forget_0 : List UInt8 := [42, 27, 182, 1, 148, 154, 0, 5, 2, 172, 42, 182, 1, 6, 27, 4, 96, 61, 28, 42, 180, 0, 9]
abbrev dktX4_forget_0 : List UInt8 := dkwX4_forget_0 ++ dktX4_forget_1
theorem dksX4_forget_0 : cX4_forget.data.toList.drop 0 = dktX4_forget_0 := by decide +kernel
theorem dksX4_forget_1 : cX4_forget.data.toList.drop 23 = dktX4_forget_1 := dk_seg dksX4_forget_0 23 rfl rfl
theorem dksX4_forget_2 : cX4_forget.data.toList.drop 45 = dktX4_forget_2 := dk_seg dksX4_forget_1 22 rfl rfl
theorem dX4_forget_0 : decode cX4_forget 0 = .ok (.aload_n 0, 1) := dk_42 (dk_at dksX4_forget_0 0 rfl rfl)
theorem dX4_forget_1 : decode cX4_forget 1 = .ok (.iload_n 1, 1) := dk_27 (dk_at dksX4_forget_0 1 rfl rfl)
theorem dX4_forget_2 : decode cX4_forget 2 = .ok (.invokevirtual 404, 3) := dk_182 1 148 (dk_at dksX4_forget_0 2 rfl rfl)
theorem dX4_forget_5 : decode cX4_forget 5 = .ok (.ifCond .ne 5, 3) := dk_154 0 5 (dk_at dksX4_forget_0 5 rfl rfl)
theorem dX4_forget_8 : decode cX4_forget 8 = .ok (.iconst (-1), 1) := dk_2 (dk_at dksX4_forget_0 8 rfl rfl)
theorem dX4_forget_9 : decode cX4_forget 9 = .ok (.ireturn, 1) := dk_172 (dk_at dksX4_forget_0 9 rfl rfl)
theorem dX4_forget_10 : decode cX4_forget 10 = .ok (.aload_n 0, 1) := dk_42 (dk_at dksX4_forget_0 10 rfl rfl)
theorem dX4_forget_11 : decode cX4_forget 11 = .ok (.invokevirtual 262, 3) := dk_182 1 6 (dk_at dksX4_forget_0 11 rfl rfl)
theorem dX4_forget_14 : decode cX4_forget 14 = .ok (.iload_n 1, 1) := dk_27 (dk_at dksX4_forget_0 14 rfl rfl)
theorem dX4_forget_15 : decode cX4_forget 15 = .ok (.iconst 1, 1) := dk_4 (dk_at dksX4_forget_0 15 rfl rfl)
theorem dX4_forget_16 : decode cX4_forget 16 = .ok (.iadd, 1) := dk_96 (dk_at dksX4_forget_0 16 rfl rfl)
theorem dX4_forget_17 : decode cX4_forget 17 = .ok (.istore_n 2, 1) := dk_61 (dk_at dksX4_forget_0 17 rfl rfl)
theorem dX4_forget_18 : decode cX4_forget 18 = .ok (.iload_n 2, 1) := dk_28 (dk_at dksX4_forget_0 18 rfl rfl)
theorem dX4_forget_19 : decode cX4_forget 19 = .ok (.aload_n 0, 1) := dk_42 (dk_at dksX4_forget_0 19 rfl rfl)
theorem dX4_forget_20 : decode cX4_forget 20 = .ok (.getfield 9, 3) := dk_180 0 9 (dk_at dksX4_forget_0 20 rfl rfl)
theorem dX4_forget_23 : decode cX4_forget 23 = .ok (.sipush 205, 3) := dk_17 0 205 (dk_at dksX4_forget_1 0 rfl rfl)
theorem dX4_forget_26 : decode cX4_forget 26 = .ok (.iaload, 1) := dk_46 (dk_at dksX4_forget_1 3 rfl rfl)
theorem dX4_forget_27 : decode cX4_forget 27 = .ok (.if_icmp .ge 17, 3) := dk_162 0 17 (dk_at dksX4_forget_1 4 rfl rfl)
theorem dX4_forget_30 : decode cX4_forget 30 = .ok (.aload_n 0, 1) := dk_42 (dk_at dksX4_forget_1 7 rfl rfl)
theorem dX4_forget_31 : decode cX4_forget 31 = .ok (.iload_n 2, 1) := dk_28 (dk_at dksX4_forget_1 8 rfl rfl)
theorem dX4_forget_32 : decode cX4_forget 32 = .ok (.iload_n 2, 1) := dk_28 (dk_at dksX4_forget_1 9 rfl rfl)
theorem dX4_forget_33 : decode cX4_forget 33 = .ok (.iconst 1, 1) := dk_4 (dk_at dksX4_forget_1 10 rfl rfl)
theorem dX4_forget_34 : decode cX4_forget 34 = .ok (.isub, 1) := dk_100 (dk_at dksX4_forget_1 11 rfl rfl)
theorem dX4_forget_35 : decode cX4_forget 35 = .ok (.invokevirtual 401, 3) := dk_182 1 145 (dk_at dksX4_forget_1 12 rfl rfl)
theorem dX4_forget_38 : decode cX4_forget 38 = .ok (.iinc 2 1, 3) := dk_132 2 1 (dk_at dksX4_forget_1 15 rfl rfl)
theorem dX4_forget_41 : decode cX4_forget 41 = .ok (.goto (-23), 3) := dk_167 255 233 (dk_at dksX4_forget_1 18 rfl rfl)
theorem dX4_forget_44 : decode cX4_forget 44 = .ok (.aload_n 0, 1) := dk_42 (dk_at dksX4_forget_1 21 rfl rfl)
theorem dX4_forget_45 : decode cX4_forget 45 = .ok (.getfield 9, 3) := dk_180 0 9 (dk_at dksX4_forget_2 0 rfl rfl)
theorem dX4_forget_48 : decode cX4_forget 48 = .ok (.sipush 205, 3) := dk_17 0 205 (dk_at dksX4_forget_2 3 rfl rfl)
theorem dX4_forget_51 : decode cX4_forget 51 = .ok (.dup2, 1) := dk_92 (dk_at dksX4_forget_2 6 rfl rfl)
theorem dX4_forget_52 : decode cX4_forget 52 = .ok (.iaload, 1) := dk_46 (dk_at dksX4_forget_2 7 rfl rfl)
theorem dX4_forget_53 : decode cX4_forget 53 = .ok (.iconst 1, 1) := dk_4 (dk_at dksX4_forget_2 8 rfl rfl)
theorem dX4_forget_54 : decode cX4_forget 54 = .ok (.isub, 1) := dk_100 (dk_at dksX4_forget_2 9 rfl rfl)
theorem dX4_forget_55 : decode cX4_forget 55 = .ok (.iastore, 1) := dk_79 (dk_at dksX4_forget_2 10 rfl rfl)
theorem dX4_forget_56 : decode cX4_forget 56 = .ok (.aload_n 0, 1) := dk_42 (dk_at dksX4_forget_2 11 rfl rfl)
theorem dX4_forget_57 : decode cX4_forget 57 = .ok (.getfield 9, 3) := dk_180 0 9 (dk_at dksX4_forget_2 12 rfl rfl)
theorem dX4_forget_60 : decode cX4_forget 60 = .ok (.sipush 205, 3) := dk_17 0 205 (dk_at dksX4_forget_2 15 rfl rfl)
theorem dX4_forget_63 : decode cX4_forget 63 = .ok (.iaload, 1) := dk_46 (dk_at dksX4_forget_2 18 rfl rfl)
theorem dX4_forget_64 : decode cX4_forget 64 = .ok (.ireturn, 1) := dk_172 (dk_at dksX4_forget_2 19 rfl rfl)
abbrev cX4_isEntry : ByteArray := prog_21_method_94_code
def yX4_isEntry : MethodName := ⟨RX4, "isEntry", "(I)Z"⟩
def dkwX4_isEntry_1 : List UInt8 := [153, 0, 7, 4, 167, 0, 4, 3, 172]
abbrev dktX4_isEntry_1 : List UInt8 := dkwX4_isEntry_1 ++ []
def dkwX4_isEntry_0 : List UInt8 := [42, 180, 0, 194, 153, 0, 27, 27, 133, 9, 42, 180, 0, 9, 17, 0, 205, 46, 4, 100, 133, 184, 0, 75]
abbrev dktX4_isEntry_0 : List UInt8 := dkwX4_isEntry_0 ++ dktX4_isEntry_1
theorem dksX4_isEntry_0 : cX4_isEntry.data.toList.drop 0 = dktX4_isEntry_0 := by decide +kernel
theorem dksX4_isEntry_1 : cX4_isEntry.data.toList.drop 24 = dktX4_isEntry_1 := dk_seg dksX4_isEntry_0 24 rfl rfl
theorem dX4_isEntry_0 : decode cX4_isEntry 0 = .ok (.aload_n 0, 1) := dk_42 (dk_at dksX4_isEntry_0 0 rfl rfl)
theorem dX4_isEntry_1 : decode cX4_isEntry 1 = .ok (.getfield 194, 3) := dk_180 0 194 (dk_at dksX4_isEntry_0 1 rfl rfl)
theorem dX4_isEntry_4 : decode cX4_isEntry 4 = .ok (.ifCond .eq 27, 3) := dk_153 0 27 (dk_at dksX4_isEntry_0 4 rfl rfl)
theorem dX4_isEntry_7 : decode cX4_isEntry 7 = .ok (.iload_n 1, 1) := dk_27 (dk_at dksX4_isEntry_0 7 rfl rfl)
theorem dX4_isEntry_8 : decode cX4_isEntry 8 = .ok (.i2l, 1) := dk_133 (dk_at dksX4_isEntry_0 8 rfl rfl)
theorem dX4_isEntry_9 : decode cX4_isEntry 9 = .ok (.lconst 0, 1) := dk_9 (dk_at dksX4_isEntry_0 9 rfl rfl)
theorem dX4_isEntry_10 : decode cX4_isEntry 10 = .ok (.aload_n 0, 1) := dk_42 (dk_at dksX4_isEntry_0 10 rfl rfl)
theorem dX4_isEntry_11 : decode cX4_isEntry 11 = .ok (.getfield 9, 3) := dk_180 0 9 (dk_at dksX4_isEntry_0 11 rfl rfl)
theorem dX4_isEntry_14 : decode cX4_isEntry 14 = .ok (.sipush 205, 3) := dk_17 0 205 (dk_at dksX4_isEntry_0 14 rfl rfl)
theorem dX4_isEntry_17 : decode cX4_isEntry 17 = .ok (.iaload, 1) := dk_46 (dk_at dksX4_isEntry_0 17 rfl rfl)
theorem dX4_isEntry_18 : decode cX4_isEntry 18 = .ok (.iconst 1, 1) := dk_4 (dk_at dksX4_isEntry_0 18 rfl rfl)
theorem dX4_isEntry_19 : decode cX4_isEntry 19 = .ok (.isub, 1) := dk_100 (dk_at dksX4_isEntry_0 19 rfl rfl)
theorem dX4_isEntry_20 : decode cX4_isEntry 20 = .ok (.i2l, 1) := dk_133 (dk_at dksX4_isEntry_0 20 rfl rfl)
theorem dX4_isEntry_21 : decode cX4_isEntry 21 = .ok (.invokestatic 75, 3) := dk_184 0 75 (dk_at dksX4_isEntry_0 21 rfl rfl)
theorem dX4_isEntry_24 : decode cX4_isEntry 24 = .ok (.ifCond .eq 7, 3) := dk_153 0 7 (dk_at dksX4_isEntry_1 0 rfl rfl)
theorem dX4_isEntry_27 : decode cX4_isEntry 27 = .ok (.iconst 1, 1) := dk_4 (dk_at dksX4_isEntry_1 3 rfl rfl)
theorem dX4_isEntry_28 : decode cX4_isEntry 28 = .ok (.goto 4, 3) := dk_167 0 4 (dk_at dksX4_isEntry_1 4 rfl rfl)
theorem dX4_isEntry_31 : decode cX4_isEntry 31 = .ok (.iconst 0, 1) := dk_3 (dk_at dksX4_isEntry_1 7 rfl rfl)
theorem dX4_isEntry_32 : decode cX4_isEntry 32 = .ok (.ireturn, 1) := dk_172 (dk_at dksX4_isEntry_1 8 rfl rfl)
abbrev cX4_memoryCount : ByteArray := prog_21_method_100_code
def yX4_memoryCount : MethodName := ⟨RX4, "memoryCount", "()I"⟩
def dkwX4_memoryCount_0 : List UInt8 := [42, 180, 0, 194, 153, 0, 14, 42, 180, 0, 9, 17, 0, 205, 46, 167, 0, 4, 2, 172]
abbrev dktX4_memoryCount_0 : List UInt8 := dkwX4_memoryCount_0 ++ []
theorem dksX4_memoryCount_0 : cX4_memoryCount.data.toList.drop 0 = dktX4_memoryCount_0 := by decide +kernel
theorem dX4_memoryCount_0 : decode cX4_memoryCount 0 = .ok (.aload_n 0, 1) := dk_42 (dk_at dksX4_memoryCount_0 0 rfl rfl)
theorem dX4_memoryCount_1 : decode cX4_memoryCount 1 = .ok (.getfield 194, 3) := dk_180 0 194 (dk_at dksX4_memoryCount_0 1 rfl rfl)
theorem dX4_memoryCount_4 : decode cX4_memoryCount 4 = .ok (.ifCond .eq 14, 3) := dk_153 0 14 (dk_at dksX4_memoryCount_0 4 rfl rfl)
theorem dX4_memoryCount_7 : decode cX4_memoryCount 7 = .ok (.aload_n 0, 1) := dk_42 (dk_at dksX4_memoryCount_0 7 rfl rfl)
theorem dX4_memoryCount_8 : decode cX4_memoryCount 8 = .ok (.getfield 9, 3) := dk_180 0 9 (dk_at dksX4_memoryCount_0 8 rfl rfl)
theorem dX4_memoryCount_11 : decode cX4_memoryCount 11 = .ok (.sipush 205, 3) := dk_17 0 205 (dk_at dksX4_memoryCount_0 11 rfl rfl)
theorem dX4_memoryCount_14 : decode cX4_memoryCount 14 = .ok (.iaload, 1) := dk_46 (dk_at dksX4_memoryCount_0 14 rfl rfl)
theorem dX4_memoryCount_15 : decode cX4_memoryCount 15 = .ok (.goto 4, 3) := dk_167 0 4 (dk_at dksX4_memoryCount_0 15 rfl rfl)
theorem dX4_memoryCount_18 : decode cX4_memoryCount 18 = .ok (.iconst (-1), 1) := dk_2 (dk_at dksX4_memoryCount_0 18 rfl rfl)
theorem dX4_memoryCount_19 : decode cX4_memoryCount 19 = .ok (.ireturn, 1) := dk_172 (dk_at dksX4_memoryCount_0 19 rfl rfl)
abbrev cX4_memoryFrequency : ByteArray := prog_21_method_101_code
def yX4_memoryFrequency : MethodName := ⟨RX4, "memoryFrequency", "(I)I"⟩
def dkwX4_memoryFrequency_0 : List UInt8 := [42, 27, 182, 1, 148, 153, 0, 16, 42, 180, 0, 9, 17, 0, 206, 27, 96, 46, 167, 0, 4, 2, 172]
abbrev dktX4_memoryFrequency_0 : List UInt8 := dkwX4_memoryFrequency_0 ++ []
theorem dksX4_memoryFrequency_0 : cX4_memoryFrequency.data.toList.drop 0 = dktX4_memoryFrequency_0 := by decide +kernel
theorem dX4_memoryFrequency_0 : decode cX4_memoryFrequency 0 = .ok (.aload_n 0, 1) := dk_42 (dk_at dksX4_memoryFrequency_0 0 rfl rfl)
theorem dX4_memoryFrequency_1 : decode cX4_memoryFrequency 1 = .ok (.iload_n 1, 1) := dk_27 (dk_at dksX4_memoryFrequency_0 1 rfl rfl)
theorem dX4_memoryFrequency_2 : decode cX4_memoryFrequency 2 = .ok (.invokevirtual 404, 3) := dk_182 1 148 (dk_at dksX4_memoryFrequency_0 2 rfl rfl)
theorem dX4_memoryFrequency_5 : decode cX4_memoryFrequency 5 = .ok (.ifCond .eq 16, 3) := dk_153 0 16 (dk_at dksX4_memoryFrequency_0 5 rfl rfl)
theorem dX4_memoryFrequency_8 : decode cX4_memoryFrequency 8 = .ok (.aload_n 0, 1) := dk_42 (dk_at dksX4_memoryFrequency_0 8 rfl rfl)
theorem dX4_memoryFrequency_9 : decode cX4_memoryFrequency 9 = .ok (.getfield 9, 3) := dk_180 0 9 (dk_at dksX4_memoryFrequency_0 9 rfl rfl)
theorem dX4_memoryFrequency_12 : decode cX4_memoryFrequency 12 = .ok (.sipush 206, 3) := dk_17 0 206 (dk_at dksX4_memoryFrequency_0 12 rfl rfl)
theorem dX4_memoryFrequency_15 : decode cX4_memoryFrequency 15 = .ok (.iload_n 1, 1) := dk_27 (dk_at dksX4_memoryFrequency_0 15 rfl rfl)
theorem dX4_memoryFrequency_16 : decode cX4_memoryFrequency 16 = .ok (.iadd, 1) := dk_96 (dk_at dksX4_memoryFrequency_0 16 rfl rfl)
theorem dX4_memoryFrequency_17 : decode cX4_memoryFrequency 17 = .ok (.iaload, 1) := dk_46 (dk_at dksX4_memoryFrequency_0 17 rfl rfl)
theorem dX4_memoryFrequency_18 : decode cX4_memoryFrequency 18 = .ok (.goto 4, 3) := dk_167 0 4 (dk_at dksX4_memoryFrequency_0 18 rfl rfl)
theorem dX4_memoryFrequency_21 : decode cX4_memoryFrequency 21 = .ok (.iconst (-1), 1) := dk_2 (dk_at dksX4_memoryFrequency_0 21 rfl rfl)
theorem dX4_memoryFrequency_22 : decode cX4_memoryFrequency 22 = .ok (.ireturn, 1) := dk_172 (dk_at dksX4_memoryFrequency_0 22 rfl rfl)
abbrev cX4_memorySettings : ByteArray := prog_21_method_102_code
def yX4_memorySettings : MethodName := ⟨RX4, "memorySettings", "(I)I"⟩
def dkwX4_memorySettings_0 : List UInt8 := [42, 27, 182, 1, 148, 153, 0, 16, 42, 180, 0, 9, 17, 0, 222, 27, 96, 46, 167, 0, 4, 2, 172]
abbrev dktX4_memorySettings_0 : List UInt8 := dkwX4_memorySettings_0 ++ []
theorem dksX4_memorySettings_0 : cX4_memorySettings.data.toList.drop 0 = dktX4_memorySettings_0 := by decide +kernel
theorem dX4_memorySettings_0 : decode cX4_memorySettings 0 = .ok (.aload_n 0, 1) := dk_42 (dk_at dksX4_memorySettings_0 0 rfl rfl)
theorem dX4_memorySettings_1 : decode cX4_memorySettings 1 = .ok (.iload_n 1, 1) := dk_27 (dk_at dksX4_memorySettings_0 1 rfl rfl)
theorem dX4_memorySettings_2 : decode cX4_memorySettings 2 = .ok (.invokevirtual 404, 3) := dk_182 1 148 (dk_at dksX4_memorySettings_0 2 rfl rfl)
theorem dX4_memorySettings_5 : decode cX4_memorySettings 5 = .ok (.ifCond .eq 16, 3) := dk_153 0 16 (dk_at dksX4_memorySettings_0 5 rfl rfl)
theorem dX4_memorySettings_8 : decode cX4_memorySettings 8 = .ok (.aload_n 0, 1) := dk_42 (dk_at dksX4_memorySettings_0 8 rfl rfl)
theorem dX4_memorySettings_9 : decode cX4_memorySettings 9 = .ok (.getfield 9, 3) := dk_180 0 9 (dk_at dksX4_memorySettings_0 9 rfl rfl)
theorem dX4_memorySettings_12 : decode cX4_memorySettings 12 = .ok (.sipush 222, 3) := dk_17 0 222 (dk_at dksX4_memorySettings_0 12 rfl rfl)
theorem dX4_memorySettings_15 : decode cX4_memorySettings 15 = .ok (.iload_n 1, 1) := dk_27 (dk_at dksX4_memorySettings_0 15 rfl rfl)
theorem dX4_memorySettings_16 : decode cX4_memorySettings 16 = .ok (.iadd, 1) := dk_96 (dk_at dksX4_memorySettings_0 16 rfl rfl)
theorem dX4_memorySettings_17 : decode cX4_memorySettings 17 = .ok (.iaload, 1) := dk_46 (dk_at dksX4_memorySettings_0 17 rfl rfl)
theorem dX4_memorySettings_18 : decode cX4_memorySettings 18 = .ok (.goto 4, 3) := dk_167 0 4 (dk_at dksX4_memorySettings_0 18 rfl rfl)
theorem dX4_memorySettings_21 : decode cX4_memorySettings 21 = .ok (.iconst (-1), 1) := dk_2 (dk_at dksX4_memorySettings_0 21 rfl rfl)
theorem dX4_memorySettings_22 : decode cX4_memorySettings 22 = .ok (.ireturn, 1) := dk_172 (dk_at dksX4_memorySettings_0 22 rfl rfl)
abbrev cX4_memorySwr : ByteArray := prog_21_method_103_code
def yX4_memorySwr : MethodName := ⟨RX4, "memorySwr", "(I)I"⟩
def dkwX4_memorySwr_0 : List UInt8 := [42, 27, 182, 1, 148, 153, 0, 16, 42, 180, 0, 9, 17, 0, 238, 27, 96, 46, 167, 0, 4, 2, 172]
abbrev dktX4_memorySwr_0 : List UInt8 := dkwX4_memorySwr_0 ++ []
theorem dksX4_memorySwr_0 : cX4_memorySwr.data.toList.drop 0 = dktX4_memorySwr_0 := by decide +kernel
theorem dX4_memorySwr_0 : decode cX4_memorySwr 0 = .ok (.aload_n 0, 1) := dk_42 (dk_at dksX4_memorySwr_0 0 rfl rfl)
theorem dX4_memorySwr_1 : decode cX4_memorySwr 1 = .ok (.iload_n 1, 1) := dk_27 (dk_at dksX4_memorySwr_0 1 rfl rfl)
theorem dX4_memorySwr_2 : decode cX4_memorySwr 2 = .ok (.invokevirtual 404, 3) := dk_182 1 148 (dk_at dksX4_memorySwr_0 2 rfl rfl)
theorem dX4_memorySwr_5 : decode cX4_memorySwr 5 = .ok (.ifCond .eq 16, 3) := dk_153 0 16 (dk_at dksX4_memorySwr_0 5 rfl rfl)
theorem dX4_memorySwr_8 : decode cX4_memorySwr 8 = .ok (.aload_n 0, 1) := dk_42 (dk_at dksX4_memorySwr_0 8 rfl rfl)
theorem dX4_memorySwr_9 : decode cX4_memorySwr 9 = .ok (.getfield 9, 3) := dk_180 0 9 (dk_at dksX4_memorySwr_0 9 rfl rfl)
theorem dX4_memorySwr_12 : decode cX4_memorySwr 12 = .ok (.sipush 238, 3) := dk_17 0 238 (dk_at dksX4_memorySwr_0 12 rfl rfl)
theorem dX4_memorySwr_15 : decode cX4_memorySwr 15 = .ok (.iload_n 1, 1) := dk_27 (dk_at dksX4_memorySwr_0 15 rfl rfl)
theorem dX4_memorySwr_16 : decode cX4_memorySwr 16 = .ok (.iadd, 1) := dk_96 (dk_at dksX4_memorySwr_0 16 rfl rfl)
theorem dX4_memorySwr_17 : decode cX4_memorySwr 17 = .ok (.iaload, 1) := dk_46 (dk_at dksX4_memorySwr_0 17 rfl rfl)
theorem dX4_memorySwr_18 : decode cX4_memorySwr 18 = .ok (.goto 4, 3) := dk_167 0 4 (dk_at dksX4_memorySwr_0 18 rfl rfl)
theorem dX4_memorySwr_21 : decode cX4_memorySwr 21 = .ok (.iconst (-1), 1) := dk_2 (dk_at dksX4_memorySwr_0 21 rfl rfl)
theorem dX4_memorySwr_22 : decode cX4_memorySwr 22 = .ok (.ireturn, 1) := dk_172 (dk_at dksX4_memorySwr_0 22 rfl rfl)
theorem q101 : (Jvm.Cond.initialized "AntennaTunerModel") ∈ lw_all := lw_g (lw_at lw_m1 8 rfl) rfl
theorem q995 : (Jvm.Cond.selects "AntennaTunerModel" ({ cls := "java/lang/Object", name := "getClass", desc := "()Ljava/lang/Class;" } : Jvm.MethodName) ({ cls := "java/lang/Object", name := "getClass", desc := "()Ljava/lang/Class;" } : Jvm.MethodName)) ∈ lw_all := lw_g (lw_at lw_m4 182 rfl) rfl
theorem q1595 : (Jvm.Cond.instantiable "AntennaTunerModel" (47 : Nat)) ∈ lw_all := lw_g (lw_at lw_m7 62 rfl) rfl
theorem q1597 : (Jvm.Cond.instanceMethod ({ cls := "AntennaTunerModel", name := "<init>", desc := "()V" } : Jvm.MethodName)) ∈ lw_all := lw_g (lw_at lw_m7 64 rfl) rfl
theorem q1598 : (Jvm.Cond.code ({ cls := "AntennaTunerModel", name := "<init>", desc := "()V" } : Jvm.MethodName) prog_21_method_1_code (1 : Nat) (Option.none : Option Jvm.ClassFile.FieldType)) ∈ lw_all := lw_g (lw_at lw_m7 65 rfl) rfl
theorem q1599 : (Jvm.Cond.methodLink "AntennaTunerModel" (3 : Nat) ({ cls := "java/lang/Object", name := "<init>", desc := "()V" } : Jvm.MethodName)) ∈ lw_all := lw_g (lw_at lw_m7 66 rfl) rfl
theorem q1600 : (Jvm.Cond.fieldLink "AntennaTunerModel" (9 : Nat) "AntennaTunerModel" "state" "[I") ∈ lw_all := lw_g (lw_at lw_m7 67 rfl) rfl
theorem q1601 : (Jvm.Cond.fieldLink "AntennaTunerModel" (15 : Nat) "AntennaTunerModel" "past" "[I") ∈ lw_all := lw_g (lw_at lw_m7 68 rfl) rfl
theorem q1602 : (Jvm.Cond.fieldLink "AntennaTunerModel" (219 : Nat) "AntennaTunerModel" "actions" "I") ∈ lw_all := lw_g (lw_at lw_m7 69 rfl) rfl
theorem q1603 : (Jvm.Cond.fieldLink "AntennaTunerModel" (194 : Nat) "AntennaTunerModel" "isLoaded" "Z") ∈ lw_all := lw_g (lw_at lw_m7 70 rfl) rfl
theorem q1604 : (Jvm.Cond.fieldLink "AntennaTunerModel" (198 : Nat) "AntennaTunerModel" "firstCoil" "I") ∈ lw_all := lw_g (lw_at lw_m7 71 rfl) rfl
theorem q1605 : (Jvm.Cond.fieldLink "AntennaTunerModel" (201 : Nat) "AntennaTunerModel" "quality" "I") ∈ lw_all := lw_g (lw_at lw_m7 72 rfl) rfl
theorem q1606 : (Jvm.Cond.fieldLink "AntennaTunerModel" (204 : Nat) "AntennaTunerModel" "firstCapacitor" "I") ∈ lw_all := lw_g (lw_at lw_m7 73 rfl) rfl
theorem q1607 : (Jvm.Cond.fieldLink "AntennaTunerModel" (207 : Nat) "AntennaTunerModel" "power" "I") ∈ lw_all := lw_g (lw_at lw_m7 74 rfl) rfl
theorem q1608 : (Jvm.Cond.fieldLink "AntennaTunerModel" (210 : Nat) "AntennaTunerModel" "standing" "I") ∈ lw_all := lw_g (lw_at lw_m7 75 rfl) rfl
theorem q1609 : (Jvm.Cond.fieldLink "AntennaTunerModel" (213 : Nat) "AntennaTunerModel" "allowed" "I") ∈ lw_all := lw_g (lw_at lw_m7 76 rfl) rfl
theorem q1610 : (Jvm.Cond.fieldLink "AntennaTunerModel" (191 : Nat) "AntennaTunerModel" "points" "I") ∈ lw_all := lw_g (lw_at lw_m7 77 rfl) rfl
theorem q1611 : (Jvm.Cond.fieldLink "AntennaTunerModel" (18 : Nat) "AntennaTunerModel" "pointFrequency" "[I") ∈ lw_all := lw_g (lw_at lw_m7 78 rfl) rfl
theorem q1612 : (Jvm.Cond.fieldLink "AntennaTunerModel" (21 : Nat) "AntennaTunerModel" "pointResistance" "[I") ∈ lw_all := lw_g (lw_at lw_m7 79 rfl) rfl
theorem q1613 : (Jvm.Cond.fieldLink "AntennaTunerModel" (24 : Nat) "AntennaTunerModel" "pointReactance" "[I") ∈ lw_all := lw_g (lw_at lw_m7 80 rfl) rfl
theorem q1614 : (Jvm.Cond.fieldLink "AntennaTunerModel" (216 : Nat) "AntennaTunerModel" "bands" "I") ∈ lw_all := lw_g (lw_at lw_m7 81 rfl) rfl
theorem q1615 : (Jvm.Cond.fieldLink "AntennaTunerModel" (27 : Nat) "AntennaTunerModel" "bandLow" "[I") ∈ lw_all := lw_g (lw_at lw_m7 82 rfl) rfl
theorem q1616 : (Jvm.Cond.fieldLink "AntennaTunerModel" (30 : Nat) "AntennaTunerModel" "bandHigh" "[I") ∈ lw_all := lw_g (lw_at lw_m7 83 rfl) rfl
theorem q1617 : (Jvm.Cond.fieldLink "AntennaTunerModel" (33 : Nat) "AntennaTunerModel" "buffer" "[I") ∈ lw_all := lw_g (lw_at lw_m7 84 rfl) rfl
theorem q1618 : (Jvm.Cond.fieldLink "AntennaTunerModel" (68 : Nat) "AntennaTunerModel" "buffered" "I") ∈ lw_all := lw_g (lw_at lw_m7 85 rfl) rfl
theorem q1619 : (Jvm.Cond.fieldLink "AntennaTunerModel" (79 : Nat) "AntennaTunerModel" "size" "I") ∈ lw_all := lw_g (lw_at lw_m7 86 rfl) rfl
theorem q1620 : (Jvm.Cond.fieldLink "AntennaTunerModel" (94 : Nat) "AntennaTunerModel" "at" "I") ∈ lw_all := lw_g (lw_at lw_m7 87 rfl) rfl
theorem q1621 : (Jvm.Cond.fieldLink "AntennaTunerModel" (116 : Nat) "AntennaTunerModel" "start" "I") ∈ lw_all := lw_g (lw_at lw_m7 88 rfl) rfl
theorem q1622 : (Jvm.Cond.fieldLink "AntennaTunerModel" (106 : Nat) "AntennaTunerModel" "token" "I") ∈ lw_all := lw_g (lw_at lw_m7 89 rfl) rfl
theorem q1623 : (Jvm.Cond.fieldLink "AntennaTunerModel" (97 : Nat) "AntennaTunerModel" "number" "I") ∈ lw_all := lw_g (lw_at lw_m7 90 rfl) rfl
theorem q1624 : (Jvm.Cond.fieldLink "AntennaTunerModel" (109 : Nat) "AntennaTunerModel" "errorCode" "I") ∈ lw_all := lw_g (lw_at lw_m7 91 rfl) rfl
theorem q1625 : (Jvm.Cond.fieldLink "AntennaTunerModel" (36 : Nat) "AntennaTunerModel" "errorAt" "I") ∈ lw_all := lw_g (lw_at lw_m7 92 rfl) rfl
theorem q1626 : (Jvm.Cond.fieldLink "AntennaTunerModel" (40 : Nat) "AntennaTunerModel" "head" "[I") ∈ lw_all := lw_g (lw_at lw_m7 93 rfl) rfl
theorem q1627 : (Jvm.Cond.fieldLink "AntennaTunerModel" (168 : Nat) "AntennaTunerModel" "draftPoints" "I") ∈ lw_all := lw_g (lw_at lw_m7 94 rfl) rfl
theorem q1628 : (Jvm.Cond.fieldLink "AntennaTunerModel" (43 : Nat) "AntennaTunerModel" "draftFrequency" "[I") ∈ lw_all := lw_g (lw_at lw_m7 95 rfl) rfl
theorem q1629 : (Jvm.Cond.fieldLink "AntennaTunerModel" (46 : Nat) "AntennaTunerModel" "draftResistance" "[I") ∈ lw_all := lw_g (lw_at lw_m7 96 rfl) rfl
theorem q1630 : (Jvm.Cond.fieldLink "AntennaTunerModel" (49 : Nat) "AntennaTunerModel" "draftReactance" "[I") ∈ lw_all := lw_g (lw_at lw_m7 97 rfl) rfl
theorem q1631 : (Jvm.Cond.fieldLink "AntennaTunerModel" (173 : Nat) "AntennaTunerModel" "draftBands" "I") ∈ lw_all := lw_g (lw_at lw_m7 98 rfl) rfl
theorem q1632 : (Jvm.Cond.fieldLink "AntennaTunerModel" (52 : Nat) "AntennaTunerModel" "draftLow" "[I") ∈ lw_all := lw_g (lw_at lw_m7 99 rfl) rfl
theorem q1633 : (Jvm.Cond.fieldLink "AntennaTunerModel" (55 : Nat) "AntennaTunerModel" "draftHigh" "[I") ∈ lw_all := lw_g (lw_at lw_m7 100 rfl) rfl
theorem q1634 : (Jvm.Cond.fieldLink "AntennaTunerModel" (291 : Nat) "AntennaTunerModel" "r" "J") ∈ lw_all := lw_g (lw_at lw_m7 101 rfl) rfl
theorem q1635 : (Jvm.Cond.fieldLink "AntennaTunerModel" (294 : Nat) "AntennaTunerModel" "x" "J") ∈ lw_all := lw_g (lw_at lw_m7 102 rfl) rfl
theorem q1636 : (Jvm.Cond.fieldLink "AntennaTunerModel" (312 : Nat) "AntennaTunerModel" "loadedR" "J") ∈ lw_all := lw_g (lw_at lw_m7 103 rfl) rfl
theorem q1637 : (Jvm.Cond.fieldLink "AntennaTunerModel" (315 : Nat) "AntennaTunerModel" "loadedX" "J") ∈ lw_all := lw_g (lw_at lw_m7 104 rfl) rfl
theorem q1638 : (Jvm.Cond.fieldLink "AntennaTunerModel" (287 : Nat) "AntennaTunerModel" "loss" "J") ∈ lw_all := lw_g (lw_at lw_m7 105 rfl) rfl
theorem q1639 : (Jvm.Cond.fieldLink "AntennaTunerModel" (225 : Nat) "AntennaTunerModel" "evaluated" "I") ∈ lw_all := lw_g (lw_at lw_m7 106 rfl) rfl
theorem q1640 : (Jvm.Cond.fieldLink "AntennaTunerModel" (372 : Nat) "AntennaTunerModel" "found" "I") ∈ lw_all := lw_g (lw_at lw_m7 107 rfl) rfl
theorem q1641 : (Jvm.Cond.fieldLink "AntennaTunerModel" (375 : Nat) "AntennaTunerModel" "foundRatio" "I") ∈ lw_all := lw_g (lw_at lw_m7 108 rfl) rfl
theorem q1642 : (Jvm.Cond.fieldLink "AntennaTunerModel" (366 : Nat) "AntennaTunerModel" "candidate" "I") ∈ lw_all := lw_g (lw_at lw_m7 109 rfl) rfl
theorem q1643 : (Jvm.Cond.fieldLink "AntennaTunerModel" (369 : Nat) "AntennaTunerModel" "candidateRatio" "I") ∈ lw_all := lw_g (lw_at lw_m7 110 rfl) rfl
theorem q1644 : (Jvm.Cond.fieldLink "AntennaTunerModel" (222 : Nat) "AntennaTunerModel" "links" "I") ∈ lw_all := lw_g (lw_at lw_m7 111 rfl) rfl
theorem q1645 : (Jvm.Cond.fieldLink "AntennaTunerModel" (58 : Nat) "AntennaTunerModel" "kind" "[I") ∈ lw_all := lw_g (lw_at lw_m7 112 rfl) rfl
theorem q1646 : (Jvm.Cond.fieldLink "AntennaTunerModel" (61 : Nat) "AntennaTunerModel" "value" "[I") ∈ lw_all := lw_g (lw_at lw_m7 113 rfl) rfl
theorem q1647 : (Jvm.Cond.laysFinal "AntennaTunerModel" "AntennaTunerModel" "state" "[I") ∈ lw_all := lw_g (lw_at lw_m7 114 rfl) rfl
theorem q1648 : (Jvm.Cond.soleField "AntennaTunerModel" "state") ∈ lw_all := lw_g (lw_at lw_m7 115 rfl) rfl
theorem q1649 : (Jvm.Cond.laysFinal "AntennaTunerModel" "AntennaTunerModel" "past" "[I") ∈ lw_all := lw_g (lw_at lw_m7 116 rfl) rfl
theorem q1650 : (Jvm.Cond.soleField "AntennaTunerModel" "past") ∈ lw_all := lw_g (lw_at lw_m7 117 rfl) rfl
theorem q1651 : (Jvm.Cond.lays "AntennaTunerModel" "AntennaTunerModel" "actions" "I") ∈ lw_all := lw_g (lw_at lw_m7 118 rfl) rfl
theorem q1652 : (Jvm.Cond.soleField "AntennaTunerModel" "actions") ∈ lw_all := lw_g (lw_at lw_m7 119 rfl) rfl
theorem q1653 : (Jvm.Cond.lays "AntennaTunerModel" "AntennaTunerModel" "isLoaded" "Z") ∈ lw_all := lw_g (lw_at lw_m7 120 rfl) rfl
theorem q1654 : (Jvm.Cond.soleField "AntennaTunerModel" "isLoaded") ∈ lw_all := lw_g (lw_at lw_m7 121 rfl) rfl
theorem q1655 : (Jvm.Cond.lays "AntennaTunerModel" "AntennaTunerModel" "firstCoil" "I") ∈ lw_all := lw_g (lw_at lw_m7 122 rfl) rfl
theorem q1656 : (Jvm.Cond.soleField "AntennaTunerModel" "firstCoil") ∈ lw_all := lw_g (lw_at lw_m7 123 rfl) rfl
theorem q1657 : (Jvm.Cond.lays "AntennaTunerModel" "AntennaTunerModel" "quality" "I") ∈ lw_all := lw_g (lw_at lw_m7 124 rfl) rfl
theorem q1658 : (Jvm.Cond.soleField "AntennaTunerModel" "quality") ∈ lw_all := lw_g (lw_at lw_m7 125 rfl) rfl
theorem q1659 : (Jvm.Cond.lays "AntennaTunerModel" "AntennaTunerModel" "firstCapacitor" "I") ∈ lw_all := lw_g (lw_at lw_m7 126 rfl) rfl
theorem q1660 : (Jvm.Cond.soleField "AntennaTunerModel" "firstCapacitor") ∈ lw_all := lw_g (lw_at lw_m7 127 rfl) rfl
theorem q1661 : (Jvm.Cond.lays "AntennaTunerModel" "AntennaTunerModel" "power" "I") ∈ lw_all := lw_g (lw_at lw_m7 128 rfl) rfl
theorem q1662 : (Jvm.Cond.soleField "AntennaTunerModel" "power") ∈ lw_all := lw_g (lw_at lw_m7 129 rfl) rfl
theorem q1663 : (Jvm.Cond.lays "AntennaTunerModel" "AntennaTunerModel" "standing" "I") ∈ lw_all := lw_g (lw_at lw_m7 130 rfl) rfl
theorem q1664 : (Jvm.Cond.soleField "AntennaTunerModel" "standing") ∈ lw_all := lw_g (lw_at lw_m7 131 rfl) rfl
theorem q1665 : (Jvm.Cond.lays "AntennaTunerModel" "AntennaTunerModel" "allowed" "I") ∈ lw_all := lw_g (lw_at lw_m7 132 rfl) rfl
theorem q1666 : (Jvm.Cond.soleField "AntennaTunerModel" "allowed") ∈ lw_all := lw_g (lw_at lw_m7 133 rfl) rfl
theorem q1667 : (Jvm.Cond.lays "AntennaTunerModel" "AntennaTunerModel" "points" "I") ∈ lw_all := lw_g (lw_at lw_m7 134 rfl) rfl
theorem q1668 : (Jvm.Cond.soleField "AntennaTunerModel" "points") ∈ lw_all := lw_g (lw_at lw_m7 135 rfl) rfl
theorem q1669 : (Jvm.Cond.laysFinal "AntennaTunerModel" "AntennaTunerModel" "pointFrequency" "[I") ∈ lw_all := lw_g (lw_at lw_m7 136 rfl) rfl
theorem q1670 : (Jvm.Cond.soleField "AntennaTunerModel" "pointFrequency") ∈ lw_all := lw_g (lw_at lw_m7 137 rfl) rfl
theorem q1671 : (Jvm.Cond.laysFinal "AntennaTunerModel" "AntennaTunerModel" "pointResistance" "[I") ∈ lw_all := lw_g (lw_at lw_m7 138 rfl) rfl
theorem q1672 : (Jvm.Cond.soleField "AntennaTunerModel" "pointResistance") ∈ lw_all := lw_g (lw_at lw_m7 139 rfl) rfl
theorem q1673 : (Jvm.Cond.laysFinal "AntennaTunerModel" "AntennaTunerModel" "pointReactance" "[I") ∈ lw_all := lw_g (lw_at lw_m7 140 rfl) rfl
theorem q1674 : (Jvm.Cond.soleField "AntennaTunerModel" "pointReactance") ∈ lw_all := lw_g (lw_at lw_m7 141 rfl) rfl
theorem q1675 : (Jvm.Cond.lays "AntennaTunerModel" "AntennaTunerModel" "bands" "I") ∈ lw_all := lw_g (lw_at lw_m7 142 rfl) rfl
theorem q1676 : (Jvm.Cond.soleField "AntennaTunerModel" "bands") ∈ lw_all := lw_g (lw_at lw_m7 143 rfl) rfl
theorem q1677 : (Jvm.Cond.laysFinal "AntennaTunerModel" "AntennaTunerModel" "bandLow" "[I") ∈ lw_all := lw_g (lw_at lw_m7 144 rfl) rfl
theorem q1678 : (Jvm.Cond.soleField "AntennaTunerModel" "bandLow") ∈ lw_all := lw_g (lw_at lw_m7 145 rfl) rfl
theorem q1679 : (Jvm.Cond.laysFinal "AntennaTunerModel" "AntennaTunerModel" "bandHigh" "[I") ∈ lw_all := lw_g (lw_at lw_m7 146 rfl) rfl
theorem q1680 : (Jvm.Cond.soleField "AntennaTunerModel" "bandHigh") ∈ lw_all := lw_g (lw_at lw_m7 147 rfl) rfl
theorem q1681 : (Jvm.Cond.laysFinal "AntennaTunerModel" "AntennaTunerModel" "buffer" "[I") ∈ lw_all := lw_g (lw_at lw_m7 148 rfl) rfl
theorem q1682 : (Jvm.Cond.soleField "AntennaTunerModel" "buffer") ∈ lw_all := lw_g (lw_at lw_m7 149 rfl) rfl
theorem q1683 : (Jvm.Cond.lays "AntennaTunerModel" "AntennaTunerModel" "buffered" "I") ∈ lw_all := lw_g (lw_at lw_m7 150 rfl) rfl
theorem q1684 : (Jvm.Cond.soleField "AntennaTunerModel" "buffered") ∈ lw_all := lw_g (lw_at lw_m7 151 rfl) rfl
theorem q1685 : (Jvm.Cond.lays "AntennaTunerModel" "AntennaTunerModel" "size" "I") ∈ lw_all := lw_g (lw_at lw_m7 152 rfl) rfl
theorem q1686 : (Jvm.Cond.soleField "AntennaTunerModel" "size") ∈ lw_all := lw_g (lw_at lw_m7 153 rfl) rfl
theorem q1687 : (Jvm.Cond.lays "AntennaTunerModel" "AntennaTunerModel" "at" "I") ∈ lw_all := lw_g (lw_at lw_m7 154 rfl) rfl
theorem q1688 : (Jvm.Cond.soleField "AntennaTunerModel" "at") ∈ lw_all := lw_g (lw_at lw_m7 155 rfl) rfl
theorem q1689 : (Jvm.Cond.lays "AntennaTunerModel" "AntennaTunerModel" "start" "I") ∈ lw_all := lw_g (lw_at lw_m7 156 rfl) rfl
theorem q1690 : (Jvm.Cond.soleField "AntennaTunerModel" "start") ∈ lw_all := lw_g (lw_at lw_m7 157 rfl) rfl
theorem q1691 : (Jvm.Cond.lays "AntennaTunerModel" "AntennaTunerModel" "token" "I") ∈ lw_all := lw_g (lw_at lw_m7 158 rfl) rfl
theorem q1692 : (Jvm.Cond.soleField "AntennaTunerModel" "token") ∈ lw_all := lw_g (lw_at lw_m7 159 rfl) rfl
theorem q1693 : (Jvm.Cond.lays "AntennaTunerModel" "AntennaTunerModel" "number" "I") ∈ lw_all := lw_g (lw_at lw_m7 160 rfl) rfl
theorem q1694 : (Jvm.Cond.soleField "AntennaTunerModel" "number") ∈ lw_all := lw_g (lw_at lw_m7 161 rfl) rfl
theorem q1695 : (Jvm.Cond.lays "AntennaTunerModel" "AntennaTunerModel" "errorCode" "I") ∈ lw_all := lw_g (lw_at lw_m7 162 rfl) rfl
theorem q1696 : (Jvm.Cond.soleField "AntennaTunerModel" "errorCode") ∈ lw_all := lw_g (lw_at lw_m7 163 rfl) rfl
theorem q1697 : (Jvm.Cond.lays "AntennaTunerModel" "AntennaTunerModel" "errorAt" "I") ∈ lw_all := lw_g (lw_at lw_m7 164 rfl) rfl
theorem q1698 : (Jvm.Cond.soleField "AntennaTunerModel" "errorAt") ∈ lw_all := lw_g (lw_at lw_m7 165 rfl) rfl
theorem q1699 : (Jvm.Cond.laysFinal "AntennaTunerModel" "AntennaTunerModel" "head" "[I") ∈ lw_all := lw_g (lw_at lw_m7 166 rfl) rfl
theorem q1700 : (Jvm.Cond.soleField "AntennaTunerModel" "head") ∈ lw_all := lw_g (lw_at lw_m7 167 rfl) rfl
theorem q1701 : (Jvm.Cond.lays "AntennaTunerModel" "AntennaTunerModel" "draftPoints" "I") ∈ lw_all := lw_g (lw_at lw_m7 168 rfl) rfl
theorem q1702 : (Jvm.Cond.soleField "AntennaTunerModel" "draftPoints") ∈ lw_all := lw_g (lw_at lw_m7 169 rfl) rfl
theorem q1703 : (Jvm.Cond.laysFinal "AntennaTunerModel" "AntennaTunerModel" "draftFrequency" "[I") ∈ lw_all := lw_g (lw_at lw_m7 170 rfl) rfl
theorem q1704 : (Jvm.Cond.soleField "AntennaTunerModel" "draftFrequency") ∈ lw_all := lw_g (lw_at lw_m7 171 rfl) rfl
theorem q1705 : (Jvm.Cond.laysFinal "AntennaTunerModel" "AntennaTunerModel" "draftResistance" "[I") ∈ lw_all := lw_g (lw_at lw_m7 172 rfl) rfl
theorem q1706 : (Jvm.Cond.soleField "AntennaTunerModel" "draftResistance") ∈ lw_all := lw_g (lw_at lw_m7 173 rfl) rfl
theorem q1707 : (Jvm.Cond.laysFinal "AntennaTunerModel" "AntennaTunerModel" "draftReactance" "[I") ∈ lw_all := lw_g (lw_at lw_m7 174 rfl) rfl
theorem q1708 : (Jvm.Cond.soleField "AntennaTunerModel" "draftReactance") ∈ lw_all := lw_g (lw_at lw_m7 175 rfl) rfl
theorem q1709 : (Jvm.Cond.lays "AntennaTunerModel" "AntennaTunerModel" "draftBands" "I") ∈ lw_all := lw_g (lw_at lw_m7 176 rfl) rfl
theorem q1710 : (Jvm.Cond.soleField "AntennaTunerModel" "draftBands") ∈ lw_all := lw_g (lw_at lw_m7 177 rfl) rfl
theorem q1711 : (Jvm.Cond.laysFinal "AntennaTunerModel" "AntennaTunerModel" "draftLow" "[I") ∈ lw_all := lw_g (lw_at lw_m7 178 rfl) rfl
theorem q1712 : (Jvm.Cond.soleField "AntennaTunerModel" "draftLow") ∈ lw_all := lw_g (lw_at lw_m7 179 rfl) rfl
theorem q1713 : (Jvm.Cond.laysFinal "AntennaTunerModel" "AntennaTunerModel" "draftHigh" "[I") ∈ lw_all := lw_g (lw_at lw_m7 180 rfl) rfl
theorem q1714 : (Jvm.Cond.soleField "AntennaTunerModel" "draftHigh") ∈ lw_all := lw_g (lw_at lw_m7 181 rfl) rfl
theorem q1715 : (Jvm.Cond.lays "AntennaTunerModel" "AntennaTunerModel" "r" "J") ∈ lw_all := lw_g (lw_at lw_m7 182 rfl) rfl
theorem q1716 : (Jvm.Cond.soleField "AntennaTunerModel" "r") ∈ lw_all := lw_g (lw_at lw_m7 183 rfl) rfl
theorem q1717 : (Jvm.Cond.lays "AntennaTunerModel" "AntennaTunerModel" "x" "J") ∈ lw_all := lw_g (lw_at lw_m7 184 rfl) rfl
theorem q1718 : (Jvm.Cond.soleField "AntennaTunerModel" "x") ∈ lw_all := lw_g (lw_at lw_m7 185 rfl) rfl
theorem q1719 : (Jvm.Cond.lays "AntennaTunerModel" "AntennaTunerModel" "loadedR" "J") ∈ lw_all := lw_g (lw_at lw_m7 186 rfl) rfl
theorem q1720 : (Jvm.Cond.soleField "AntennaTunerModel" "loadedR") ∈ lw_all := lw_g (lw_at lw_m7 187 rfl) rfl
theorem q1721 : (Jvm.Cond.lays "AntennaTunerModel" "AntennaTunerModel" "loadedX" "J") ∈ lw_all := lw_g (lw_at lw_m7 188 rfl) rfl
theorem q1722 : (Jvm.Cond.soleField "AntennaTunerModel" "loadedX") ∈ lw_all := lw_g (lw_at lw_m7 189 rfl) rfl
theorem q1723 : (Jvm.Cond.lays "AntennaTunerModel" "AntennaTunerModel" "loss" "J") ∈ lw_all := lw_g (lw_at lw_m7 190 rfl) rfl
theorem q1724 : (Jvm.Cond.soleField "AntennaTunerModel" "loss") ∈ lw_all := lw_g (lw_at lw_m7 191 rfl) rfl
theorem q1725 : (Jvm.Cond.lays "AntennaTunerModel" "AntennaTunerModel" "evaluated" "I") ∈ lw_all := lw_g (lw_at lw_m7 192 rfl) rfl
theorem q1726 : (Jvm.Cond.soleField "AntennaTunerModel" "evaluated") ∈ lw_all := lw_g (lw_at lw_m7 193 rfl) rfl
theorem q1727 : (Jvm.Cond.lays "AntennaTunerModel" "AntennaTunerModel" "found" "I") ∈ lw_all := lw_g (lw_at lw_m7 194 rfl) rfl
theorem q1728 : (Jvm.Cond.soleField "AntennaTunerModel" "found") ∈ lw_all := lw_g (lw_at lw_m7 195 rfl) rfl
theorem q1729 : (Jvm.Cond.lays "AntennaTunerModel" "AntennaTunerModel" "foundRatio" "I") ∈ lw_all := lw_g (lw_at lw_m7 196 rfl) rfl
theorem q1730 : (Jvm.Cond.soleField "AntennaTunerModel" "foundRatio") ∈ lw_all := lw_g (lw_at lw_m7 197 rfl) rfl
theorem q1731 : (Jvm.Cond.lays "AntennaTunerModel" "AntennaTunerModel" "candidate" "I") ∈ lw_all := lw_g (lw_at lw_m7 198 rfl) rfl
theorem q1732 : (Jvm.Cond.soleField "AntennaTunerModel" "candidate") ∈ lw_all := lw_g (lw_at lw_m7 199 rfl) rfl
theorem q1733 : (Jvm.Cond.lays "AntennaTunerModel" "AntennaTunerModel" "candidateRatio" "I") ∈ lw_all := lw_g (lw_at lw_m7 200 rfl) rfl
theorem q1734 : (Jvm.Cond.soleField "AntennaTunerModel" "candidateRatio") ∈ lw_all := lw_g (lw_at lw_m7 201 rfl) rfl
theorem q1735 : (Jvm.Cond.lays "AntennaTunerModel" "AntennaTunerModel" "links" "I") ∈ lw_all := lw_g (lw_at lw_m7 202 rfl) rfl
theorem q1736 : (Jvm.Cond.soleField "AntennaTunerModel" "links") ∈ lw_all := lw_g (lw_at lw_m7 203 rfl) rfl
theorem q1737 : (Jvm.Cond.laysFinal "AntennaTunerModel" "AntennaTunerModel" "kind" "[I") ∈ lw_all := lw_g (lw_at lw_m7 204 rfl) rfl
theorem q1738 : (Jvm.Cond.soleField "AntennaTunerModel" "kind") ∈ lw_all := lw_g (lw_at lw_m7 205 rfl) rfl
theorem q1739 : (Jvm.Cond.laysFinal "AntennaTunerModel" "AntennaTunerModel" "value" "[I") ∈ lw_all := lw_g (lw_at lw_m7 206 rfl) rfl
theorem q1740 : (Jvm.Cond.soleField "AntennaTunerModel" "value") ∈ lw_all := lw_g (lw_at lw_m7 207 rfl) rfl
theorem q1741 : (Jvm.Cond.superclass "AntennaTunerModel" "java/lang/Object") ∈ lw_all := lw_g (lw_at lw_m7 208 rfl) rfl
theorem q1743 : (Jvm.Cond.instanceMethod ({ cls := "AntennaTunerModel", name := "append", desc := "(IIIII)I" } : Jvm.MethodName)) ∈ lw_all := lw_g (lw_at lw_m7 210 rfl) rfl
theorem q1744 : (Jvm.Cond.selects "AntennaTunerModel" ({ cls := "AntennaTunerModel", name := "append", desc := "(IIIII)I" } : Jvm.MethodName) ({ cls := "AntennaTunerModel", name := "append", desc := "(IIIII)I" } : Jvm.MethodName)) ∈ lw_all := lw_g (lw_at lw_m7 211 rfl) rfl
theorem q1745 : (Jvm.Cond.code ({ cls := "AntennaTunerModel", name := "append", desc := "(IIIII)I" } : Jvm.MethodName) prog_21_method_6_code (6 : Nat) (Option.some Jvm.ClassFile.FieldType.int)) ∈ lw_all := lw_g (lw_at lw_m7 212 rfl) rfl
theorem q1746 : (Jvm.Cond.methodLink "AntennaTunerModel" (71 : Nat) ({ cls := "AntennaTunerModel", name := "put", desc := "(I)V" } : Jvm.MethodName)) ∈ lw_all := lw_g (lw_at lw_m7 213 rfl) rfl
theorem q1747 : (Jvm.Cond.privateMethod ({ cls := "AntennaTunerModel", name := "put", desc := "(I)V" } : Jvm.MethodName)) ∈ lw_tbl := lw_at lw_m7 214 rfl
theorem q1748 : (Jvm.Cond.instanceMethod ({ cls := "AntennaTunerModel", name := "put", desc := "(I)V" } : Jvm.MethodName)) ∈ lw_all := lw_g (lw_at lw_m7 215 rfl) rfl
theorem q1749 : (Jvm.Cond.code ({ cls := "AntennaTunerModel", name := "put", desc := "(I)V" } : Jvm.MethodName) prog_21_method_5_code (3 : Nat) (Option.none : Option Jvm.ClassFile.FieldType)) ∈ lw_all := lw_g (lw_at lw_m7 216 rfl) rfl
theorem q1751 : (Jvm.Cond.instanceMethod ({ cls := "AntennaTunerModel", name := "truncate", desc := "(I)I" } : Jvm.MethodName)) ∈ lw_all := lw_g (lw_at lw_m7 218 rfl) rfl
theorem q1752 : (Jvm.Cond.selects "AntennaTunerModel" ({ cls := "AntennaTunerModel", name := "truncate", desc := "(I)I" } : Jvm.MethodName) ({ cls := "AntennaTunerModel", name := "truncate", desc := "(I)I" } : Jvm.MethodName)) ∈ lw_all := lw_g (lw_at lw_m7 219 rfl) rfl
theorem q1753 : (Jvm.Cond.code ({ cls := "AntennaTunerModel", name := "truncate", desc := "(I)I" } : Jvm.MethodName) prog_21_method_7_code (2 : Nat) (Option.some Jvm.ClassFile.FieldType.int)) ∈ lw_all := lw_g (lw_at lw_m7 220 rfl) rfl
theorem q1754 : (Jvm.Cond.methodLink "AntennaTunerModel" (75 : Nat) ({ cls := "AntennaTunerModel", name := "isIn", desc := "(JJJ)Z" } : Jvm.MethodName)) ∈ lw_all := lw_g (lw_at lw_m7 221 rfl) rfl
theorem q1755 : (Jvm.Cond.static ({ cls := "AntennaTunerModel", name := "isIn", desc := "(JJJ)Z" } : Jvm.MethodName)) ∈ lw_all := lw_g (lw_at lw_m7 222 rfl) rfl
theorem q1756 : (Jvm.Cond.code ({ cls := "AntennaTunerModel", name := "isIn", desc := "(JJJ)Z" } : Jvm.MethodName) prog_21_method_2_code (6 : Nat) (Option.some Jvm.ClassFile.FieldType.boolean)) ∈ lw_all := lw_g (lw_at lw_m7 223 rfl) rfl
theorem q1758 : (Jvm.Cond.instanceMethod ({ cls := "AntennaTunerModel", name := "load", desc := "()I" } : Jvm.MethodName)) ∈ lw_all := lw_g (lw_at lw_m7 225 rfl) rfl
theorem q1759 : (Jvm.Cond.selects "AntennaTunerModel" ({ cls := "AntennaTunerModel", name := "load", desc := "()I" } : Jvm.MethodName) ({ cls := "AntennaTunerModel", name := "load", desc := "()I" } : Jvm.MethodName)) ∈ lw_all := lw_g (lw_at lw_m7 226 rfl) rfl
theorem q1760 : (Jvm.Cond.code ({ cls := "AntennaTunerModel", name := "load", desc := "()I" } : Jvm.MethodName) prog_21_method_24_code (1 : Nat) (Option.some Jvm.ClassFile.FieldType.int)) ∈ lw_all := lw_g (lw_at lw_m7 227 rfl) rfl
theorem q1761 : (Jvm.Cond.methodLink "AntennaTunerModel" (185 : Nat) ({ cls := "AntennaTunerModel", name := "parse", desc := "()V" } : Jvm.MethodName)) ∈ lw_all := lw_g (lw_at lw_m7 228 rfl) rfl
theorem q1762 : (Jvm.Cond.privateMethod ({ cls := "AntennaTunerModel", name := "parse", desc := "()V" } : Jvm.MethodName)) ∈ lw_tbl := lw_at lw_m7 229 rfl
theorem q1763 : (Jvm.Cond.instanceMethod ({ cls := "AntennaTunerModel", name := "parse", desc := "()V" } : Jvm.MethodName)) ∈ lw_all := lw_g (lw_at lw_m7 230 rfl) rfl
theorem q1764 : (Jvm.Cond.code ({ cls := "AntennaTunerModel", name := "parse", desc := "()V" } : Jvm.MethodName) prog_21_method_23_code (1 : Nat) (Option.none : Option Jvm.ClassFile.FieldType)) ∈ lw_all := lw_g (lw_at lw_m7 231 rfl) rfl
theorem q1765 : (Jvm.Cond.methodLink "AntennaTunerModel" (142 : Nat) ({ cls := "AntennaTunerModel", name := "next", desc := "()V" } : Jvm.MethodName)) ∈ lw_all := lw_g (lw_at lw_m7 232 rfl) rfl
theorem q1766 : (Jvm.Cond.privateMethod ({ cls := "AntennaTunerModel", name := "next", desc := "()V" } : Jvm.MethodName)) ∈ lw_tbl := lw_at lw_m7 233 rfl
theorem q1767 : (Jvm.Cond.instanceMethod ({ cls := "AntennaTunerModel", name := "next", desc := "()V" } : Jvm.MethodName)) ∈ lw_all := lw_g (lw_at lw_m7 234 rfl) rfl
theorem q1768 : (Jvm.Cond.code ({ cls := "AntennaTunerModel", name := "next", desc := "()V" } : Jvm.MethodName) prog_21_method_13_code (1 : Nat) (Option.none : Option Jvm.ClassFile.FieldType)) ∈ lw_all := lw_g (lw_at lw_m7 235 rfl) rfl
theorem q1769 : (Jvm.Cond.methodLink "AntennaTunerModel" (112 : Nat) ({ cls := "AntennaTunerModel", name := "isFine", desc := "()Z" } : Jvm.MethodName)) ∈ lw_all := lw_g (lw_at lw_m7 236 rfl) rfl
theorem q1770 : (Jvm.Cond.privateMethod ({ cls := "AntennaTunerModel", name := "isFine", desc := "()Z" } : Jvm.MethodName)) ∈ lw_tbl := lw_at lw_m7 237 rfl
theorem q1771 : (Jvm.Cond.instanceMethod ({ cls := "AntennaTunerModel", name := "isFine", desc := "()Z" } : Jvm.MethodName)) ∈ lw_all := lw_g (lw_at lw_m7 238 rfl) rfl
theorem q1772 : (Jvm.Cond.code ({ cls := "AntennaTunerModel", name := "isFine", desc := "()Z" } : Jvm.MethodName) prog_21_method_12_code (1 : Nat) (Option.some Jvm.ClassFile.FieldType.boolean)) ∈ lw_all := lw_g (lw_at lw_m7 239 rfl) rfl
theorem q1773 : (Jvm.Cond.methodLink "AntennaTunerModel" (82 : Nat) ({ cls := "AntennaTunerModel", name := "byteAt", desc := "(I)I" } : Jvm.MethodName)) ∈ lw_all := lw_g (lw_at lw_m8 0 rfl) rfl
theorem q1774 : (Jvm.Cond.privateMethod ({ cls := "AntennaTunerModel", name := "byteAt", desc := "(I)I" } : Jvm.MethodName)) ∈ lw_tbl := lw_at lw_m8 1 rfl
theorem q1775 : (Jvm.Cond.instanceMethod ({ cls := "AntennaTunerModel", name := "byteAt", desc := "(I)I" } : Jvm.MethodName)) ∈ lw_all := lw_g (lw_at lw_m8 2 rfl) rfl
theorem q1776 : (Jvm.Cond.code ({ cls := "AntennaTunerModel", name := "byteAt", desc := "(I)I" } : Jvm.MethodName) prog_21_method_8_code (2 : Nat) (Option.some Jvm.ClassFile.FieldType.int)) ∈ lw_all := lw_g (lw_at lw_m8 3 rfl) rfl
theorem q1777 : (Jvm.Cond.methodLink "AntennaTunerModel" (119 : Nat) ({ cls := "AntennaTunerModel", name := "isLetterAt", desc := "(I)Z" } : Jvm.MethodName)) ∈ lw_all := lw_g (lw_at lw_m8 4 rfl) rfl
theorem q1778 : (Jvm.Cond.privateMethod ({ cls := "AntennaTunerModel", name := "isLetterAt", desc := "(I)Z" } : Jvm.MethodName)) ∈ lw_tbl := lw_at lw_m8 5 rfl
theorem q1779 : (Jvm.Cond.instanceMethod ({ cls := "AntennaTunerModel", name := "isLetterAt", desc := "(I)Z" } : Jvm.MethodName)) ∈ lw_all := lw_g (lw_at lw_m8 6 rfl) rfl
theorem q1780 : (Jvm.Cond.code ({ cls := "AntennaTunerModel", name := "isLetterAt", desc := "(I)Z" } : Jvm.MethodName) prog_21_method_9_code (2 : Nat) (Option.some Jvm.ClassFile.FieldType.boolean)) ∈ lw_all := lw_g (lw_at lw_m8 7 rfl) rfl
theorem q1781 : (Jvm.Cond.constantLong "AntennaTunerModel" (86 : Nat) (97 : Int64)) ∈ lw_all := lw_g (lw_at lw_m8 8 rfl) rfl
theorem q1782 : (Jvm.Cond.constantLong "AntennaTunerModel" (88 : Nat) (122 : Int64)) ∈ lw_all := lw_g (lw_at lw_m8 9 rfl) rfl
theorem q1783 : (Jvm.Cond.methodLink "AntennaTunerModel" (100 : Nat) ({ cls := "AntennaTunerModel", name := "isDigitAt", desc := "(I)Z" } : Jvm.MethodName)) ∈ lw_all := lw_g (lw_at lw_m8 10 rfl) rfl
theorem q1784 : (Jvm.Cond.privateMethod ({ cls := "AntennaTunerModel", name := "isDigitAt", desc := "(I)Z" } : Jvm.MethodName)) ∈ lw_tbl := lw_at lw_m8 11 rfl
theorem q1785 : (Jvm.Cond.instanceMethod ({ cls := "AntennaTunerModel", name := "isDigitAt", desc := "(I)Z" } : Jvm.MethodName)) ∈ lw_all := lw_g (lw_at lw_m8 12 rfl) rfl
theorem q1786 : (Jvm.Cond.code ({ cls := "AntennaTunerModel", name := "isDigitAt", desc := "(I)Z" } : Jvm.MethodName) prog_21_method_10_code (2 : Nat) (Option.some Jvm.ClassFile.FieldType.boolean)) ∈ lw_all := lw_g (lw_at lw_m8 13 rfl) rfl
theorem q1787 : (Jvm.Cond.constantLong "AntennaTunerModel" (90 : Nat) (48 : Int64)) ∈ lw_all := lw_g (lw_at lw_m8 14 rfl) rfl
theorem q1788 : (Jvm.Cond.constantLong "AntennaTunerModel" (92 : Nat) (57 : Int64)) ∈ lw_all := lw_g (lw_at lw_m8 15 rfl) rfl
theorem q1789 : (Jvm.Cond.methodLink "AntennaTunerModel" (122 : Nat) ({ cls := "AntennaTunerModel", name := "readNumber", desc := "()V" } : Jvm.MethodName)) ∈ lw_all := lw_g (lw_at lw_m8 16 rfl) rfl
theorem q1790 : (Jvm.Cond.privateMethod ({ cls := "AntennaTunerModel", name := "readNumber", desc := "()V" } : Jvm.MethodName)) ∈ lw_tbl := lw_at lw_m8 17 rfl
theorem q1791 : (Jvm.Cond.instanceMethod ({ cls := "AntennaTunerModel", name := "readNumber", desc := "()V" } : Jvm.MethodName)) ∈ lw_all := lw_g (lw_at lw_m8 18 rfl) rfl
theorem q1792 : (Jvm.Cond.code ({ cls := "AntennaTunerModel", name := "readNumber", desc := "()V" } : Jvm.MethodName) prog_21_method_11_code (3 : Nat) (Option.none : Option Jvm.ClassFile.FieldType)) ∈ lw_all := lw_g (lw_at lw_m8 19 rfl) rfl
theorem q1793 : (Jvm.Cond.constantLong "AntennaTunerModel" (104 : Nat) (5 : Int64)) ∈ lw_all := lw_g (lw_at lw_m8 20 rfl) rfl
theorem q1794 : (Jvm.Cond.methodLink "AntennaTunerModel" (176 : Nat) ({ cls := "AntennaTunerModel", name := "parseHead", desc := "()V" } : Jvm.MethodName)) ∈ lw_all := lw_g (lw_at lw_m8 21 rfl) rfl
theorem q1795 : (Jvm.Cond.privateMethod ({ cls := "AntennaTunerModel", name := "parseHead", desc := "()V" } : Jvm.MethodName)) ∈ lw_tbl := lw_at lw_m8 22 rfl
theorem q1796 : (Jvm.Cond.instanceMethod ({ cls := "AntennaTunerModel", name := "parseHead", desc := "()V" } : Jvm.MethodName)) ∈ lw_all := lw_g (lw_at lw_m8 23 rfl) rfl
theorem q1797 : (Jvm.Cond.code ({ cls := "AntennaTunerModel", name := "parseHead", desc := "()V" } : Jvm.MethodName) prog_21_method_20_code (1 : Nat) (Option.none : Option Jvm.ClassFile.FieldType)) ∈ lw_all := lw_g (lw_at lw_m8 24 rfl) rfl
theorem q1798 : (Jvm.Cond.stringRef "AntennaTunerModel" (149 : Nat) "coil") ∈ lw_tbl := lw_at lw_m8 25 rfl
theorem q1799 : (Jvm.Cond.methodLink "AntennaTunerModel" (151 : Nat) ({ cls := "AntennaTunerModel", name := "expectKeyword", desc := "(Ljava/lang/String;)V" } : Jvm.MethodName)) ∈ lw_all := lw_g (lw_at lw_m8 26 rfl) rfl
theorem q1800 : (Jvm.Cond.privateMethod ({ cls := "AntennaTunerModel", name := "expectKeyword", desc := "(Ljava/lang/String;)V" } : Jvm.MethodName)) ∈ lw_tbl := lw_at lw_m8 27 rfl
theorem q1801 : (Jvm.Cond.instanceMethod ({ cls := "AntennaTunerModel", name := "expectKeyword", desc := "(Ljava/lang/String;)V" } : Jvm.MethodName)) ∈ lw_all := lw_g (lw_at lw_m8 28 rfl) rfl
theorem q1802 : (Jvm.Cond.code ({ cls := "AntennaTunerModel", name := "expectKeyword", desc := "(Ljava/lang/String;)V" } : Jvm.MethodName) prog_21_method_16_code (2 : Nat) (Option.none : Option Jvm.ClassFile.FieldType)) ∈ lw_all := lw_g (lw_at lw_m8 29 rfl) rfl
theorem q1803 : (Jvm.Cond.methodLink "AntennaTunerModel" (135 : Nat) ({ cls := "AntennaTunerModel", name := "isKeyword", desc := "(Ljava/lang/String;)Z" } : Jvm.MethodName)) ∈ lw_all := lw_g (lw_at lw_m8 30 rfl) rfl
theorem q1804 : (Jvm.Cond.privateMethod ({ cls := "AntennaTunerModel", name := "isKeyword", desc := "(Ljava/lang/String;)Z" } : Jvm.MethodName)) ∈ lw_tbl := lw_at lw_m8 31 rfl
theorem q1805 : (Jvm.Cond.instanceMethod ({ cls := "AntennaTunerModel", name := "isKeyword", desc := "(Ljava/lang/String;)Z" } : Jvm.MethodName)) ∈ lw_all := lw_g (lw_at lw_m8 32 rfl) rfl
theorem q1806 : (Jvm.Cond.code ({ cls := "AntennaTunerModel", name := "isKeyword", desc := "(Ljava/lang/String;)Z" } : Jvm.MethodName) prog_21_method_15_code (3 : Nat) (Option.some Jvm.ClassFile.FieldType.boolean)) ∈ lw_all := lw_g (lw_at lw_m8 33 rfl) rfl
theorem q1807 : (Jvm.Cond.methodLink "AntennaTunerModel" (125 : Nat) ({ cls := "java/lang/String", name := "length", desc := "()I" } : Jvm.MethodName)) ∈ lw_all := lw_g (lw_at lw_m8 34 rfl) rfl
theorem q1815 : (Jvm.Cond.methodLink "AntennaTunerModel" (131 : Nat) ({ cls := "java/lang/String", name := "charAt", desc := "(I)C" } : Jvm.MethodName)) ∈ lw_all := lw_g (lw_at lw_m8 42 rfl) rfl
theorem q1830 : (Jvm.Cond.methodLink "AntennaTunerModel" (139 : Nat) ({ cls := "AntennaTunerModel", name := "fail", desc := "(I)V" } : Jvm.MethodName)) ∈ lw_all := lw_g (lw_at lw_m8 57 rfl) rfl
theorem q1831 : (Jvm.Cond.privateMethod ({ cls := "AntennaTunerModel", name := "fail", desc := "(I)V" } : Jvm.MethodName)) ∈ lw_tbl := lw_at lw_m8 58 rfl
theorem q1832 : (Jvm.Cond.instanceMethod ({ cls := "AntennaTunerModel", name := "fail", desc := "(I)V" } : Jvm.MethodName)) ∈ lw_all := lw_g (lw_at lw_m8 59 rfl) rfl
theorem q1833 : (Jvm.Cond.code ({ cls := "AntennaTunerModel", name := "fail", desc := "(I)V" } : Jvm.MethodName) prog_21_method_14_code (2 : Nat) (Option.none : Option Jvm.ClassFile.FieldType)) ∈ lw_all := lw_g (lw_at lw_m8 60 rfl) rfl
theorem q1834 : (Jvm.Cond.methodLink "AntennaTunerModel" (155 : Nat) ({ cls := "AntennaTunerModel", name := "readIn", desc := "(II)I" } : Jvm.MethodName)) ∈ lw_all := lw_g (lw_at lw_m8 61 rfl) rfl
theorem q1835 : (Jvm.Cond.privateMethod ({ cls := "AntennaTunerModel", name := "readIn", desc := "(II)I" } : Jvm.MethodName)) ∈ lw_tbl := lw_at lw_m8 62 rfl
theorem q1836 : (Jvm.Cond.instanceMethod ({ cls := "AntennaTunerModel", name := "readIn", desc := "(II)I" } : Jvm.MethodName)) ∈ lw_all := lw_g (lw_at lw_m8 63 rfl) rfl
theorem q1837 : (Jvm.Cond.code ({ cls := "AntennaTunerModel", name := "readIn", desc := "(II)I" } : Jvm.MethodName) prog_21_method_19_code (3 : Nat) (Option.some Jvm.ClassFile.FieldType.int)) ∈ lw_all := lw_g (lw_at lw_m8 64 rfl) rfl
theorem q1838 : (Jvm.Cond.methodLink "AntennaTunerModel" (145 : Nat) ({ cls := "AntennaTunerModel", name := "readAbove", desc := "(III)I" } : Jvm.MethodName)) ∈ lw_all := lw_g (lw_at lw_m8 65 rfl) rfl
theorem q1839 : (Jvm.Cond.privateMethod ({ cls := "AntennaTunerModel", name := "readAbove", desc := "(III)I" } : Jvm.MethodName)) ∈ lw_tbl := lw_at lw_m8 66 rfl
theorem q1840 : (Jvm.Cond.instanceMethod ({ cls := "AntennaTunerModel", name := "readAbove", desc := "(III)I" } : Jvm.MethodName)) ∈ lw_all := lw_g (lw_at lw_m8 67 rfl) rfl
theorem q1841 : (Jvm.Cond.code ({ cls := "AntennaTunerModel", name := "readAbove", desc := "(III)I" } : Jvm.MethodName) prog_21_method_18_code (5 : Nat) (Option.some Jvm.ClassFile.FieldType.int)) ∈ lw_all := lw_g (lw_at lw_m8 68 rfl) rfl
theorem q1842 : (Jvm.Cond.methodLink "AntennaTunerModel" (159 : Nat) ({ cls := "AntennaTunerModel", name := "expectSemicolon", desc := "()V" } : Jvm.MethodName)) ∈ lw_all := lw_g (lw_at lw_m8 69 rfl) rfl
theorem q1843 : (Jvm.Cond.privateMethod ({ cls := "AntennaTunerModel", name := "expectSemicolon", desc := "()V" } : Jvm.MethodName)) ∈ lw_tbl := lw_at lw_m8 70 rfl
theorem q1844 : (Jvm.Cond.instanceMethod ({ cls := "AntennaTunerModel", name := "expectSemicolon", desc := "()V" } : Jvm.MethodName)) ∈ lw_all := lw_g (lw_at lw_m8 71 rfl) rfl
theorem q1845 : (Jvm.Cond.code ({ cls := "AntennaTunerModel", name := "expectSemicolon", desc := "()V" } : Jvm.MethodName) prog_21_method_17_code (1 : Nat) (Option.none : Option Jvm.ClassFile.FieldType)) ∈ lw_all := lw_g (lw_at lw_m8 72 rfl) rfl
theorem q1846 : (Jvm.Cond.stringRef "AntennaTunerModel" (162 : Nat) "capacitor") ∈ lw_tbl := lw_at lw_m8 73 rfl
theorem q1847 : (Jvm.Cond.stringRef "AntennaTunerModel" (164 : Nat) "transmitter") ∈ lw_tbl := lw_at lw_m8 74 rfl
theorem q1848 : (Jvm.Cond.methodLink "AntennaTunerModel" (179 : Nat) ({ cls := "AntennaTunerModel", name := "parsePoint", desc := "()V" } : Jvm.MethodName)) ∈ lw_all := lw_g (lw_at lw_m8 75 rfl) rfl
theorem q1849 : (Jvm.Cond.privateMethod ({ cls := "AntennaTunerModel", name := "parsePoint", desc := "()V" } : Jvm.MethodName)) ∈ lw_tbl := lw_at lw_m8 76 rfl
theorem q1850 : (Jvm.Cond.instanceMethod ({ cls := "AntennaTunerModel", name := "parsePoint", desc := "()V" } : Jvm.MethodName)) ∈ lw_all := lw_g (lw_at lw_m8 77 rfl) rfl
theorem q1851 : (Jvm.Cond.code ({ cls := "AntennaTunerModel", name := "parsePoint", desc := "()V" } : Jvm.MethodName) prog_21_method_21_code (4 : Nat) (Option.none : Option Jvm.ClassFile.FieldType)) ∈ lw_all := lw_g (lw_at lw_m8 78 rfl) rfl
theorem q1852 : (Jvm.Cond.stringRef "AntennaTunerModel" (166 : Nat) "point") ∈ lw_tbl := lw_at lw_m8 79 rfl
theorem q1853 : (Jvm.Cond.methodLink "AntennaTunerModel" (182 : Nat) ({ cls := "AntennaTunerModel", name := "parseBand", desc := "()V" } : Jvm.MethodName)) ∈ lw_all := lw_g (lw_at lw_m8 80 rfl) rfl
theorem q1854 : (Jvm.Cond.privateMethod ({ cls := "AntennaTunerModel", name := "parseBand", desc := "()V" } : Jvm.MethodName)) ∈ lw_tbl := lw_at lw_m8 81 rfl
theorem q1855 : (Jvm.Cond.instanceMethod ({ cls := "AntennaTunerModel", name := "parseBand", desc := "()V" } : Jvm.MethodName)) ∈ lw_all := lw_g (lw_at lw_m8 82 rfl) rfl
theorem q1856 : (Jvm.Cond.code ({ cls := "AntennaTunerModel", name := "parseBand", desc := "()V" } : Jvm.MethodName) prog_21_method_22_code (3 : Nat) (Option.none : Option Jvm.ClassFile.FieldType)) ∈ lw_all := lw_g (lw_at lw_m8 83 rfl) rfl
theorem q1857 : (Jvm.Cond.stringRef "AntennaTunerModel" (171 : Nat) "band") ∈ lw_tbl := lw_at lw_m8 84 rfl
theorem q1858 : (Jvm.Cond.methodLink "AntennaTunerModel" (188 : Nat) ({ cls := "AntennaTunerModel", name := "takeOver", desc := "()V" } : Jvm.MethodName)) ∈ lw_all := lw_g (lw_at lw_m8 85 rfl) rfl
theorem q1859 : (Jvm.Cond.privateMethod ({ cls := "AntennaTunerModel", name := "takeOver", desc := "()V" } : Jvm.MethodName)) ∈ lw_tbl := lw_at lw_m8 86 rfl
theorem q1860 : (Jvm.Cond.instanceMethod ({ cls := "AntennaTunerModel", name := "takeOver", desc := "()V" } : Jvm.MethodName)) ∈ lw_all := lw_g (lw_at lw_m8 87 rfl) rfl
theorem q1861 : (Jvm.Cond.code ({ cls := "AntennaTunerModel", name := "takeOver", desc := "()V" } : Jvm.MethodName) prog_21_method_26_code (2 : Nat) (Option.none : Option Jvm.ClassFile.FieldType)) ∈ lw_all := lw_g (lw_at lw_m8 88 rfl) rfl
theorem q1863 : (Jvm.Cond.instanceMethod ({ cls := "AntennaTunerModel", name := "errorPosition", desc := "()I" } : Jvm.MethodName)) ∈ lw_all := lw_g (lw_at lw_m8 90 rfl) rfl
theorem q1864 : (Jvm.Cond.selects "AntennaTunerModel" ({ cls := "AntennaTunerModel", name := "errorPosition", desc := "()I" } : Jvm.MethodName) ({ cls := "AntennaTunerModel", name := "errorPosition", desc := "()I" } : Jvm.MethodName)) ∈ lw_all := lw_g (lw_at lw_m8 91 rfl) rfl
theorem q1865 : (Jvm.Cond.code ({ cls := "AntennaTunerModel", name := "errorPosition", desc := "()I" } : Jvm.MethodName) prog_21_method_25_code (1 : Nat) (Option.some Jvm.ClassFile.FieldType.int)) ∈ lw_all := lw_g (lw_at lw_m8 92 rfl) rfl
theorem q1867 : (Jvm.Cond.instanceMethod ({ cls := "AntennaTunerModel", name := "antennaResistance", desc := "(I)J" } : Jvm.MethodName)) ∈ lw_all := lw_g (lw_at lw_m8 94 rfl) rfl
theorem q1868 : (Jvm.Cond.selects "AntennaTunerModel" ({ cls := "AntennaTunerModel", name := "antennaResistance", desc := "(I)J" } : Jvm.MethodName) ({ cls := "AntennaTunerModel", name := "antennaResistance", desc := "(I)J" } : Jvm.MethodName)) ∈ lw_all := lw_g (lw_at lw_m8 95 rfl) rfl
theorem q1869 : (Jvm.Cond.code ({ cls := "AntennaTunerModel", name := "antennaResistance", desc := "(I)J" } : Jvm.MethodName) prog_21_method_32_code (2 : Nat) (Option.some Jvm.ClassFile.FieldType.long)) ∈ lw_all := lw_g (lw_at lw_m8 96 rfl) rfl
theorem q1870 : (Jvm.Cond.methodLink "AntennaTunerModel" (239 : Nat) ({ cls := "AntennaTunerModel", name := "isFrequency", desc := "(I)Z" } : Jvm.MethodName)) ∈ lw_all := lw_g (lw_at lw_m8 97 rfl) rfl
theorem q1871 : (Jvm.Cond.static ({ cls := "AntennaTunerModel", name := "isFrequency", desc := "(I)Z" } : Jvm.MethodName)) ∈ lw_all := lw_g (lw_at lw_m8 98 rfl) rfl
theorem q1872 : (Jvm.Cond.code ({ cls := "AntennaTunerModel", name := "isFrequency", desc := "(I)Z" } : Jvm.MethodName) prog_21_method_27_code (1 : Nat) (Option.some Jvm.ClassFile.FieldType.boolean)) ∈ lw_all := lw_g (lw_at lw_m8 99 rfl) rfl
theorem q1873 : (Jvm.Cond.constantLong "AntennaTunerModel" (228 : Nat) (1500 : Int64)) ∈ lw_all := lw_g (lw_at lw_m8 100 rfl) rfl
theorem q1874 : (Jvm.Cond.constantLong "AntennaTunerModel" (230 : Nat) (30000 : Int64)) ∈ lw_all := lw_g (lw_at lw_m8 101 rfl) rfl
theorem q1875 : (Jvm.Cond.methodLink "AntennaTunerModel" (242 : Nat) ({ cls := "AntennaTunerModel", name := "resistanceAt", desc := "(I)J" } : Jvm.MethodName)) ∈ lw_all := lw_g (lw_at lw_m8 102 rfl) rfl
theorem q1876 : (Jvm.Cond.privateMethod ({ cls := "AntennaTunerModel", name := "resistanceAt", desc := "(I)J" } : Jvm.MethodName)) ∈ lw_tbl := lw_at lw_m8 103 rfl
theorem q1877 : (Jvm.Cond.instanceMethod ({ cls := "AntennaTunerModel", name := "resistanceAt", desc := "(I)J" } : Jvm.MethodName)) ∈ lw_all := lw_g (lw_at lw_m8 104 rfl) rfl
theorem q1878 : (Jvm.Cond.code ({ cls := "AntennaTunerModel", name := "resistanceAt", desc := "(I)J" } : Jvm.MethodName) prog_21_method_30_code (3 : Nat) (Option.some Jvm.ClassFile.FieldType.long)) ∈ lw_all := lw_g (lw_at lw_m8 105 rfl) rfl
theorem q1879 : (Jvm.Cond.methodLink "AntennaTunerModel" (232 : Nat) ({ cls := "AntennaTunerModel", name := "pointBelow", desc := "(I)I" } : Jvm.MethodName)) ∈ lw_all := lw_g (lw_at lw_m8 106 rfl) rfl
theorem q1880 : (Jvm.Cond.privateMethod ({ cls := "AntennaTunerModel", name := "pointBelow", desc := "(I)I" } : Jvm.MethodName)) ∈ lw_tbl := lw_at lw_m8 107 rfl
theorem q1881 : (Jvm.Cond.instanceMethod ({ cls := "AntennaTunerModel", name := "pointBelow", desc := "(I)I" } : Jvm.MethodName)) ∈ lw_all := lw_g (lw_at lw_m8 108 rfl) rfl
theorem q1882 : (Jvm.Cond.code ({ cls := "AntennaTunerModel", name := "pointBelow", desc := "(I)I" } : Jvm.MethodName) prog_21_method_28_code (3 : Nat) (Option.some Jvm.ClassFile.FieldType.int)) ∈ lw_all := lw_g (lw_at lw_m8 109 rfl) rfl
theorem q1883 : (Jvm.Cond.methodLink "AntennaTunerModel" (235 : Nat) ({ cls := "AntennaTunerModel", name := "between", desc := "(IIJJ)J" } : Jvm.MethodName)) ∈ lw_all := lw_g (lw_at lw_m8 110 rfl) rfl
theorem q1884 : (Jvm.Cond.privateMethod ({ cls := "AntennaTunerModel", name := "between", desc := "(IIJJ)J" } : Jvm.MethodName)) ∈ lw_tbl := lw_at lw_m8 111 rfl
theorem q1885 : (Jvm.Cond.instanceMethod ({ cls := "AntennaTunerModel", name := "between", desc := "(IIJJ)J" } : Jvm.MethodName)) ∈ lw_all := lw_g (lw_at lw_m8 112 rfl) rfl
theorem q1886 : (Jvm.Cond.code ({ cls := "AntennaTunerModel", name := "between", desc := "(IIJJ)J" } : Jvm.MethodName) prog_21_method_29_code (7 : Nat) (Option.some Jvm.ClassFile.FieldType.long)) ∈ lw_all := lw_g (lw_at lw_m8 113 rfl) rfl
theorem q1887 : (Jvm.Cond.constantLong "AntennaTunerModel" (246 : Nat) (-1 : Int64)) ∈ lw_all := lw_g (lw_at lw_m8 114 rfl) rfl
theorem q1889 : (Jvm.Cond.instanceMethod ({ cls := "AntennaTunerModel", name := "antennaReactance", desc := "(I)J" } : Jvm.MethodName)) ∈ lw_all := lw_g (lw_at lw_m8 116 rfl) rfl
theorem q1890 : (Jvm.Cond.selects "AntennaTunerModel" ({ cls := "AntennaTunerModel", name := "antennaReactance", desc := "(I)J" } : Jvm.MethodName) ({ cls := "AntennaTunerModel", name := "antennaReactance", desc := "(I)J" } : Jvm.MethodName)) ∈ lw_all := lw_g (lw_at lw_m8 117 rfl) rfl
theorem q1891 : (Jvm.Cond.code ({ cls := "AntennaTunerModel", name := "antennaReactance", desc := "(I)J" } : Jvm.MethodName) prog_21_method_33_code (2 : Nat) (Option.some Jvm.ClassFile.FieldType.long)) ∈ lw_all := lw_g (lw_at lw_m8 118 rfl) rfl
theorem q1892 : (Jvm.Cond.methodLink "AntennaTunerModel" (248 : Nat) ({ cls := "AntennaTunerModel", name := "reactanceAt", desc := "(I)J" } : Jvm.MethodName)) ∈ lw_all := lw_g (lw_at lw_m8 119 rfl) rfl
theorem q1893 : (Jvm.Cond.privateMethod ({ cls := "AntennaTunerModel", name := "reactanceAt", desc := "(I)J" } : Jvm.MethodName)) ∈ lw_tbl := lw_at lw_m8 120 rfl
theorem q1894 : (Jvm.Cond.instanceMethod ({ cls := "AntennaTunerModel", name := "reactanceAt", desc := "(I)J" } : Jvm.MethodName)) ∈ lw_all := lw_g (lw_at lw_m8 121 rfl) rfl
theorem q1895 : (Jvm.Cond.code ({ cls := "AntennaTunerModel", name := "reactanceAt", desc := "(I)J" } : Jvm.MethodName) prog_21_method_31_code (3 : Nat) (Option.some Jvm.ClassFile.FieldType.long)) ∈ lw_all := lw_g (lw_at lw_m8 122 rfl) rfl
theorem q1896 : (Jvm.Cond.constantLong "AntennaTunerModel" (251 : Nat) (-9223372036854775808 : Int64)) ∈ lw_all := lw_g (lw_at lw_m8 123 rfl) rfl
theorem q1898 : (Jvm.Cond.instanceMethod ({ cls := "AntennaTunerModel", name := "resonance", desc := "(I)I" } : Jvm.MethodName)) ∈ lw_all := lw_g (lw_at lw_m8 125 rfl) rfl
theorem q1899 : (Jvm.Cond.selects "AntennaTunerModel" ({ cls := "AntennaTunerModel", name := "resonance", desc := "(I)I" } : Jvm.MethodName) ({ cls := "AntennaTunerModel", name := "resonance", desc := "(I)I" } : Jvm.MethodName)) ∈ lw_all := lw_g (lw_at lw_m8 126 rfl) rfl
theorem q1900 : (Jvm.Cond.code ({ cls := "AntennaTunerModel", name := "resonance", desc := "(I)I" } : Jvm.MethodName) prog_21_method_35_code (4 : Nat) (Option.some Jvm.ClassFile.FieldType.int)) ∈ lw_all := lw_g (lw_at lw_m8 127 rfl) rfl
theorem q1901 : (Jvm.Cond.constantLong "AntennaTunerModel" (253 : Nat) (100 : Int64)) ∈ lw_all := lw_g (lw_at lw_m8 128 rfl) rfl
theorem q1902 : (Jvm.Cond.methodLink "AntennaTunerModel" (255 : Nat) ({ cls := "AntennaTunerModel", name := "isResonance", desc := "(I)Z" } : Jvm.MethodName)) ∈ lw_all := lw_g (lw_at lw_m8 129 rfl) rfl
theorem q1903 : (Jvm.Cond.privateMethod ({ cls := "AntennaTunerModel", name := "isResonance", desc := "(I)Z" } : Jvm.MethodName)) ∈ lw_tbl := lw_at lw_m8 130 rfl
theorem q1904 : (Jvm.Cond.instanceMethod ({ cls := "AntennaTunerModel", name := "isResonance", desc := "(I)Z" } : Jvm.MethodName)) ∈ lw_all := lw_g (lw_at lw_m8 131 rfl) rfl
theorem q1905 : (Jvm.Cond.code ({ cls := "AntennaTunerModel", name := "isResonance", desc := "(I)Z" } : Jvm.MethodName) prog_21_method_34_code (6 : Nat) (Option.some Jvm.ClassFile.FieldType.boolean)) ∈ lw_all := lw_g (lw_at lw_m8 132 rfl) rfl
theorem q1907 : (Jvm.Cond.instanceMethod ({ cls := "AntennaTunerModel", name := "bandOf", desc := "(I)I" } : Jvm.MethodName)) ∈ lw_all := lw_g (lw_at lw_m8 134 rfl) rfl
theorem q1908 : (Jvm.Cond.selects "AntennaTunerModel" ({ cls := "AntennaTunerModel", name := "bandOf", desc := "(I)I" } : Jvm.MethodName) ({ cls := "AntennaTunerModel", name := "bandOf", desc := "(I)I" } : Jvm.MethodName)) ∈ lw_all := lw_g (lw_at lw_m8 135 rfl) rfl
theorem q1909 : (Jvm.Cond.code ({ cls := "AntennaTunerModel", name := "bandOf", desc := "(I)I" } : Jvm.MethodName) prog_21_method_37_code (2 : Nat) (Option.some Jvm.ClassFile.FieldType.int)) ∈ lw_all := lw_g (lw_at lw_m8 136 rfl) rfl
theorem q1910 : (Jvm.Cond.methodLink "AntennaTunerModel" (258 : Nat) ({ cls := "AntennaTunerModel", name := "band", desc := "(I)I" } : Jvm.MethodName)) ∈ lw_all := lw_g (lw_at lw_m8 137 rfl) rfl
theorem q1911 : (Jvm.Cond.privateMethod ({ cls := "AntennaTunerModel", name := "band", desc := "(I)I" } : Jvm.MethodName)) ∈ lw_tbl := lw_at lw_m8 138 rfl
theorem q1912 : (Jvm.Cond.instanceMethod ({ cls := "AntennaTunerModel", name := "band", desc := "(I)I" } : Jvm.MethodName)) ∈ lw_all := lw_g (lw_at lw_m8 139 rfl) rfl
theorem q1913 : (Jvm.Cond.code ({ cls := "AntennaTunerModel", name := "band", desc := "(I)I" } : Jvm.MethodName) prog_21_method_36_code (3 : Nat) (Option.some Jvm.ClassFile.FieldType.int)) ∈ lw_all := lw_g (lw_at lw_m8 140 rfl) rfl
theorem q1915 : (Jvm.Cond.instanceMethod ({ cls := "AntennaTunerModel", name := "undo", desc := "()I" } : Jvm.MethodName)) ∈ lw_all := lw_g (lw_at lw_m8 142 rfl) rfl
theorem q1916 : (Jvm.Cond.selects "AntennaTunerModel" ({ cls := "AntennaTunerModel", name := "undo", desc := "()I" } : Jvm.MethodName) ({ cls := "AntennaTunerModel", name := "undo", desc := "()I" } : Jvm.MethodName)) ∈ lw_all := lw_g (lw_at lw_m8 143 rfl) rfl
theorem q1917 : (Jvm.Cond.code ({ cls := "AntennaTunerModel", name := "undo", desc := "()I" } : Jvm.MethodName) prog_21_method_44_code (2 : Nat) (Option.some Jvm.ClassFile.FieldType.int)) ∈ lw_all := lw_g (lw_at lw_m8 144 rfl) rfl
theorem q1919 : (Jvm.Cond.instanceMethod ({ cls := "AntennaTunerModel", name := "setFrequency", desc := "(I)I" } : Jvm.MethodName)) ∈ lw_all := lw_g (lw_at lw_m8 146 rfl) rfl
theorem q1920 : (Jvm.Cond.selects "AntennaTunerModel" ({ cls := "AntennaTunerModel", name := "setFrequency", desc := "(I)I" } : Jvm.MethodName) ({ cls := "AntennaTunerModel", name := "setFrequency", desc := "(I)I" } : Jvm.MethodName)) ∈ lw_all := lw_g (lw_at lw_m8 147 rfl) rfl
theorem q1921 : (Jvm.Cond.code ({ cls := "AntennaTunerModel", name := "setFrequency", desc := "(I)I" } : Jvm.MethodName) prog_21_method_46_code (3 : Nat) (Option.some Jvm.ClassFile.FieldType.int)) ∈ lw_all := lw_g (lw_at lw_m8 148 rfl) rfl
theorem q1922 : (Jvm.Cond.methodLink "AntennaTunerModel" (262 : Nat) ({ cls := "AntennaTunerModel", name := "remember", desc := "()V" } : Jvm.MethodName)) ∈ lw_all := lw_g (lw_at lw_m8 149 rfl) rfl
theorem q1923 : (Jvm.Cond.privateMethod ({ cls := "AntennaTunerModel", name := "remember", desc := "()V" } : Jvm.MethodName)) ∈ lw_tbl := lw_at lw_m8 150 rfl
theorem q1924 : (Jvm.Cond.instanceMethod ({ cls := "AntennaTunerModel", name := "remember", desc := "()V" } : Jvm.MethodName)) ∈ lw_all := lw_g (lw_at lw_m8 151 rfl) rfl
theorem q1925 : (Jvm.Cond.code ({ cls := "AntennaTunerModel", name := "remember", desc := "()V" } : Jvm.MethodName) prog_21_method_43_code (2 : Nat) (Option.none : Option Jvm.ClassFile.FieldType)) ∈ lw_all := lw_g (lw_at lw_m8 152 rfl) rfl
theorem q1926 : (Jvm.Cond.methodLink "AntennaTunerModel" (265 : Nat) ({ cls := "AntennaTunerModel", name := "change", desc := "(II)V" } : Jvm.MethodName)) ∈ lw_all := lw_g (lw_at lw_m8 153 rfl) rfl
theorem q1927 : (Jvm.Cond.privateMethod ({ cls := "AntennaTunerModel", name := "change", desc := "(II)V" } : Jvm.MethodName)) ∈ lw_tbl := lw_at lw_m8 154 rfl
theorem q1928 : (Jvm.Cond.instanceMethod ({ cls := "AntennaTunerModel", name := "change", desc := "(II)V" } : Jvm.MethodName)) ∈ lw_all := lw_g (lw_at lw_m8 155 rfl) rfl
theorem q1929 : (Jvm.Cond.code ({ cls := "AntennaTunerModel", name := "change", desc := "(II)V" } : Jvm.MethodName) prog_21_method_45_code (3 : Nat) (Option.none : Option Jvm.ClassFile.FieldType)) ∈ lw_all := lw_g (lw_at lw_m8 156 rfl) rfl
theorem q1931 : (Jvm.Cond.instanceMethod ({ cls := "AntennaTunerModel", name := "setSide", desc := "(I)I" } : Jvm.MethodName)) ∈ lw_all := lw_g (lw_at lw_m8 158 rfl) rfl
theorem q1932 : (Jvm.Cond.selects "AntennaTunerModel" ({ cls := "AntennaTunerModel", name := "setSide", desc := "(I)I" } : Jvm.MethodName) ({ cls := "AntennaTunerModel", name := "setSide", desc := "(I)I" } : Jvm.MethodName)) ∈ lw_all := lw_g (lw_at lw_m8 159 rfl) rfl
theorem q1933 : (Jvm.Cond.code ({ cls := "AntennaTunerModel", name := "setSide", desc := "(I)I" } : Jvm.MethodName) prog_21_method_47_code (3 : Nat) (Option.some Jvm.ClassFile.FieldType.int)) ∈ lw_all := lw_g (lw_at lw_m8 160 rfl) rfl
theorem q1934 : (Jvm.Cond.methodLink "AntennaTunerModel" (269 : Nat) ({ cls := "AntennaTunerModel", name := "coil", desc := "(I)I" } : Jvm.MethodName)) ∈ lw_all := lw_g (lw_at lw_m8 161 rfl) rfl
theorem q1935 : (Jvm.Cond.static ({ cls := "AntennaTunerModel", name := "coil", desc := "(I)I" } : Jvm.MethodName)) ∈ lw_all := lw_g (lw_at lw_m8 162 rfl) rfl
theorem q1936 : (Jvm.Cond.code ({ cls := "AntennaTunerModel", name := "coil", desc := "(I)I" } : Jvm.MethodName) prog_21_method_39_code (1 : Nat) (Option.some Jvm.ClassFile.FieldType.int)) ∈ lw_all := lw_g (lw_at lw_m8 163 rfl) rfl
theorem q1937 : (Jvm.Cond.methodLink "AntennaTunerModel" (271 : Nat) ({ cls := "AntennaTunerModel", name := "capacitor", desc := "(I)I" } : Jvm.MethodName)) ∈ lw_all := lw_g (lw_at lw_m8 164 rfl) rfl
theorem q1938 : (Jvm.Cond.static ({ cls := "AntennaTunerModel", name := "capacitor", desc := "(I)I" } : Jvm.MethodName)) ∈ lw_all := lw_g (lw_at lw_m8 165 rfl) rfl
theorem q1939 : (Jvm.Cond.code ({ cls := "AntennaTunerModel", name := "capacitor", desc := "(I)I" } : Jvm.MethodName) prog_21_method_40_code (1 : Nat) (Option.some Jvm.ClassFile.FieldType.int)) ∈ lw_all := lw_g (lw_at lw_m8 166 rfl) rfl
theorem q1940 : (Jvm.Cond.methodLink "AntennaTunerModel" (273 : Nat) ({ cls := "AntennaTunerModel", name := "together", desc := "(III)I" } : Jvm.MethodName)) ∈ lw_all := lw_g (lw_at lw_m8 167 rfl) rfl
theorem q1941 : (Jvm.Cond.static ({ cls := "AntennaTunerModel", name := "together", desc := "(III)I" } : Jvm.MethodName)) ∈ lw_all := lw_g (lw_at lw_m8 168 rfl) rfl
theorem q1942 : (Jvm.Cond.code ({ cls := "AntennaTunerModel", name := "together", desc := "(III)I" } : Jvm.MethodName) prog_21_method_41_code (3 : Nat) (Option.some Jvm.ClassFile.FieldType.int)) ∈ lw_all := lw_g (lw_at lw_m8 169 rfl) rfl
theorem q1943 : (Jvm.Cond.methodLink "AntennaTunerModel" (276 : Nat) ({ cls := "AntennaTunerModel", name := "side", desc := "(I)I" } : Jvm.MethodName)) ∈ lw_all := lw_g (lw_at lw_m8 170 rfl) rfl
theorem q1944 : (Jvm.Cond.static ({ cls := "AntennaTunerModel", name := "side", desc := "(I)I" } : Jvm.MethodName)) ∈ lw_all := lw_g (lw_at lw_m8 171 rfl) rfl
theorem q1945 : (Jvm.Cond.code ({ cls := "AntennaTunerModel", name := "side", desc := "(I)I" } : Jvm.MethodName) prog_21_method_38_code (1 : Nat) (Option.some Jvm.ClassFile.FieldType.int)) ∈ lw_all := lw_g (lw_at lw_m8 172 rfl) rfl
theorem q1947 : (Jvm.Cond.instanceMethod ({ cls := "AntennaTunerModel", name := "setCoil", desc := "(I)I" } : Jvm.MethodName)) ∈ lw_all := lw_g (lw_at lw_m8 174 rfl) rfl
theorem q1948 : (Jvm.Cond.selects "AntennaTunerModel" ({ cls := "AntennaTunerModel", name := "setCoil", desc := "(I)I" } : Jvm.MethodName) ({ cls := "AntennaTunerModel", name := "setCoil", desc := "(I)I" } : Jvm.MethodName)) ∈ lw_all := lw_g (lw_at lw_m8 175 rfl) rfl
theorem q1949 : (Jvm.Cond.code ({ cls := "AntennaTunerModel", name := "setCoil", desc := "(I)I" } : Jvm.MethodName) prog_21_method_48_code (3 : Nat) (Option.some Jvm.ClassFile.FieldType.int)) ∈ lw_all := lw_g (lw_at lw_m8 176 rfl) rfl
theorem q1950 : (Jvm.Cond.constantLong "AntennaTunerModel" (260 : Nat) (63 : Int64)) ∈ lw_all := lw_g (lw_at lw_m8 177 rfl) rfl
theorem q1952 : (Jvm.Cond.instanceMethod ({ cls := "AntennaTunerModel", name := "setCapacitor", desc := "(I)I" } : Jvm.MethodName)) ∈ lw_all := lw_g (lw_at lw_m8 179 rfl) rfl
theorem q1953 : (Jvm.Cond.selects "AntennaTunerModel" ({ cls := "AntennaTunerModel", name := "setCapacitor", desc := "(I)I" } : Jvm.MethodName) ({ cls := "AntennaTunerModel", name := "setCapacitor", desc := "(I)I" } : Jvm.MethodName)) ∈ lw_all := lw_g (lw_at lw_m8 180 rfl) rfl
theorem q1954 : (Jvm.Cond.code ({ cls := "AntennaTunerModel", name := "setCapacitor", desc := "(I)I" } : Jvm.MethodName) prog_21_method_49_code (3 : Nat) (Option.some Jvm.ClassFile.FieldType.int)) ∈ lw_all := lw_g (lw_at lw_m8 181 rfl) rfl
theorem q1956 : (Jvm.Cond.instanceMethod ({ cls := "AntennaTunerModel", name := "frequency", desc := "()I" } : Jvm.MethodName)) ∈ lw_all := lw_g (lw_at lw_m8 183 rfl) rfl
theorem q1957 : (Jvm.Cond.selects "AntennaTunerModel" ({ cls := "AntennaTunerModel", name := "frequency", desc := "()I" } : Jvm.MethodName) ({ cls := "AntennaTunerModel", name := "frequency", desc := "()I" } : Jvm.MethodName)) ∈ lw_all := lw_g (lw_at lw_m8 184 rfl) rfl
theorem q1958 : (Jvm.Cond.code ({ cls := "AntennaTunerModel", name := "frequency", desc := "()I" } : Jvm.MethodName) prog_21_method_50_code (1 : Nat) (Option.some Jvm.ClassFile.FieldType.int)) ∈ lw_all := lw_g (lw_at lw_m8 185 rfl) rfl
theorem q1960 : (Jvm.Cond.instanceMethod ({ cls := "AntennaTunerModel", name := "settings", desc := "()I" } : Jvm.MethodName)) ∈ lw_all := lw_g (lw_at lw_m8 187 rfl) rfl
theorem q1961 : (Jvm.Cond.selects "AntennaTunerModel" ({ cls := "AntennaTunerModel", name := "settings", desc := "()I" } : Jvm.MethodName) ({ cls := "AntennaTunerModel", name := "settings", desc := "()I" } : Jvm.MethodName)) ∈ lw_all := lw_g (lw_at lw_m8 188 rfl) rfl
theorem q1962 : (Jvm.Cond.code ({ cls := "AntennaTunerModel", name := "settings", desc := "()I" } : Jvm.MethodName) prog_21_method_51_code (1 : Nat) (Option.some Jvm.ClassFile.FieldType.int)) ∈ lw_all := lw_g (lw_at lw_m8 189 rfl) rfl
theorem q1964 : (Jvm.Cond.instanceMethod ({ cls := "AntennaTunerModel", name := "relaysTo", desc := "(III)I" } : Jvm.MethodName)) ∈ lw_all := lw_g (lw_at lw_m8 191 rfl) rfl
theorem q1965 : (Jvm.Cond.selects "AntennaTunerModel" ({ cls := "AntennaTunerModel", name := "relaysTo", desc := "(III)I" } : Jvm.MethodName) ({ cls := "AntennaTunerModel", name := "relaysTo", desc := "(III)I" } : Jvm.MethodName)) ∈ lw_all := lw_g (lw_at lw_m8 192 rfl) rfl
theorem q1966 : (Jvm.Cond.code ({ cls := "AntennaTunerModel", name := "relaysTo", desc := "(III)I" } : Jvm.MethodName) prog_21_method_52_code (7 : Nat) (Option.some Jvm.ClassFile.FieldType.int)) ∈ lw_all := lw_g (lw_at lw_m8 193 rfl) rfl
theorem q1967 : (Jvm.Cond.methodLink "AntennaTunerModel" (279 : Nat) ({ cls := "AntennaTunerModel", name := "areSettings", desc := "(III)Z" } : Jvm.MethodName)) ∈ lw_all := lw_g (lw_at lw_m8 194 rfl) rfl
theorem q1968 : (Jvm.Cond.static ({ cls := "AntennaTunerModel", name := "areSettings", desc := "(III)Z" } : Jvm.MethodName)) ∈ lw_all := lw_g (lw_at lw_m8 195 rfl) rfl
theorem q1969 : (Jvm.Cond.code ({ cls := "AntennaTunerModel", name := "areSettings", desc := "(III)Z" } : Jvm.MethodName) prog_21_method_42_code (3 : Nat) (Option.some Jvm.ClassFile.FieldType.boolean)) ∈ lw_all := lw_g (lw_at lw_m8 196 rfl) rfl
theorem q1971 : (Jvm.Cond.instanceMethod ({ cls := "AntennaTunerModel", name := "inputResistance", desc := "()J" } : Jvm.MethodName)) ∈ lw_all := lw_g (lw_at lw_m8 198 rfl) rfl
theorem q1972 : (Jvm.Cond.selects "AntennaTunerModel" ({ cls := "AntennaTunerModel", name := "inputResistance", desc := "()J" } : Jvm.MethodName) ({ cls := "AntennaTunerModel", name := "inputResistance", desc := "()J" } : Jvm.MethodName)) ∈ lw_all := lw_g (lw_at lw_m8 199 rfl) rfl
theorem q1973 : (Jvm.Cond.code ({ cls := "AntennaTunerModel", name := "inputResistance", desc := "()J" } : Jvm.MethodName) prog_21_method_56_code (1 : Nat) (Option.some Jvm.ClassFile.FieldType.long)) ∈ lw_all := lw_g (lw_at lw_m8 200 rfl) rfl
theorem q1974 : (Jvm.Cond.methodLink "AntennaTunerModel" (321 : Nat) ({ cls := "AntennaTunerModel", name := "work", desc := "(II)V" } : Jvm.MethodName)) ∈ lw_all := lw_g (lw_at lw_m8 201 rfl) rfl
theorem q1975 : (Jvm.Cond.privateMethod ({ cls := "AntennaTunerModel", name := "work", desc := "(II)V" } : Jvm.MethodName)) ∈ lw_tbl := lw_at lw_m8 202 rfl
theorem q1976 : (Jvm.Cond.instanceMethod ({ cls := "AntennaTunerModel", name := "work", desc := "(II)V" } : Jvm.MethodName)) ∈ lw_all := lw_g (lw_at lw_m8 203 rfl) rfl
theorem q1977 : (Jvm.Cond.code ({ cls := "AntennaTunerModel", name := "work", desc := "(II)V" } : Jvm.MethodName) prog_21_method_55_code (3 : Nat) (Option.none : Option Jvm.ClassFile.FieldType)) ∈ lw_all := lw_g (lw_at lw_m8 204 rfl) rfl
theorem q1978 : (Jvm.Cond.methodLink "AntennaTunerModel" (309 : Nat) ({ cls := "AntennaTunerModel", name := "addCapacitor", desc := "(II)V" } : Jvm.MethodName)) ∈ lw_all := lw_g (lw_at lw_m8 205 rfl) rfl
theorem q1979 : (Jvm.Cond.privateMethod ({ cls := "AntennaTunerModel", name := "addCapacitor", desc := "(II)V" } : Jvm.MethodName)) ∈ lw_tbl := lw_at lw_m8 206 rfl
theorem q1980 : (Jvm.Cond.instanceMethod ({ cls := "AntennaTunerModel", name := "addCapacitor", desc := "(II)V" } : Jvm.MethodName)) ∈ lw_all := lw_g (lw_at lw_m8 207 rfl) rfl
theorem q1981 : (Jvm.Cond.code ({ cls := "AntennaTunerModel", name := "addCapacitor", desc := "(II)V" } : Jvm.MethodName) prog_21_method_54_code (11 : Nat) (Option.none : Option Jvm.ClassFile.FieldType)) ∈ lw_all := lw_g (lw_at lw_m8 208 rfl) rfl
theorem q1982 : (Jvm.Cond.constantLong "AntennaTunerModel" (297 : Nat) (10000000000 : Int64)) ∈ lw_all := lw_g (lw_at lw_m8 209 rfl) rfl
theorem q1983 : (Jvm.Cond.constantLong "AntennaTunerModel" (283 : Nat) (6283 : Int64)) ∈ lw_all := lw_g (lw_at lw_m8 210 rfl) rfl
theorem q1984 : (Jvm.Cond.constantLong "AntennaTunerModel" (299 : Nat) (100000 : Int64)) ∈ lw_all := lw_g (lw_at lw_m8 211 rfl) rfl
theorem q1985 : (Jvm.Cond.constantLong "AntennaTunerModel" (301 : Nat) (1000000000 : Int64)) ∈ lw_all := lw_g (lw_at lw_m8 212 rfl) rfl
theorem q1986 : (Jvm.Cond.constantLong "AntennaTunerModel" (303 : Nat) (-1000000000 : Int64)) ∈ lw_all := lw_g (lw_at lw_m8 213 rfl) rfl
theorem q1987 : (Jvm.Cond.methodLink "AntennaTunerModel" (305 : Nat) ({ cls := "AntennaTunerModel", name := "clamp", desc := "(JJJ)J" } : Jvm.MethodName)) ∈ lw_all := lw_g (lw_at lw_m8 214 rfl) rfl
theorem q1988 : (Jvm.Cond.static ({ cls := "AntennaTunerModel", name := "clamp", desc := "(JJJ)J" } : Jvm.MethodName)) ∈ lw_all := lw_g (lw_at lw_m8 215 rfl) rfl
theorem q1989 : (Jvm.Cond.code ({ cls := "AntennaTunerModel", name := "clamp", desc := "(JJJ)J" } : Jvm.MethodName) prog_21_method_3_code (6 : Nat) (Option.some Jvm.ClassFile.FieldType.long)) ∈ lw_all := lw_g (lw_at lw_m8 216 rfl) rfl
theorem q1990 : (Jvm.Cond.methodLink "AntennaTunerModel" (318 : Nat) ({ cls := "AntennaTunerModel", name := "addCoil", desc := "(II)V" } : Jvm.MethodName)) ∈ lw_all := lw_g (lw_at lw_m8 217 rfl) rfl
theorem q1991 : (Jvm.Cond.privateMethod ({ cls := "AntennaTunerModel", name := "addCoil", desc := "(II)V" } : Jvm.MethodName)) ∈ lw_tbl := lw_at lw_m8 218 rfl
theorem q1992 : (Jvm.Cond.instanceMethod ({ cls := "AntennaTunerModel", name := "addCoil", desc := "(II)V" } : Jvm.MethodName)) ∈ lw_all := lw_g (lw_at lw_m8 219 rfl) rfl
theorem q1993 : (Jvm.Cond.code ({ cls := "AntennaTunerModel", name := "addCoil", desc := "(II)V" } : Jvm.MethodName) prog_21_method_53_code (5 : Nat) (Option.none : Option Jvm.ClassFile.FieldType)) ∈ lw_all := lw_g (lw_at lw_m8 220 rfl) rfl
theorem q1994 : (Jvm.Cond.constantLong "AntennaTunerModel" (285 : Nat) (1000000 : Int64)) ∈ lw_all := lw_g (lw_at lw_m8 221 rfl) rfl
theorem q1996 : (Jvm.Cond.instanceMethod ({ cls := "AntennaTunerModel", name := "inputReactance", desc := "()J" } : Jvm.MethodName)) ∈ lw_all := lw_g (lw_at lw_m8 223 rfl) rfl
theorem q1997 : (Jvm.Cond.selects "AntennaTunerModel" ({ cls := "AntennaTunerModel", name := "inputReactance", desc := "()J" } : Jvm.MethodName) ({ cls := "AntennaTunerModel", name := "inputReactance", desc := "()J" } : Jvm.MethodName)) ∈ lw_all := lw_g (lw_at lw_m8 224 rfl) rfl
theorem q1998 : (Jvm.Cond.code ({ cls := "AntennaTunerModel", name := "inputReactance", desc := "()J" } : Jvm.MethodName) prog_21_method_57_code (1 : Nat) (Option.some Jvm.ClassFile.FieldType.long)) ∈ lw_all := lw_g (lw_at lw_m8 225 rfl) rfl
theorem q2000 : (Jvm.Cond.instanceMethod ({ cls := "AntennaTunerModel", name := "swr", desc := "()I" } : Jvm.MethodName)) ∈ lw_all := lw_g (lw_at lw_m8 227 rfl) rfl
theorem q2001 : (Jvm.Cond.selects "AntennaTunerModel" ({ cls := "AntennaTunerModel", name := "swr", desc := "()I" } : Jvm.MethodName) ({ cls := "AntennaTunerModel", name := "swr", desc := "()I" } : Jvm.MethodName)) ∈ lw_all := lw_g (lw_at lw_m8 228 rfl) rfl
theorem q2002 : (Jvm.Cond.code ({ cls := "AntennaTunerModel", name := "swr", desc := "()I" } : Jvm.MethodName) prog_21_method_60_code (1 : Nat) (Option.some Jvm.ClassFile.FieldType.int)) ∈ lw_all := lw_g (lw_at lw_m8 229 rfl) rfl
theorem q2003 : (Jvm.Cond.methodLink "AntennaTunerModel" (336 : Nat) ({ cls := "AntennaTunerModel", name := "present", desc := "()I" } : Jvm.MethodName)) ∈ lw_all := lw_g (lw_at lw_m8 230 rfl) rfl
theorem q2004 : (Jvm.Cond.privateMethod ({ cls := "AntennaTunerModel", name := "present", desc := "()I" } : Jvm.MethodName)) ∈ lw_tbl := lw_at lw_m8 231 rfl
theorem q2005 : (Jvm.Cond.instanceMethod ({ cls := "AntennaTunerModel", name := "present", desc := "()I" } : Jvm.MethodName)) ∈ lw_all := lw_g (lw_at lw_m8 232 rfl) rfl
theorem q2006 : (Jvm.Cond.code ({ cls := "AntennaTunerModel", name := "present", desc := "()I" } : Jvm.MethodName) prog_21_method_59_code (1 : Nat) (Option.some Jvm.ClassFile.FieldType.int)) ∈ lw_all := lw_g (lw_at lw_m8 233 rfl) rfl
theorem q2007 : (Jvm.Cond.methodLink "AntennaTunerModel" (333 : Nat) ({ cls := "AntennaTunerModel", name := "ratio", desc := "(II)I" } : Jvm.MethodName)) ∈ lw_all := lw_g (lw_at lw_m8 234 rfl) rfl
theorem q2008 : (Jvm.Cond.privateMethod ({ cls := "AntennaTunerModel", name := "ratio", desc := "(II)I" } : Jvm.MethodName)) ∈ lw_tbl := lw_at lw_m8 235 rfl
theorem q2009 : (Jvm.Cond.instanceMethod ({ cls := "AntennaTunerModel", name := "ratio", desc := "(II)I" } : Jvm.MethodName)) ∈ lw_all := lw_g (lw_at lw_m8 236 rfl) rfl
theorem q2010 : (Jvm.Cond.code ({ cls := "AntennaTunerModel", name := "ratio", desc := "(II)I" } : Jvm.MethodName) prog_21_method_58_code (7 : Nat) (Option.some Jvm.ClassFile.FieldType.int)) ∈ lw_all := lw_g (lw_at lw_m8 237 rfl) rfl
theorem q2011 : (Jvm.Cond.constantLong "AntennaTunerModel" (324 : Nat) (50000 : Int64)) ∈ lw_all := lw_g (lw_at lw_m8 238 rfl) rfl
theorem q2012 : (Jvm.Cond.methodLink "AntennaTunerModel" (326 : Nat) ({ cls := "AntennaTunerModel", name := "root", desc := "(J)J" } : Jvm.MethodName)) ∈ lw_all := lw_g (lw_at lw_m8 239 rfl) rfl
theorem q2013 : (Jvm.Cond.static ({ cls := "AntennaTunerModel", name := "root", desc := "(J)J" } : Jvm.MethodName)) ∈ lw_all := lw_g (lw_at lw_m9 0 rfl) rfl
theorem q2014 : (Jvm.Cond.code ({ cls := "AntennaTunerModel", name := "root", desc := "(J)J" } : Jvm.MethodName) prog_21_method_4_code (8 : Nat) (Option.some Jvm.ClassFile.FieldType.long)) ∈ lw_all := lw_g (lw_at lw_m9 1 rfl) rfl
theorem q2015 : (Jvm.Cond.constantLong "AntennaTunerModel" (64 : Nat) (3037000499 : Int64)) ∈ lw_all := lw_g (lw_at lw_m9 2 rfl) rfl
theorem q2016 : (Jvm.Cond.constantLong "AntennaTunerModel" (66 : Nat) (2 : Int64)) ∈ lw_all := lw_g (lw_at lw_m9 3 rfl) rfl
theorem q2017 : (Jvm.Cond.constant "AntennaTunerModel" (330 : Nat) (99999 : Int32)) ∈ lw_all := lw_g (lw_at lw_m9 4 rfl) rfl
theorem q2018 : (Jvm.Cond.constantLong "AntennaTunerModel" (331 : Nat) (99999 : Int64)) ∈ lw_all := lw_g (lw_at lw_m9 5 rfl) rfl
theorem q2020 : (Jvm.Cond.instanceMethod ({ cls := "AntennaTunerModel", name := "swrAt", desc := "(I)I" } : Jvm.MethodName)) ∈ lw_all := lw_g (lw_at lw_m9 7 rfl) rfl
theorem q2021 : (Jvm.Cond.selects "AntennaTunerModel" ({ cls := "AntennaTunerModel", name := "swrAt", desc := "(I)I" } : Jvm.MethodName) ({ cls := "AntennaTunerModel", name := "swrAt", desc := "(I)I" } : Jvm.MethodName)) ∈ lw_all := lw_g (lw_at lw_m9 8 rfl) rfl
theorem q2022 : (Jvm.Cond.code ({ cls := "AntennaTunerModel", name := "swrAt", desc := "(I)I" } : Jvm.MethodName) prog_21_method_61_code (2 : Nat) (Option.some Jvm.ClassFile.FieldType.int)) ∈ lw_all := lw_g (lw_at lw_m9 9 rfl) rfl
theorem q2024 : (Jvm.Cond.instanceMethod ({ cls := "AntennaTunerModel", name := "swrWith", desc := "(III)I" } : Jvm.MethodName)) ∈ lw_all := lw_g (lw_at lw_m9 11 rfl) rfl
theorem q2025 : (Jvm.Cond.selects "AntennaTunerModel" ({ cls := "AntennaTunerModel", name := "swrWith", desc := "(III)I" } : Jvm.MethodName) ({ cls := "AntennaTunerModel", name := "swrWith", desc := "(III)I" } : Jvm.MethodName)) ∈ lw_all := lw_g (lw_at lw_m9 12 rfl) rfl
theorem q2026 : (Jvm.Cond.code ({ cls := "AntennaTunerModel", name := "swrWith", desc := "(III)I" } : Jvm.MethodName) prog_21_method_62_code (4 : Nat) (Option.some Jvm.ClassFile.FieldType.int)) ∈ lw_all := lw_g (lw_at lw_m9 13 rfl) rfl
theorem q2028 : (Jvm.Cond.instanceMethod ({ cls := "AntennaTunerModel", name := "efficiency", desc := "()I" } : Jvm.MethodName)) ∈ lw_all := lw_g (lw_at lw_m9 15 rfl) rfl
theorem q2029 : (Jvm.Cond.selects "AntennaTunerModel" ({ cls := "AntennaTunerModel", name := "efficiency", desc := "()I" } : Jvm.MethodName) ({ cls := "AntennaTunerModel", name := "efficiency", desc := "()I" } : Jvm.MethodName)) ∈ lw_all := lw_g (lw_at lw_m9 16 rfl) rfl
theorem q2030 : (Jvm.Cond.code ({ cls := "AntennaTunerModel", name := "efficiency", desc := "()I" } : Jvm.MethodName) prog_21_method_66_code (1 : Nat) (Option.some Jvm.ClassFile.FieldType.int)) ∈ lw_all := lw_g (lw_at lw_m9 17 rfl) rfl
theorem q2031 : (Jvm.Cond.methodLink "AntennaTunerModel" (341 : Nat) ({ cls := "AntennaTunerModel", name := "efficiencyOf", desc := "(I)I" } : Jvm.MethodName)) ∈ lw_all := lw_g (lw_at lw_m9 18 rfl) rfl
theorem q2032 : (Jvm.Cond.privateMethod ({ cls := "AntennaTunerModel", name := "efficiencyOf", desc := "(I)I" } : Jvm.MethodName)) ∈ lw_tbl := lw_at lw_m9 19 rfl
theorem q2033 : (Jvm.Cond.instanceMethod ({ cls := "AntennaTunerModel", name := "efficiencyOf", desc := "(I)I" } : Jvm.MethodName)) ∈ lw_all := lw_g (lw_at lw_m9 20 rfl) rfl
theorem q2034 : (Jvm.Cond.code ({ cls := "AntennaTunerModel", name := "efficiencyOf", desc := "(I)I" } : Jvm.MethodName) prog_21_method_63_code (4 : Nat) (Option.some Jvm.ClassFile.FieldType.int)) ∈ lw_all := lw_g (lw_at lw_m9 21 rfl) rfl
theorem q2035 : (Jvm.Cond.constantLong "AntennaTunerModel" (339 : Nat) (1000 : Int64)) ∈ lw_all := lw_g (lw_at lw_m9 22 rfl) rfl
theorem q2037 : (Jvm.Cond.instanceMethod ({ cls := "AntennaTunerModel", name := "capacitorVoltage", desc := "()I" } : Jvm.MethodName)) ∈ lw_all := lw_g (lw_at lw_m9 24 rfl) rfl
theorem q2038 : (Jvm.Cond.selects "AntennaTunerModel" ({ cls := "AntennaTunerModel", name := "capacitorVoltage", desc := "()I" } : Jvm.MethodName) ({ cls := "AntennaTunerModel", name := "capacitorVoltage", desc := "()I" } : Jvm.MethodName)) ∈ lw_all := lw_g (lw_at lw_m9 25 rfl) rfl
theorem q2039 : (Jvm.Cond.code ({ cls := "AntennaTunerModel", name := "capacitorVoltage", desc := "()I" } : Jvm.MethodName) prog_21_method_67_code (1 : Nat) (Option.some Jvm.ClassFile.FieldType.int)) ∈ lw_all := lw_g (lw_at lw_m9 26 rfl) rfl
theorem q2040 : (Jvm.Cond.methodLink "AntennaTunerModel" (346 : Nat) ({ cls := "AntennaTunerModel", name := "voltageOf", desc := "(II)I" } : Jvm.MethodName)) ∈ lw_all := lw_g (lw_at lw_m9 27 rfl) rfl
theorem q2041 : (Jvm.Cond.privateMethod ({ cls := "AntennaTunerModel", name := "voltageOf", desc := "(II)I" } : Jvm.MethodName)) ∈ lw_tbl := lw_at lw_m9 28 rfl
theorem q2042 : (Jvm.Cond.instanceMethod ({ cls := "AntennaTunerModel", name := "voltageOf", desc := "(II)I" } : Jvm.MethodName)) ∈ lw_all := lw_g (lw_at lw_m9 29 rfl) rfl
theorem q2043 : (Jvm.Cond.code ({ cls := "AntennaTunerModel", name := "voltageOf", desc := "(II)I" } : Jvm.MethodName) prog_21_method_64_code (13 : Nat) (Option.some Jvm.ClassFile.FieldType.int)) ∈ lw_all := lw_g (lw_at lw_m9 30 rfl) rfl
theorem q2044 : (Jvm.Cond.constantLong "AntennaTunerModel" (344 : Nat) (1000000000000 : Int64)) ∈ lw_all := lw_g (lw_at lw_m9 31 rfl) rfl
theorem q2046 : (Jvm.Cond.instanceMethod ({ cls := "AntennaTunerModel", name := "greatestPower", desc := "()I" } : Jvm.MethodName)) ∈ lw_all := lw_g (lw_at lw_m9 33 rfl) rfl
theorem q2047 : (Jvm.Cond.selects "AntennaTunerModel" ({ cls := "AntennaTunerModel", name := "greatestPower", desc := "()I" } : Jvm.MethodName) ({ cls := "AntennaTunerModel", name := "greatestPower", desc := "()I" } : Jvm.MethodName)) ∈ lw_all := lw_g (lw_at lw_m9 34 rfl) rfl
theorem q2048 : (Jvm.Cond.code ({ cls := "AntennaTunerModel", name := "greatestPower", desc := "()I" } : Jvm.MethodName) prog_21_method_68_code (2 : Nat) (Option.some Jvm.ClassFile.FieldType.int)) ∈ lw_all := lw_g (lw_at lw_m9 35 rfl) rfl
theorem q2050 : (Jvm.Cond.instanceMethod ({ cls := "AntennaTunerModel", name := "highestMatched", desc := "()I" } : Jvm.MethodName)) ∈ lw_all := lw_g (lw_at lw_m9 37 rfl) rfl
theorem q2051 : (Jvm.Cond.selects "AntennaTunerModel" ({ cls := "AntennaTunerModel", name := "highestMatched", desc := "()I" } : Jvm.MethodName) ({ cls := "AntennaTunerModel", name := "highestMatched", desc := "()I" } : Jvm.MethodName)) ∈ lw_all := lw_g (lw_at lw_m9 38 rfl) rfl
theorem q2052 : (Jvm.Cond.code ({ cls := "AntennaTunerModel", name := "highestMatched", desc := "()I" } : Jvm.MethodName) prog_21_method_70_code (1 : Nat) (Option.some Jvm.ClassFile.FieldType.int)) ∈ lw_all := lw_g (lw_at lw_m9 39 rfl) rfl
theorem q2053 : (Jvm.Cond.methodLink "AntennaTunerModel" (349 : Nat) ({ cls := "AntennaTunerModel", name := "lastMatched", desc := "(I)I" } : Jvm.MethodName)) ∈ lw_all := lw_g (lw_at lw_m9 40 rfl) rfl
theorem q2054 : (Jvm.Cond.privateMethod ({ cls := "AntennaTunerModel", name := "lastMatched", desc := "(I)I" } : Jvm.MethodName)) ∈ lw_tbl := lw_at lw_m9 41 rfl
theorem q2055 : (Jvm.Cond.instanceMethod ({ cls := "AntennaTunerModel", name := "lastMatched", desc := "(I)I" } : Jvm.MethodName)) ∈ lw_all := lw_g (lw_at lw_m9 42 rfl) rfl
theorem q2056 : (Jvm.Cond.code ({ cls := "AntennaTunerModel", name := "lastMatched", desc := "(I)I" } : Jvm.MethodName) prog_21_method_69_code (4 : Nat) (Option.some Jvm.ClassFile.FieldType.int)) ∈ lw_all := lw_g (lw_at lw_m9 43 rfl) rfl
theorem q2058 : (Jvm.Cond.instanceMethod ({ cls := "AntennaTunerModel", name := "lowestMatched", desc := "()I" } : Jvm.MethodName)) ∈ lw_all := lw_g (lw_at lw_m9 45 rfl) rfl
theorem q2059 : (Jvm.Cond.selects "AntennaTunerModel" ({ cls := "AntennaTunerModel", name := "lowestMatched", desc := "()I" } : Jvm.MethodName) ({ cls := "AntennaTunerModel", name := "lowestMatched", desc := "()I" } : Jvm.MethodName)) ∈ lw_all := lw_g (lw_at lw_m9 46 rfl) rfl
theorem q2060 : (Jvm.Cond.code ({ cls := "AntennaTunerModel", name := "lowestMatched", desc := "()I" } : Jvm.MethodName) prog_21_method_71_code (1 : Nat) (Option.some Jvm.ClassFile.FieldType.int)) ∈ lw_all := lw_g (lw_at lw_m9 47 rfl) rfl
theorem q2062 : (Jvm.Cond.instanceMethod ({ cls := "AntennaTunerModel", name := "worstInBand", desc := "(I)I" } : Jvm.MethodName)) ∈ lw_all := lw_g (lw_at lw_m9 49 rfl) rfl
theorem q2063 : (Jvm.Cond.selects "AntennaTunerModel" ({ cls := "AntennaTunerModel", name := "worstInBand", desc := "(I)I" } : Jvm.MethodName) ({ cls := "AntennaTunerModel", name := "worstInBand", desc := "(I)I" } : Jvm.MethodName)) ∈ lw_all := lw_g (lw_at lw_m9 50 rfl) rfl
theorem q2064 : (Jvm.Cond.code ({ cls := "AntennaTunerModel", name := "worstInBand", desc := "(I)I" } : Jvm.MethodName) prog_21_method_72_code (6 : Nat) (Option.some Jvm.ClassFile.FieldType.int)) ∈ lw_all := lw_g (lw_at lw_m9 51 rfl) rfl
theorem q2066 : (Jvm.Cond.instanceMethod ({ cls := "AntennaTunerModel", name := "transmit", desc := "(I)I" } : Jvm.MethodName)) ∈ lw_all := lw_g (lw_at lw_m9 53 rfl) rfl
theorem q2067 : (Jvm.Cond.selects "AntennaTunerModel" ({ cls := "AntennaTunerModel", name := "transmit", desc := "(I)I" } : Jvm.MethodName) ({ cls := "AntennaTunerModel", name := "transmit", desc := "(I)I" } : Jvm.MethodName)) ∈ lw_all := lw_g (lw_at lw_m9 54 rfl) rfl
theorem q2068 : (Jvm.Cond.code ({ cls := "AntennaTunerModel", name := "transmit", desc := "(I)I" } : Jvm.MethodName) prog_21_method_74_code (7 : Nat) (Option.some Jvm.ClassFile.FieldType.int)) ∈ lw_all := lw_g (lw_at lw_m9 55 rfl) rfl
theorem q2069 : (Jvm.Cond.constantLong "AntennaTunerModel" (352 : Nat) (50 : Int64)) ∈ lw_all := lw_g (lw_at lw_m9 56 rfl) rfl
theorem q2070 : (Jvm.Cond.methodLink "AntennaTunerModel" (354 : Nat) ({ cls := "AntennaTunerModel", name := "isOverloaded", desc := "(I)Z" } : Jvm.MethodName)) ∈ lw_all := lw_g (lw_at lw_m9 57 rfl) rfl
theorem q2071 : (Jvm.Cond.privateMethod ({ cls := "AntennaTunerModel", name := "isOverloaded", desc := "(I)Z" } : Jvm.MethodName)) ∈ lw_tbl := lw_at lw_m9 58 rfl
theorem q2072 : (Jvm.Cond.instanceMethod ({ cls := "AntennaTunerModel", name := "isOverloaded", desc := "(I)Z" } : Jvm.MethodName)) ∈ lw_all := lw_g (lw_at lw_m9 59 rfl) rfl
theorem q2073 : (Jvm.Cond.code ({ cls := "AntennaTunerModel", name := "isOverloaded", desc := "(I)Z" } : Jvm.MethodName) prog_21_method_65_code (2 : Nat) (Option.some Jvm.ClassFile.FieldType.boolean)) ∈ lw_all := lw_g (lw_at lw_m9 60 rfl) rfl
theorem q2074 : (Jvm.Cond.constantLong "AntennaTunerModel" (357 : Nat) (4 : Int64)) ∈ lw_all := lw_g (lw_at lw_m9 61 rfl) rfl
theorem q2075 : (Jvm.Cond.methodLink "AntennaTunerModel" (359 : Nat) ({ cls := "AntennaTunerModel", name := "keepReading", desc := "(II)V" } : Jvm.MethodName)) ∈ lw_all := lw_g (lw_at lw_m9 62 rfl) rfl
theorem q2076 : (Jvm.Cond.privateMethod ({ cls := "AntennaTunerModel", name := "keepReading", desc := "(II)V" } : Jvm.MethodName)) ∈ lw_tbl := lw_at lw_m9 63 rfl
theorem q2077 : (Jvm.Cond.instanceMethod ({ cls := "AntennaTunerModel", name := "keepReading", desc := "(II)V" } : Jvm.MethodName)) ∈ lw_all := lw_g (lw_at lw_m9 64 rfl) rfl
theorem q2078 : (Jvm.Cond.code ({ cls := "AntennaTunerModel", name := "keepReading", desc := "(II)V" } : Jvm.MethodName) prog_21_method_73_code (4 : Nat) (Option.none : Option Jvm.ClassFile.FieldType)) ∈ lw_all := lw_g (lw_at lw_m9 65 rfl) rfl
theorem q2080 : (Jvm.Cond.instanceMethod ({ cls := "AntennaTunerModel", name := "readingCount", desc := "()I" } : Jvm.MethodName)) ∈ lw_all := lw_g (lw_at lw_m9 67 rfl) rfl
theorem q2081 : (Jvm.Cond.selects "AntennaTunerModel" ({ cls := "AntennaTunerModel", name := "readingCount", desc := "()I" } : Jvm.MethodName) ({ cls := "AntennaTunerModel", name := "readingCount", desc := "()I" } : Jvm.MethodName)) ∈ lw_all := lw_g (lw_at lw_m9 68 rfl) rfl
theorem q2082 : (Jvm.Cond.code ({ cls := "AntennaTunerModel", name := "readingCount", desc := "()I" } : Jvm.MethodName) prog_21_method_75_code (1 : Nat) (Option.some Jvm.ClassFile.FieldType.int)) ∈ lw_all := lw_g (lw_at lw_m9 69 rfl) rfl
theorem q2084 : (Jvm.Cond.instanceMethod ({ cls := "AntennaTunerModel", name := "reading", desc := "(I)I" } : Jvm.MethodName)) ∈ lw_all := lw_g (lw_at lw_m9 71 rfl) rfl
theorem q2085 : (Jvm.Cond.selects "AntennaTunerModel" ({ cls := "AntennaTunerModel", name := "reading", desc := "(I)I" } : Jvm.MethodName) ({ cls := "AntennaTunerModel", name := "reading", desc := "(I)I" } : Jvm.MethodName)) ∈ lw_all := lw_g (lw_at lw_m9 72 rfl) rfl
theorem q2086 : (Jvm.Cond.code ({ cls := "AntennaTunerModel", name := "reading", desc := "(I)I" } : Jvm.MethodName) prog_21_method_76_code (2 : Nat) (Option.some Jvm.ClassFile.FieldType.int)) ∈ lw_all := lw_g (lw_at lw_m9 73 rfl) rfl
theorem q2088 : (Jvm.Cond.instanceMethod ({ cls := "AntennaTunerModel", name := "heat", desc := "()I" } : Jvm.MethodName)) ∈ lw_all := lw_g (lw_at lw_m9 75 rfl) rfl
theorem q2089 : (Jvm.Cond.selects "AntennaTunerModel" ({ cls := "AntennaTunerModel", name := "heat", desc := "()I" } : Jvm.MethodName) ({ cls := "AntennaTunerModel", name := "heat", desc := "()I" } : Jvm.MethodName)) ∈ lw_all := lw_g (lw_at lw_m9 76 rfl) rfl
theorem q2090 : (Jvm.Cond.code ({ cls := "AntennaTunerModel", name := "heat", desc := "()I" } : Jvm.MethodName) prog_21_method_77_code (1 : Nat) (Option.some Jvm.ClassFile.FieldType.int)) ∈ lw_all := lw_g (lw_at lw_m9 77 rfl) rfl
theorem q2092 : (Jvm.Cond.instanceMethod ({ cls := "AntennaTunerModel", name := "arcsNoticed", desc := "(I)I" } : Jvm.MethodName)) ∈ lw_all := lw_g (lw_at lw_m9 79 rfl) rfl
theorem q2093 : (Jvm.Cond.selects "AntennaTunerModel" ({ cls := "AntennaTunerModel", name := "arcsNoticed", desc := "(I)I" } : Jvm.MethodName) ({ cls := "AntennaTunerModel", name := "arcsNoticed", desc := "(I)I" } : Jvm.MethodName)) ∈ lw_all := lw_g (lw_at lw_m9 80 rfl) rfl
theorem q2094 : (Jvm.Cond.code ({ cls := "AntennaTunerModel", name := "arcsNoticed", desc := "(I)I" } : Jvm.MethodName) prog_21_method_78_code (5 : Nat) (Option.some Jvm.ClassFile.FieldType.int)) ∈ lw_all := lw_g (lw_at lw_m9 81 rfl) rfl
theorem q2095 : (Jvm.Cond.constantLong "AntennaTunerModel" (362 : Nat) (11 : Int64)) ∈ lw_all := lw_g (lw_at lw_m9 82 rfl) rfl
theorem q2096 : (Jvm.Cond.constantLong "AntennaTunerModel" (364 : Nat) (10 : Int64)) ∈ lw_all := lw_g (lw_at lw_m9 83 rfl) rfl
theorem q2098 : (Jvm.Cond.instanceMethod ({ cls := "AntennaTunerModel", name := "tune", desc := "()I" } : Jvm.MethodName)) ∈ lw_all := lw_g (lw_at lw_m9 85 rfl) rfl
theorem q2099 : (Jvm.Cond.selects "AntennaTunerModel" ({ cls := "AntennaTunerModel", name := "tune", desc := "()I" } : Jvm.MethodName) ({ cls := "AntennaTunerModel", name := "tune", desc := "()I" } : Jvm.MethodName)) ∈ lw_all := lw_g (lw_at lw_m9 86 rfl) rfl
theorem q2100 : (Jvm.Cond.code ({ cls := "AntennaTunerModel", name := "tune", desc := "()I" } : Jvm.MethodName) prog_21_method_83_code (1 : Nat) (Option.some Jvm.ClassFile.FieldType.int)) ∈ lw_all := lw_g (lw_at lw_m9 87 rfl) rfl
theorem q2101 : (Jvm.Cond.methodLink "AntennaTunerModel" (391 : Nat) ({ cls := "AntennaTunerModel", name := "finish", desc := "(I)I" } : Jvm.MethodName)) ∈ lw_all := lw_g (lw_at lw_m9 88 rfl) rfl
theorem q2102 : (Jvm.Cond.privateMethod ({ cls := "AntennaTunerModel", name := "finish", desc := "(I)I" } : Jvm.MethodName)) ∈ lw_tbl := lw_at lw_m9 89 rfl
theorem q2103 : (Jvm.Cond.instanceMethod ({ cls := "AntennaTunerModel", name := "finish", desc := "(I)I" } : Jvm.MethodName)) ∈ lw_all := lw_g (lw_at lw_m9 90 rfl) rfl
theorem q2104 : (Jvm.Cond.code ({ cls := "AntennaTunerModel", name := "finish", desc := "(I)I" } : Jvm.MethodName) prog_21_method_82_code (2 : Nat) (Option.some Jvm.ClassFile.FieldType.int)) ∈ lw_all := lw_g (lw_at lw_m9 91 rfl) rfl
theorem q2105 : (Jvm.Cond.methodLink "AntennaTunerModel" (382 : Nat) ({ cls := "AntennaTunerModel", name := "search", desc := "(I)V" } : Jvm.MethodName)) ∈ lw_all := lw_g (lw_at lw_m9 92 rfl) rfl
theorem q2106 : (Jvm.Cond.privateMethod ({ cls := "AntennaTunerModel", name := "search", desc := "(I)V" } : Jvm.MethodName)) ∈ lw_tbl := lw_at lw_m9 93 rfl
theorem q2107 : (Jvm.Cond.instanceMethod ({ cls := "AntennaTunerModel", name := "search", desc := "(I)V" } : Jvm.MethodName)) ∈ lw_all := lw_g (lw_at lw_m9 94 rfl) rfl
theorem q2108 : (Jvm.Cond.code ({ cls := "AntennaTunerModel", name := "search", desc := "(I)V" } : Jvm.MethodName) prog_21_method_80_code (6 : Nat) (Option.none : Option Jvm.ClassFile.FieldType)) ∈ lw_all := lw_g (lw_at lw_m9 95 rfl) rfl
theorem q2109 : (Jvm.Cond.methodLink "AntennaTunerModel" (378 : Nat) ({ cls := "AntennaTunerModel", name := "tryOne", desc := "(III)V" } : Jvm.MethodName)) ∈ lw_all := lw_g (lw_at lw_m9 96 rfl) rfl
theorem q2110 : (Jvm.Cond.privateMethod ({ cls := "AntennaTunerModel", name := "tryOne", desc := "(III)V" } : Jvm.MethodName)) ∈ lw_tbl := lw_at lw_m9 97 rfl
theorem q2111 : (Jvm.Cond.instanceMethod ({ cls := "AntennaTunerModel", name := "tryOne", desc := "(III)V" } : Jvm.MethodName)) ∈ lw_all := lw_g (lw_at lw_m9 98 rfl) rfl
theorem q2112 : (Jvm.Cond.code ({ cls := "AntennaTunerModel", name := "tryOne", desc := "(III)V" } : Jvm.MethodName) prog_21_method_79_code (6 : Nat) (Option.none : Option Jvm.ClassFile.FieldType)) ∈ lw_all := lw_g (lw_at lw_m9 99 rfl) rfl
theorem q2113 : (Jvm.Cond.methodLink "AntennaTunerModel" (385 : Nat) ({ cls := "AntennaTunerModel", name := "link", desc := "(II)V" } : Jvm.MethodName)) ∈ lw_all := lw_g (lw_at lw_m9 100 rfl) rfl
theorem q2114 : (Jvm.Cond.privateMethod ({ cls := "AntennaTunerModel", name := "link", desc := "(II)V" } : Jvm.MethodName)) ∈ lw_tbl := lw_at lw_m9 101 rfl
theorem q2115 : (Jvm.Cond.instanceMethod ({ cls := "AntennaTunerModel", name := "link", desc := "(II)V" } : Jvm.MethodName)) ∈ lw_all := lw_g (lw_at lw_m9 102 rfl) rfl
theorem q2116 : (Jvm.Cond.code ({ cls := "AntennaTunerModel", name := "link", desc := "(II)V" } : Jvm.MethodName) prog_21_method_89_code (3 : Nat) (Option.none : Option Jvm.ClassFile.FieldType)) ∈ lw_all := lw_g (lw_at lw_m9 103 rfl) rfl
theorem q2117 : (Jvm.Cond.methodLink "AntennaTunerModel" (388 : Nat) ({ cls := "AntennaTunerModel", name := "isEdge", desc := "(I)Z" } : Jvm.MethodName)) ∈ lw_all := lw_g (lw_at lw_m9 104 rfl) rfl
theorem q2118 : (Jvm.Cond.static ({ cls := "AntennaTunerModel", name := "isEdge", desc := "(I)Z" } : Jvm.MethodName)) ∈ lw_all := lw_g (lw_at lw_m9 105 rfl) rfl
theorem q2119 : (Jvm.Cond.code ({ cls := "AntennaTunerModel", name := "isEdge", desc := "(I)Z" } : Jvm.MethodName) prog_21_method_81_code (1 : Nat) (Option.some Jvm.ClassFile.FieldType.boolean)) ∈ lw_all := lw_g (lw_at lw_m9 106 rfl) rfl
theorem q2121 : (Jvm.Cond.instanceMethod ({ cls := "AntennaTunerModel", name := "tuneCold", desc := "()I" } : Jvm.MethodName)) ∈ lw_all := lw_g (lw_at lw_m9 108 rfl) rfl
theorem q2122 : (Jvm.Cond.selects "AntennaTunerModel" ({ cls := "AntennaTunerModel", name := "tuneCold", desc := "()I" } : Jvm.MethodName) ({ cls := "AntennaTunerModel", name := "tuneCold", desc := "()I" } : Jvm.MethodName)) ∈ lw_all := lw_g (lw_at lw_m9 109 rfl) rfl
theorem q2123 : (Jvm.Cond.code ({ cls := "AntennaTunerModel", name := "tuneCold", desc := "()I" } : Jvm.MethodName) prog_21_method_84_code (1 : Nat) (Option.some Jvm.ClassFile.FieldType.int)) ∈ lw_all := lw_g (lw_at lw_m9 110 rfl) rfl
theorem q2125 : (Jvm.Cond.instanceMethod ({ cls := "AntennaTunerModel", name := "tuneFromMemory", desc := "()I" } : Jvm.MethodName)) ∈ lw_all := lw_g (lw_at lw_m9 112 rfl) rfl
theorem q2126 : (Jvm.Cond.selects "AntennaTunerModel" ({ cls := "AntennaTunerModel", name := "tuneFromMemory", desc := "()I" } : Jvm.MethodName) ({ cls := "AntennaTunerModel", name := "tuneFromMemory", desc := "()I" } : Jvm.MethodName)) ∈ lw_all := lw_g (lw_at lw_m9 113 rfl) rfl
theorem q2127 : (Jvm.Cond.code ({ cls := "AntennaTunerModel", name := "tuneFromMemory", desc := "()I" } : Jvm.MethodName) prog_21_method_85_code (4 : Nat) (Option.some Jvm.ClassFile.FieldType.int)) ∈ lw_all := lw_g (lw_at lw_m9 114 rfl) rfl
theorem q2128 : (Jvm.Cond.methodLink "AntennaTunerModel" (394 : Nat) ({ cls := "AntennaTunerModel", name := "suitable", desc := "()I" } : Jvm.MethodName)) ∈ lw_all := lw_g (lw_at lw_m9 115 rfl) rfl
theorem q2129 : (Jvm.Cond.privateMethod ({ cls := "AntennaTunerModel", name := "suitable", desc := "()I" } : Jvm.MethodName)) ∈ lw_tbl := lw_at lw_m9 116 rfl
theorem q2130 : (Jvm.Cond.instanceMethod ({ cls := "AntennaTunerModel", name := "suitable", desc := "()I" } : Jvm.MethodName)) ∈ lw_all := lw_g (lw_at lw_m9 117 rfl) rfl
theorem q2131 : (Jvm.Cond.code ({ cls := "AntennaTunerModel", name := "suitable", desc := "()I" } : Jvm.MethodName) prog_21_method_95_code (7 : Nat) (Option.some Jvm.ClassFile.FieldType.int)) ∈ lw_all := lw_g (lw_at lw_m9 118 rfl) rfl
theorem q2132 : (Jvm.Cond.methodLink "AntennaTunerModel" (397 : Nat) ({ cls := "AntennaTunerModel", name := "linkMissing", desc := "()V" } : Jvm.MethodName)) ∈ lw_all := lw_g (lw_at lw_m9 119 rfl) rfl
theorem q2133 : (Jvm.Cond.privateMethod ({ cls := "AntennaTunerModel", name := "linkMissing", desc := "()V" } : Jvm.MethodName)) ∈ lw_tbl := lw_at lw_m9 120 rfl
theorem q2134 : (Jvm.Cond.instanceMethod ({ cls := "AntennaTunerModel", name := "linkMissing", desc := "()V" } : Jvm.MethodName)) ∈ lw_all := lw_g (lw_at lw_m9 121 rfl) rfl
theorem q2135 : (Jvm.Cond.code ({ cls := "AntennaTunerModel", name := "linkMissing", desc := "()V" } : Jvm.MethodName) prog_21_method_90_code (1 : Nat) (Option.none : Option Jvm.ClassFile.FieldType)) ∈ lw_all := lw_g (lw_at lw_m9 122 rfl) rfl
theorem q2137 : (Jvm.Cond.instanceMethod ({ cls := "AntennaTunerModel", name := "evaluations", desc := "()I" } : Jvm.MethodName)) ∈ lw_all := lw_g (lw_at lw_m9 124 rfl) rfl
theorem q2138 : (Jvm.Cond.selects "AntennaTunerModel" ({ cls := "AntennaTunerModel", name := "evaluations", desc := "()I" } : Jvm.MethodName) ({ cls := "AntennaTunerModel", name := "evaluations", desc := "()I" } : Jvm.MethodName)) ∈ lw_all := lw_g (lw_at lw_m9 125 rfl) rfl
theorem q2139 : (Jvm.Cond.code ({ cls := "AntennaTunerModel", name := "evaluations", desc := "()I" } : Jvm.MethodName) prog_21_method_86_code (1 : Nat) (Option.some Jvm.ClassFile.FieldType.int)) ∈ lw_all := lw_g (lw_at lw_m9 126 rfl) rfl
theorem q2141 : (Jvm.Cond.instanceMethod ({ cls := "AntennaTunerModel", name := "bestSettings", desc := "()I" } : Jvm.MethodName)) ∈ lw_all := lw_g (lw_at lw_m9 128 rfl) rfl
theorem q2142 : (Jvm.Cond.selects "AntennaTunerModel" ({ cls := "AntennaTunerModel", name := "bestSettings", desc := "()I" } : Jvm.MethodName) ({ cls := "AntennaTunerModel", name := "bestSettings", desc := "()I" } : Jvm.MethodName)) ∈ lw_all := lw_g (lw_at lw_m9 129 rfl) rfl
theorem q2143 : (Jvm.Cond.code ({ cls := "AntennaTunerModel", name := "bestSettings", desc := "()I" } : Jvm.MethodName) prog_21_method_87_code (5 : Nat) (Option.some Jvm.ClassFile.FieldType.int)) ∈ lw_all := lw_g (lw_at lw_m9 130 rfl) rfl
theorem q2144 : (Jvm.Cond.constant "AntennaTunerModel" (400 : Nat) (100000 : Int32)) ∈ lw_all := lw_g (lw_at lw_m9 131 rfl) rfl
theorem q2146 : (Jvm.Cond.instanceMethod ({ cls := "AntennaTunerModel", name := "mostEfficient", desc := "()I" } : Jvm.MethodName)) ∈ lw_all := lw_g (lw_at lw_m9 133 rfl) rfl
theorem q2147 : (Jvm.Cond.selects "AntennaTunerModel" ({ cls := "AntennaTunerModel", name := "mostEfficient", desc := "()I" } : Jvm.MethodName) ({ cls := "AntennaTunerModel", name := "mostEfficient", desc := "()I" } : Jvm.MethodName)) ∈ lw_all := lw_g (lw_at lw_m9 134 rfl) rfl
theorem q2148 : (Jvm.Cond.code ({ cls := "AntennaTunerModel", name := "mostEfficient", desc := "()I" } : Jvm.MethodName) prog_21_method_88_code (5 : Nat) (Option.some Jvm.ClassFile.FieldType.int)) ∈ lw_all := lw_g (lw_at lw_m9 135 rfl) rfl
theorem q2150 : (Jvm.Cond.instanceMethod ({ cls := "AntennaTunerModel", name := "failureDepth", desc := "()I" } : Jvm.MethodName)) ∈ lw_all := lw_g (lw_at lw_m9 137 rfl) rfl
theorem q2151 : (Jvm.Cond.selects "AntennaTunerModel" ({ cls := "AntennaTunerModel", name := "failureDepth", desc := "()I" } : Jvm.MethodName) ({ cls := "AntennaTunerModel", name := "failureDepth", desc := "()I" } : Jvm.MethodName)) ∈ lw_all := lw_g (lw_at lw_m9 138 rfl) rfl
theorem q2152 : (Jvm.Cond.code ({ cls := "AntennaTunerModel", name := "failureDepth", desc := "()I" } : Jvm.MethodName) prog_21_method_91_code (1 : Nat) (Option.some Jvm.ClassFile.FieldType.int)) ∈ lw_all := lw_g (lw_at lw_m9 139 rfl) rfl
theorem q2154 : (Jvm.Cond.instanceMethod ({ cls := "AntennaTunerModel", name := "failureKind", desc := "(I)I" } : Jvm.MethodName)) ∈ lw_all := lw_g (lw_at lw_m9 141 rfl) rfl
theorem q2155 : (Jvm.Cond.selects "AntennaTunerModel" ({ cls := "AntennaTunerModel", name := "failureKind", desc := "(I)I" } : Jvm.MethodName) ({ cls := "AntennaTunerModel", name := "failureKind", desc := "(I)I" } : Jvm.MethodName)) ∈ lw_all := lw_g (lw_at lw_m9 142 rfl) rfl
theorem q2156 : (Jvm.Cond.code ({ cls := "AntennaTunerModel", name := "failureKind", desc := "(I)I" } : Jvm.MethodName) prog_21_method_92_code (2 : Nat) (Option.some Jvm.ClassFile.FieldType.int)) ∈ lw_all := lw_g (lw_at lw_m9 143 rfl) rfl
theorem q2158 : (Jvm.Cond.instanceMethod ({ cls := "AntennaTunerModel", name := "failureValue", desc := "(I)I" } : Jvm.MethodName)) ∈ lw_all := lw_g (lw_at lw_m9 145 rfl) rfl
theorem q2159 : (Jvm.Cond.selects "AntennaTunerModel" ({ cls := "AntennaTunerModel", name := "failureValue", desc := "(I)I" } : Jvm.MethodName) ({ cls := "AntennaTunerModel", name := "failureValue", desc := "(I)I" } : Jvm.MethodName)) ∈ lw_all := lw_g (lw_at lw_m9 146 rfl) rfl
theorem q2160 : (Jvm.Cond.code ({ cls := "AntennaTunerModel", name := "failureValue", desc := "(I)I" } : Jvm.MethodName) prog_21_method_93_code (2 : Nat) (Option.some Jvm.ClassFile.FieldType.int)) ∈ lw_all := lw_g (lw_at lw_m9 147 rfl) rfl
theorem q2162 : (Jvm.Cond.instanceMethod ({ cls := "AntennaTunerModel", name := "store", desc := "()I" } : Jvm.MethodName)) ∈ lw_all := lw_g (lw_at lw_m9 149 rfl) rfl
theorem q2163 : (Jvm.Cond.selects "AntennaTunerModel" ({ cls := "AntennaTunerModel", name := "store", desc := "()I" } : Jvm.MethodName) ({ cls := "AntennaTunerModel", name := "store", desc := "()I" } : Jvm.MethodName)) ∈ lw_all := lw_g (lw_at lw_m9 150 rfl) rfl
theorem q2164 : (Jvm.Cond.code ({ cls := "AntennaTunerModel", name := "store", desc := "()I" } : Jvm.MethodName) prog_21_method_97_code (4 : Nat) (Option.some Jvm.ClassFile.FieldType.int)) ∈ lw_all := lw_g (lw_at lw_m9 151 rfl) rfl
theorem q2165 : (Jvm.Cond.methodLink "AntennaTunerModel" (401 : Nat) ({ cls := "AntennaTunerModel", name := "moveEntry", desc := "(II)V" } : Jvm.MethodName)) ∈ lw_all := lw_g (lw_at lw_m9 152 rfl) rfl
theorem q2166 : (Jvm.Cond.privateMethod ({ cls := "AntennaTunerModel", name := "moveEntry", desc := "(II)V" } : Jvm.MethodName)) ∈ lw_tbl := lw_at lw_m9 153 rfl
theorem q2167 : (Jvm.Cond.instanceMethod ({ cls := "AntennaTunerModel", name := "moveEntry", desc := "(II)V" } : Jvm.MethodName)) ∈ lw_all := lw_g (lw_at lw_m9 154 rfl) rfl
theorem q2168 : (Jvm.Cond.code ({ cls := "AntennaTunerModel", name := "moveEntry", desc := "(II)V" } : Jvm.MethodName) prog_21_method_96_code (3 : Nat) (Option.none : Option Jvm.ClassFile.FieldType)) ∈ lw_all := lw_g (lw_at lw_m9 155 rfl) rfl
theorem q2170 : (Jvm.Cond.instanceMethod ({ cls := "AntennaTunerModel", name := "recall", desc := "()I" } : Jvm.MethodName)) ∈ lw_all := lw_g (lw_at lw_m9 157 rfl) rfl
theorem q2171 : (Jvm.Cond.selects "AntennaTunerModel" ({ cls := "AntennaTunerModel", name := "recall", desc := "()I" } : Jvm.MethodName) ({ cls := "AntennaTunerModel", name := "recall", desc := "()I" } : Jvm.MethodName)) ∈ lw_all := lw_g (lw_at lw_m9 158 rfl) rfl
theorem q2172 : (Jvm.Cond.code ({ cls := "AntennaTunerModel", name := "recall", desc := "()I" } : Jvm.MethodName) prog_21_method_98_code (2 : Nat) (Option.some Jvm.ClassFile.FieldType.int)) ∈ lw_all := lw_g (lw_at lw_m9 159 rfl) rfl
theorem q2174 : (Jvm.Cond.instanceMethod ({ cls := "AntennaTunerModel", name := "forget", desc := "(I)I" } : Jvm.MethodName)) ∈ lw_all := lw_g (lw_at lw_m9 161 rfl) rfl
theorem q2175 : (Jvm.Cond.selects "AntennaTunerModel" ({ cls := "AntennaTunerModel", name := "forget", desc := "(I)I" } : Jvm.MethodName) ({ cls := "AntennaTunerModel", name := "forget", desc := "(I)I" } : Jvm.MethodName)) ∈ lw_all := lw_g (lw_at lw_m9 162 rfl) rfl
theorem q2176 : (Jvm.Cond.code ({ cls := "AntennaTunerModel", name := "forget", desc := "(I)I" } : Jvm.MethodName) prog_21_method_99_code (3 : Nat) (Option.some Jvm.ClassFile.FieldType.int)) ∈ lw_all := lw_g (lw_at lw_m9 163 rfl) rfl
theorem q2177 : (Jvm.Cond.methodLink "AntennaTunerModel" (404 : Nat) ({ cls := "AntennaTunerModel", name := "isEntry", desc := "(I)Z" } : Jvm.MethodName)) ∈ lw_all := lw_g (lw_at lw_m9 164 rfl) rfl
theorem q2178 : (Jvm.Cond.privateMethod ({ cls := "AntennaTunerModel", name := "isEntry", desc := "(I)Z" } : Jvm.MethodName)) ∈ lw_tbl := lw_at lw_m9 165 rfl
theorem q2179 : (Jvm.Cond.instanceMethod ({ cls := "AntennaTunerModel", name := "isEntry", desc := "(I)Z" } : Jvm.MethodName)) ∈ lw_all := lw_g (lw_at lw_m9 166 rfl) rfl
theorem q2180 : (Jvm.Cond.code ({ cls := "AntennaTunerModel", name := "isEntry", desc := "(I)Z" } : Jvm.MethodName) prog_21_method_94_code (2 : Nat) (Option.some Jvm.ClassFile.FieldType.boolean)) ∈ lw_all := lw_g (lw_at lw_m9 167 rfl) rfl
theorem q2182 : (Jvm.Cond.instanceMethod ({ cls := "AntennaTunerModel", name := "memoryCount", desc := "()I" } : Jvm.MethodName)) ∈ lw_all := lw_g (lw_at lw_m9 169 rfl) rfl
theorem q2183 : (Jvm.Cond.selects "AntennaTunerModel" ({ cls := "AntennaTunerModel", name := "memoryCount", desc := "()I" } : Jvm.MethodName) ({ cls := "AntennaTunerModel", name := "memoryCount", desc := "()I" } : Jvm.MethodName)) ∈ lw_all := lw_g (lw_at lw_m9 170 rfl) rfl
theorem q2184 : (Jvm.Cond.code ({ cls := "AntennaTunerModel", name := "memoryCount", desc := "()I" } : Jvm.MethodName) prog_21_method_100_code (1 : Nat) (Option.some Jvm.ClassFile.FieldType.int)) ∈ lw_all := lw_g (lw_at lw_m9 171 rfl) rfl
theorem q2186 : (Jvm.Cond.instanceMethod ({ cls := "AntennaTunerModel", name := "memoryFrequency", desc := "(I)I" } : Jvm.MethodName)) ∈ lw_all := lw_g (lw_at lw_m9 173 rfl) rfl
theorem q2187 : (Jvm.Cond.selects "AntennaTunerModel" ({ cls := "AntennaTunerModel", name := "memoryFrequency", desc := "(I)I" } : Jvm.MethodName) ({ cls := "AntennaTunerModel", name := "memoryFrequency", desc := "(I)I" } : Jvm.MethodName)) ∈ lw_all := lw_g (lw_at lw_m9 174 rfl) rfl
theorem q2188 : (Jvm.Cond.code ({ cls := "AntennaTunerModel", name := "memoryFrequency", desc := "(I)I" } : Jvm.MethodName) prog_21_method_101_code (2 : Nat) (Option.some Jvm.ClassFile.FieldType.int)) ∈ lw_all := lw_g (lw_at lw_m9 175 rfl) rfl
theorem q2190 : (Jvm.Cond.instanceMethod ({ cls := "AntennaTunerModel", name := "memorySettings", desc := "(I)I" } : Jvm.MethodName)) ∈ lw_all := lw_g (lw_at lw_m9 177 rfl) rfl
theorem q2191 : (Jvm.Cond.selects "AntennaTunerModel" ({ cls := "AntennaTunerModel", name := "memorySettings", desc := "(I)I" } : Jvm.MethodName) ({ cls := "AntennaTunerModel", name := "memorySettings", desc := "(I)I" } : Jvm.MethodName)) ∈ lw_all := lw_g (lw_at lw_m9 178 rfl) rfl
theorem q2192 : (Jvm.Cond.code ({ cls := "AntennaTunerModel", name := "memorySettings", desc := "(I)I" } : Jvm.MethodName) prog_21_method_102_code (2 : Nat) (Option.some Jvm.ClassFile.FieldType.int)) ∈ lw_all := lw_g (lw_at lw_m9 179 rfl) rfl
theorem q2194 : (Jvm.Cond.instanceMethod ({ cls := "AntennaTunerModel", name := "memorySwr", desc := "(I)I" } : Jvm.MethodName)) ∈ lw_all := lw_g (lw_at lw_m9 181 rfl) rfl
theorem q2195 : (Jvm.Cond.selects "AntennaTunerModel" ({ cls := "AntennaTunerModel", name := "memorySwr", desc := "(I)I" } : Jvm.MethodName) ({ cls := "AntennaTunerModel", name := "memorySwr", desc := "(I)I" } : Jvm.MethodName)) ∈ lw_all := lw_g (lw_at lw_m9 182 rfl) rfl
theorem q2196 : (Jvm.Cond.code ({ cls := "AntennaTunerModel", name := "memorySwr", desc := "(I)I" } : Jvm.MethodName) prog_21_method_103_code (2 : Nat) (Option.some Jvm.ClassFile.FieldType.int)) ∈ lw_all := lw_g (lw_at lw_m9 183 rfl) rfl
theorem q2216 : (Jvm.Cond.castable "AntennaTunerModel" "java/lang/Object") ∈ lw_tbl := lw_at lw_m9 203 rfl
theorem in_X4 : ∀ w ∈ wsX40, w ∈ lw_all := lw_in wsX40 [1647, 1649, 1651, 1653, 1655, 1657, 1659, 1661, 1663, 1665, 1667, 1669, 1671, 1673, 1675, 1677, 1679, 1681, 1683, 1685, 1687, 1689, 1691, 1693, 1695, 1697, 1699, 1701, 1703, 1705, 1707, 1709, 1711, 1713, 1715, 1717, 1719, 1721, 1723, 1725, 1727, 1729, 1731, 1733, 1735, 1737, 1739] (by decide +kernel) (by decide +kernel)
