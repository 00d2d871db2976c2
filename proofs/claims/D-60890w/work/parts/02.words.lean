/-! X0 -/
set_option maxRecDepth 100000
def RX0 : String := "WarpMillLaw"
abbrev cX0_run : ByteArray := method_3_code
def yX0_run : MethodName := ⟨RX0, "run", "(LWarpMill;I[J)I"⟩
abbrev cX0_global : ByteArray := method_4_code
def yX0_global : MethodName := ⟨RX0, "global", "(LWarpMill;I[J)I"⟩
abbrev cX0_lane : ByteArray := method_5_code
def yX0_lane : MethodName := ⟨RX0, "lane", "(LWarpMill;IIII[J)I"⟩
abbrev cX0_shared : ByteArray := method_6_code
def yX0_shared : MethodName := ⟨RX0, "shared", "(LWarpMill;II[J)I"⟩
theorem q78 : (Jvm.Cond.initialized "WarpMillLaw") ∈ lw_all := lw_g (lw_at lw_m1 0 rfl) rfl
theorem q118 : (Jvm.Cond.classLink "WarpMillLaw" (8 : Nat) "WarpMill") ∈ lw_all := lw_g (lw_at lw_m1 40 rfl) rfl
theorem q120 : (Jvm.Cond.methodLink "WarpMillLaw" (30 : Nat) ({ cls := "WarpMill", name := "<init>", desc := "()V" } : Jvm.MethodName)) ∈ lw_all := lw_g (lw_at lw_m1 42 rfl) rfl
theorem q912 : (Jvm.Cond.methodLink "WarpMillLaw" (34 : Nat) ({ cls := "WarpMill", name := "sizes", desc := "(IIIIII)Z" } : Jvm.MethodName)) ∈ lw_all := lw_g (lw_at lw_m4 114 rfl) rfl
theorem q946 : (Jvm.Cond.methodLink "WarpMillLaw" (41 : Nat) ({ cls := "WarpMill", name := "word", desc := "(IJ)Z" } : Jvm.MethodName)) ∈ lw_all := lw_g (lw_at lw_m4 148 rfl) rfl
theorem q954 : (Jvm.Cond.methodLink "WarpMillLaw" (46 : Nat) ({ cls := "WarpMill", name := "set", desc := "(II)Z" } : Jvm.MethodName)) ∈ lw_all := lw_g (lw_at lw_m4 156 rfl) rfl
theorem q958 : (Jvm.Cond.methodLink "WarpMillLaw" (51 : Nat) ({ cls := "WarpMill", name := "launch", desc := "(II)Z" } : Jvm.MethodName)) ∈ lw_all := lw_g (lw_at lw_m4 160 rfl) rfl
theorem q976 : (Jvm.Cond.methodLink "WarpMillLaw" (65 : Nat) ({ cls := "WarpMill", name := "stop", desc := "()Z" } : Jvm.MethodName)) ∈ lw_all := lw_g (lw_at lw_m4 178 rfl) rfl
theorem q985 : (Jvm.Cond.methodLink "WarpMillLaw" (73 : Nat) ({ cls := "WarpMill", name := "state", desc := "(I)I" } : Jvm.MethodName)) ∈ lw_all := lw_g (lw_at lw_m4 187 rfl) rfl
theorem q990 : (Jvm.Cond.methodLink "WarpMillLaw" (77 : Nat) ({ cls := "WarpMill", name := "unit", desc := "(II)I" } : Jvm.MethodName)) ∈ lw_all := lw_g (lw_at lw_m4 192 rfl) rfl
theorem q1000 : (Jvm.Cond.methodLink "WarpMillLaw" (81 : Nat) ({ cls := "WarpMill", name := "cached", desc := "(II)I" } : Jvm.MethodName)) ∈ lw_all := lw_g (lw_at lw_m4 202 rfl) rfl
theorem q1005 : (Jvm.Cond.methodLink "WarpMillLaw" (85 : Nat) ({ cls := "WarpMill", name := "slot", desc := "(III)I" } : Jvm.MethodName)) ∈ lw_all := lw_g (lw_at lw_m4 207 rfl) rfl
theorem q1024 : (Jvm.Cond.methodLink "WarpMillLaw" (55 : Nat) ({ cls := "WarpMillLaw", name := "run", desc := "(LWarpMill;I[J)I" } : Jvm.MethodName)) ∈ lw_all := lw_g (lw_at lw_m4 226 rfl) rfl
theorem q1025 : (Jvm.Cond.static ({ cls := "WarpMillLaw", name := "run", desc := "(LWarpMill;I[J)I" } : Jvm.MethodName)) ∈ lw_all := lw_g (lw_at lw_m4 227 rfl) rfl
theorem q1026 : (Jvm.Cond.codeWith ({ cls := "WarpMillLaw", name := "run", desc := "(LWarpMill;I[J)I" } : Jvm.MethodName) method_3_code (4 : Nat) (Option.some Jvm.ClassFile.FieldType.int) [((0 : Nat), (9 : Nat), (12 : Nat), (13 : Nat)), ((0 : Nat), (9 : Nat), (15 : Nat), (15 : Nat))]) ∈ lw_all := lw_g (lw_at lw_m4 228 rfl) rfl
theorem q1027 : (Jvm.Cond.classLink "WarpMillLaw" (13 : Nat) "java/lang/IllegalArgumentException") ∈ lw_all := lw_g (lw_at lw_m4 229 rfl) rfl
theorem q1028 : (Jvm.Cond.classLink "WarpMillLaw" (15 : Nat) "java/lang/IllegalStateException") ∈ lw_all := lw_g (lw_at lw_m4 230 rfl) rfl
theorem q1029 : (Jvm.Cond.methodLink "WarpMillLaw" (7 : Nat) ({ cls := "WarpMill", name := "run", desc := "(I)I" } : Jvm.MethodName)) ∈ lw_all := lw_g (lw_at lw_m4 231 rfl) rfl
theorem q1494 : (Jvm.Cond.methodLink "WarpMillLaw" (70 : Nat) ({ cls := "WarpMillLaw", name := "global", desc := "(LWarpMill;I[J)I" } : Jvm.MethodName)) ∈ lw_all := lw_g (lw_at lw_m6 216 rfl) rfl
theorem q1495 : (Jvm.Cond.static ({ cls := "WarpMillLaw", name := "global", desc := "(LWarpMill;I[J)I" } : Jvm.MethodName)) ∈ lw_all := lw_g (lw_at lw_m6 217 rfl) rfl
theorem q1496 : (Jvm.Cond.codeWith ({ cls := "WarpMillLaw", name := "global", desc := "(LWarpMill;I[J)I" } : Jvm.MethodName) method_4_code (4 : Nat) (Option.some Jvm.ClassFile.FieldType.int) [((0 : Nat), (9 : Nat), (12 : Nat), (20 : Nat))]) ∈ lw_all := lw_g (lw_at lw_m6 218 rfl) rfl
theorem q1497 : (Jvm.Cond.classLink "WarpMillLaw" (20 : Nat) "java/util/NoSuchElementException") ∈ lw_all := lw_g (lw_at lw_m6 219 rfl) rfl
theorem q1498 : (Jvm.Cond.methodLink "WarpMillLaw" (17 : Nat) ({ cls := "WarpMill", name := "global", desc := "(I)I" } : Jvm.MethodName)) ∈ lw_all := lw_g (lw_at lw_m6 220 rfl) rfl
theorem q1517 : (Jvm.Cond.methodLink "WarpMillLaw" (90 : Nat) ({ cls := "WarpMillLaw", name := "lane", desc := "(LWarpMill;IIII[J)I" } : Jvm.MethodName)) ∈ lw_all := lw_g (lw_at lw_m6 239 rfl) rfl
theorem q1518 : (Jvm.Cond.static ({ cls := "WarpMillLaw", name := "lane", desc := "(LWarpMill;IIII[J)I" } : Jvm.MethodName)) ∈ lw_all := lw_g (lw_at lw_m7 0 rfl) rfl
theorem q1519 : (Jvm.Cond.codeWith ({ cls := "WarpMillLaw", name := "lane", desc := "(LWarpMill;IIII[J)I" } : Jvm.MethodName) method_5_code (7 : Nat) (Option.some Jvm.ClassFile.FieldType.int) [((0 : Nat), (14 : Nat), (17 : Nat), (20 : Nat))]) ∈ lw_all := lw_g (lw_at lw_m7 1 rfl) rfl
theorem q1520 : (Jvm.Cond.methodLink "WarpMillLaw" (22 : Nat) ({ cls := "WarpMill", name := "lane", desc := "(IIII)I" } : Jvm.MethodName)) ∈ lw_all := lw_g (lw_at lw_m7 2 rfl) rfl
theorem q1525 : (Jvm.Cond.methodLink "WarpMillLaw" (94 : Nat) ({ cls := "WarpMillLaw", name := "shared", desc := "(LWarpMill;II[J)I" } : Jvm.MethodName)) ∈ lw_all := lw_g (lw_at lw_m7 7 rfl) rfl
theorem q1526 : (Jvm.Cond.static ({ cls := "WarpMillLaw", name := "shared", desc := "(LWarpMill;II[J)I" } : Jvm.MethodName)) ∈ lw_all := lw_g (lw_at lw_m7 8 rfl) rfl
theorem q1527 : (Jvm.Cond.codeWith ({ cls := "WarpMillLaw", name := "shared", desc := "(LWarpMill;II[J)I" } : Jvm.MethodName) method_6_code (5 : Nat) (Option.some Jvm.ClassFile.FieldType.int) [((0 : Nat), (10 : Nat), (13 : Nat), (20 : Nat))]) ∈ lw_all := lw_g (lw_at lw_m7 9 rfl) rfl
theorem q1528 : (Jvm.Cond.methodLink "WarpMillLaw" (26 : Nat) ({ cls := "WarpMill", name := "shared", desc := "(II)I" } : Jvm.MethodName)) ∈ lw_all := lw_g (lw_at lw_m7 10 rfl) rfl
theorem q1536 : (Jvm.Cond.classLink "WarpMillLaw" (31 : Nat) "WarpMillModel") ∈ lw_all := lw_g (lw_at lw_m7 18 rfl) rfl
theorem q1538 : (Jvm.Cond.methodLink "WarpMillLaw" (33 : Nat) ({ cls := "WarpMillModel", name := "<init>", desc := "()V" } : Jvm.MethodName)) ∈ lw_all := lw_g (lw_at lw_m7 20 rfl) rfl
theorem q1738 : (Jvm.Cond.methodLink "WarpMillLaw" (61 : Nat) ({ cls := "WarpMillModel", name := "thrown", desc := "()I" } : Jvm.MethodName)) ∈ lw_all := lw_g (lw_at lw_m7 220 rfl) rfl
theorem q1742 : (Jvm.Cond.methodLink "WarpMillLaw" (38 : Nat) ({ cls := "WarpMillModel", name := "sizes", desc := "(IIIIII)Z" } : Jvm.MethodName)) ∈ lw_all := lw_g (lw_at lw_m7 224 rfl) rfl
theorem q1757 : (Jvm.Cond.methodLink "WarpMillLaw" (45 : Nat) ({ cls := "WarpMillModel", name := "word", desc := "(IJ)Z" } : Jvm.MethodName)) ∈ lw_all := lw_g (lw_at lw_m7 239 rfl) rfl
theorem q1761 : (Jvm.Cond.methodLink "WarpMillLaw" (50 : Nat) ({ cls := "WarpMillModel", name := "set", desc := "(II)Z" } : Jvm.MethodName)) ∈ lw_all := lw_g (lw_at lw_m8 3 rfl) rfl
theorem q1765 : (Jvm.Cond.methodLink "WarpMillLaw" (54 : Nat) ({ cls := "WarpMillModel", name := "launch", desc := "(II)Z" } : Jvm.MethodName)) ∈ lw_all := lw_g (lw_at lw_m8 7 rfl) rfl
theorem q1769 : (Jvm.Cond.methodLink "WarpMillLaw" (60 : Nat) ({ cls := "WarpMillModel", name := "run", desc := "(I)I" } : Jvm.MethodName)) ∈ lw_all := lw_g (lw_at lw_m8 11 rfl) rfl
theorem q1965 : (Jvm.Cond.methodLink "WarpMillLaw" (69 : Nat) ({ cls := "WarpMillModel", name := "stop", desc := "()Z" } : Jvm.MethodName)) ∈ lw_all := lw_g (lw_at lw_m8 207 rfl) rfl
theorem q1969 : (Jvm.Cond.methodLink "WarpMillLaw" (72 : Nat) ({ cls := "WarpMillModel", name := "global", desc := "(I)I" } : Jvm.MethodName)) ∈ lw_all := lw_g (lw_at lw_m8 211 rfl) rfl
theorem q1973 : (Jvm.Cond.methodLink "WarpMillLaw" (76 : Nat) ({ cls := "WarpMillModel", name := "state", desc := "(I)I" } : Jvm.MethodName)) ∈ lw_all := lw_g (lw_at lw_m8 215 rfl) rfl
theorem q1977 : (Jvm.Cond.methodLink "WarpMillLaw" (80 : Nat) ({ cls := "WarpMillModel", name := "unit", desc := "(II)I" } : Jvm.MethodName)) ∈ lw_all := lw_g (lw_at lw_m8 219 rfl) rfl
theorem q1981 : (Jvm.Cond.methodLink "WarpMillLaw" (84 : Nat) ({ cls := "WarpMillModel", name := "cached", desc := "(II)I" } : Jvm.MethodName)) ∈ lw_all := lw_g (lw_at lw_m8 223 rfl) rfl
theorem q1985 : (Jvm.Cond.methodLink "WarpMillLaw" (89 : Nat) ({ cls := "WarpMillModel", name := "slot", desc := "(III)I" } : Jvm.MethodName)) ∈ lw_all := lw_g (lw_at lw_m8 227 rfl) rfl
theorem q1993 : (Jvm.Cond.methodLink "WarpMillLaw" (93 : Nat) ({ cls := "WarpMillModel", name := "lane", desc := "(IIII)I" } : Jvm.MethodName)) ∈ lw_all := lw_g (lw_at lw_m8 235 rfl) rfl
theorem q1997 : (Jvm.Cond.methodLink "WarpMillLaw" (97 : Nat) ({ cls := "WarpMillModel", name := "shared", desc := "(II)I" } : Jvm.MethodName)) ∈ lw_all := lw_g (lw_at lw_m8 239 rfl) rfl
theorem q2001 : (Jvm.Cond.constantLong "WarpMillLaw" (39 : Nat) (4294967295 : Int64)) ∈ lw_all := lw_g (lw_at lw_m9 3 rfl) rfl

/-! X1 -/
set_option maxRecDepth 100000
def RX1 : String := "WarpMill"
def TX1 : u_T := fun k => match k with
  | 0 => ("WarpMill", "kernel", "Ljava/util/ArrayList;", true)
  | 1 => ("WarpMill", "global", "[I", true)
  | 2 => ("WarpMill", "pool", "LWarpMill$Pool;", true)
  | 3 => ("WarpMill", "heap", "LWarpMill$Heap;", true)
  | 4 => ("WarpMill", "coalescer", "LWarpMill$Coalescer;", true)
  | _ => ("WarpMill", "machine", "LWarpMill$Machine;", false)
def tyX1 : Nat → FieldType := fun k => match k with
  | 0 => .object "java/util/ArrayList"
  | 1 => .array .int
  | 2 => .object "WarpMill$Pool"
  | 3 => .object "WarpMill$Heap"
  | 4 => .object "WarpMill$Coalescer"
  | _ => .object "WarpMill$Machine"
abbrev wsX10 : List Cond := u_ws RX1 TX1 6
theorem nmX1 : ∀ a, a < 6 → ∀ b, b < 6 → a ≠ b → (TX1 a).2.1 ≠ (TX1 b).2.1 := by decide +kernel
theorem tyX1_ok : ∀ k, k < 6 → parseFieldDescriptor (TX1 k).2.2.1 = some (tyX1 k) := by decide +kernel
abbrev cX1_init : ByteArray := prog_1_method_1_code
def yX1_init : MethodName := ⟨RX1, "<init>", "()V"⟩
abbrev cX1_sizes : ByteArray := prog_1_method_3_code
def yX1_sizes : MethodName := ⟨RX1, "sizes", "(IIIIII)Z"⟩
abbrev cX1_isPower : ByteArray := prog_1_method_2_code
def yX1_isPower : MethodName := ⟨RX1, "isPower", "(II)Z"⟩
abbrev cX1_word : ByteArray := prog_1_method_4_code
def yX1_word : MethodName := ⟨RX1, "word", "(IJ)Z"⟩
abbrev cX1_set : ByteArray := prog_1_method_5_code
def yX1_set : MethodName := ⟨RX1, "set", "(II)Z"⟩
abbrev cX1_launch : ByteArray := prog_1_method_6_code
def yX1_launch : MethodName := ⟨RX1, "launch", "(II)Z"⟩
abbrev cX1_stop : ByteArray := prog_1_method_8_code
def yX1_stop : MethodName := ⟨RX1, "stop", "()Z"⟩
abbrev cX1_state : ByteArray := prog_1_method_10_code
def yX1_state : MethodName := ⟨RX1, "state", "(I)I"⟩
abbrev cX1_unit : ByteArray := prog_1_method_12_code
def yX1_unit : MethodName := ⟨RX1, "unit", "(II)I"⟩
abbrev cX1_isUnit : ByteArray := prog_1_method_11_code
def yX1_isUnit : MethodName := ⟨RX1, "isUnit", "(I)Z"⟩
abbrev cX1_cached : ByteArray := prog_1_method_13_code
def yX1_cached : MethodName := ⟨RX1, "cached", "(II)I"⟩
abbrev cX1_slot : ByteArray := prog_1_method_15_code
def yX1_slot : MethodName := ⟨RX1, "slot", "(III)I"⟩
abbrev cX1_isSlot : ByteArray := prog_1_method_14_code
def yX1_isSlot : MethodName := ⟨RX1, "isSlot", "(II)Z"⟩
abbrev cX1_run : ByteArray := prog_1_method_7_code
def yX1_run : MethodName := ⟨RX1, "run", "(I)I"⟩
abbrev cX1_global : ByteArray := prog_1_method_9_code
def yX1_global : MethodName := ⟨RX1, "global", "(I)I"⟩
abbrev cX1_lane : ByteArray := prog_1_method_16_code
def yX1_lane : MethodName := ⟨RX1, "lane", "(IIII)I"⟩
abbrev cX1_shared : ByteArray := prog_1_method_17_code
def yX1_shared : MethodName := ⟨RX1, "shared", "(II)I"⟩
theorem q79 : (Jvm.Cond.initialized "WarpMill") ∈ lw_all := lw_g (lw_at lw_m1 1 rfl) rfl
theorem q119 : (Jvm.Cond.instantiable "WarpMill" (6 : Nat)) ∈ lw_all := lw_g (lw_at lw_m1 41 rfl) rfl
theorem q121 : (Jvm.Cond.instanceMethod ({ cls := "WarpMill", name := "<init>", desc := "()V" } : Jvm.MethodName)) ∈ lw_all := lw_g (lw_at lw_m1 43 rfl) rfl
theorem q122 : (Jvm.Cond.code ({ cls := "WarpMill", name := "<init>", desc := "()V" } : Jvm.MethodName) prog_1_method_1_code (3 : Nat) (Option.none : Option Jvm.ClassFile.FieldType)) ∈ lw_all := lw_g (lw_at lw_m1 44 rfl) rfl
theorem q123 : (Jvm.Cond.methodLink "WarpMill" (1 : Nat) ({ cls := "java/lang/Object", name := "<init>", desc := "()V" } : Jvm.MethodName)) ∈ lw_all := lw_g (lw_at lw_m1 45 rfl) rfl
theorem q126 : (Jvm.Cond.classLink "WarpMill" (7 : Nat) "java/util/ArrayList") ∈ lw_all := lw_g (lw_at lw_m1 48 rfl) rfl
theorem q128 : (Jvm.Cond.methodLink "WarpMill" (11 : Nat) ({ cls := "java/util/ArrayList", name := "<init>", desc := "(I)V" } : Jvm.MethodName)) ∈ lw_all := lw_g (lw_at lw_m1 50 rfl) rfl
theorem q466 : (Jvm.Cond.classLink "WarpMill" (22 : Nat) "WarpMill$Pool") ∈ lw_all := lw_g (lw_at lw_m2 148 rfl) rfl
theorem q468 : (Jvm.Cond.methodLinkNest "WarpMill" (24 : Nat) ({ cls := "WarpMill$Pool", name := "<init>", desc := "()V" } : Jvm.MethodName) "WarpMill") ∈ lw_tbl := lw_at lw_m2 150 rfl
theorem q489 : (Jvm.Cond.classLink "WarpMill" (29 : Nat) "WarpMill$Heap") ∈ lw_all := lw_g (lw_at lw_m2 171 rfl) rfl
theorem q491 : (Jvm.Cond.methodLinkNest "WarpMill" (31 : Nat) ({ cls := "WarpMill$Heap", name := "<init>", desc := "()V" } : Jvm.MethodName) "WarpMill") ∈ lw_tbl := lw_at lw_m2 173 rfl
theorem q499 : (Jvm.Cond.fieldLinkNest "WarpMill" (163 : Nat) "WarpMill$Heap" "asks" "Ljava/util/ArrayList;" "WarpMill") ∈ lw_tbl := lw_at lw_m2 181 rfl
theorem q509 : (Jvm.Cond.classLink "WarpMill" (36 : Nat) "WarpMill$Coalescer") ∈ lw_all := lw_g (lw_at lw_m2 191 rfl) rfl
theorem q511 : (Jvm.Cond.methodLinkNest "WarpMill" (38 : Nat) ({ cls := "WarpMill$Coalescer", name := "<init>", desc := "()V" } : Jvm.MethodName) "WarpMill") ∈ lw_tbl := lw_at lw_m2 193 rfl
theorem q569 : (Jvm.Cond.classLink "WarpMill" (43 : Nat) "WarpMill$Word") ∈ lw_all := lw_g (lw_at lw_m3 11 rfl) rfl
theorem q571 : (Jvm.Cond.methodLink "WarpMill" (45 : Nat) ({ cls := "WarpMill$Word", name := "<init>", desc := "(J)V" } : Jvm.MethodName)) ∈ lw_all := lw_g (lw_at lw_m3 13 rfl) rfl
theorem q631 : (Jvm.Cond.methodLink "WarpMill" (48 : Nat) ({ cls := "java/util/ArrayList", name := "add", desc := "(Ljava/lang/Object;)Z" } : Jvm.MethodName)) ∈ lw_all := lw_g (lw_at lw_m3 73 rfl) rfl
theorem q654 : (Jvm.Cond.selects "WarpMill" ({ cls := "java/lang/Object", name := "getClass", desc := "()Ljava/lang/Class;" } : Jvm.MethodName) ({ cls := "java/lang/Object", name := "getClass", desc := "()Ljava/lang/Class;" } : Jvm.MethodName)) ∈ lw_all := lw_g (lw_at lw_m3 96 rfl) rfl
theorem q683 : (Jvm.Cond.classLink "WarpMill" (52 : Nat) "WarpMill$Machine") ∈ lw_all := lw_g (lw_at lw_m3 125 rfl) rfl
theorem q685 : (Jvm.Cond.methodLink "WarpMill" (54 : Nat) ({ cls := "WarpMill$Machine", name := "<init>", desc := "(IIIIIILjava/util/ArrayList;[ILWarpMill$Pool;LWarpMill$Heap;LWarpMill$Coalescer;I)V" } : Jvm.MethodName)) ∈ lw_all := lw_g (lw_at lw_m3 127 rfl) rfl
theorem q729 : (Jvm.Cond.fieldLinkNest "WarpMill" (197 : Nat) "WarpMill$Unit" "slots" "[LWarpMill$Warp;" "WarpMill") ∈ lw_tbl := lw_at lw_m3 171 rfl
theorem q732 : (Jvm.Cond.fieldLinkNest "WarpMill" (182 : Nat) "WarpMill$Unit" "last" "I" "WarpMill") ∈ lw_tbl := lw_at lw_m3 174 rfl
theorem q734 : (Jvm.Cond.fieldLinkNest "WarpMill" (176 : Nat) "WarpMill$Unit" "dividerTick" "I" "WarpMill") ∈ lw_tbl := lw_at lw_m3 176 rfl
theorem q737 : (Jvm.Cond.fieldLinkNest "WarpMill" (179 : Nat) "WarpMill$Unit" "sharedTick" "I" "WarpMill") ∈ lw_tbl := lw_at lw_m3 179 rfl
theorem q740 : (Jvm.Cond.fieldLinkNest "WarpMill" (185 : Nat) "WarpMill$Unit" "went" "I" "WarpMill") ∈ lw_tbl := lw_at lw_m3 182 rfl
theorem q770 : (Jvm.Cond.fieldLinkNest "WarpMill" (191 : Nat) "WarpMill$Gate" "lines" "[I" "WarpMill") ∈ lw_tbl := lw_at lw_m3 212 rfl
theorem q773 : (Jvm.Cond.fieldLinkNest "WarpMill" (188 : Nat) "WarpMill$Gate" "tick" "I" "WarpMill") ∈ lw_tbl := lw_at lw_m3 215 rfl
theorem q782 : (Jvm.Cond.fieldLinkNest "WarpMill" (159 : Nat) "WarpMill$Cache" "gates" "Ljava/util/ArrayList;" "WarpMill") ∈ lw_tbl := lw_at lw_m3 224 rfl
theorem q785 : (Jvm.Cond.fieldLinkNest "WarpMill" (123 : Nat) "WarpMill$Cache" "hits" "I" "WarpMill") ∈ lw_tbl := lw_at lw_m3 227 rfl
theorem q788 : (Jvm.Cond.fieldLinkNest "WarpMill" (128 : Nat) "WarpMill$Cache" "misses" "I" "WarpMill") ∈ lw_tbl := lw_at lw_m3 230 rfl
theorem q797 : (Jvm.Cond.fieldLinkNest "WarpMill" (83 : Nat) "WarpMill$Machine" "lanes" "I" "WarpMill") ∈ lw_tbl := lw_at lw_m3 239 rfl
theorem q799 : (Jvm.Cond.fieldLinkNest "WarpMill" (86 : Nat) "WarpMill$Machine" "slots" "I" "WarpMill") ∈ lw_tbl := lw_at lw_m4 1 rfl
theorem q801 : (Jvm.Cond.fieldLinkNest "WarpMill" (156 : Nat) "WarpMill$Machine" "banks" "I" "WarpMill") ∈ lw_tbl := lw_at lw_m4 3 rfl
theorem q803 : (Jvm.Cond.fieldLinkNest "WarpMill" (72 : Nat) "WarpMill$Machine" "ints" "I" "WarpMill") ∈ lw_tbl := lw_at lw_m4 5 rfl
theorem q808 : (Jvm.Cond.fieldLinkNest "WarpMill" (162 : Nat) "WarpMill$Machine" "heap" "LWarpMill$Heap;" "WarpMill") ∈ lw_tbl := lw_at lw_m4 10 rfl
theorem q810 : (Jvm.Cond.fieldLinkNest "WarpMill" (149 : Nat) "WarpMill$Machine" "units" "Ljava/util/ArrayList;" "WarpMill") ∈ lw_tbl := lw_at lw_m4 12 rfl
theorem q812 : (Jvm.Cond.fieldLinkNest "WarpMill" (119 : Nat) "WarpMill$Machine" "cache" "LWarpMill$Cache;" "WarpMill") ∈ lw_tbl := lw_at lw_m4 14 rfl
theorem q816 : (Jvm.Cond.fieldLinkNest "WarpMill" (102 : Nat) "WarpMill$Machine" "state" "I" "WarpMill") ∈ lw_tbl := lw_at lw_m4 18 rfl
theorem q821 : (Jvm.Cond.fieldLinkNest "WarpMill" (131 : Nat) "WarpMill$Machine" "over" "I" "WarpMill") ∈ lw_tbl := lw_at lw_m4 23 rfl
theorem q823 : (Jvm.Cond.fieldLinkNest "WarpMill" (111 : Nat) "WarpMill$Machine" "cycle" "I" "WarpMill") ∈ lw_tbl := lw_at lw_m4 25 rfl
theorem q825 : (Jvm.Cond.fieldLinkNest "WarpMill" (113 : Nat) "WarpMill$Machine" "went" "I" "WarpMill") ∈ lw_tbl := lw_at lw_m4 27 rfl
theorem q827 : (Jvm.Cond.fieldLinkNest "WarpMill" (116 : Nat) "WarpMill$Machine" "did" "I" "WarpMill") ∈ lw_tbl := lw_at lw_m4 29 rfl
theorem q829 : (Jvm.Cond.fieldLinkNest "WarpMill" (146 : Nat) "WarpMill$Machine" "parts" "I" "WarpMill") ∈ lw_tbl := lw_at lw_m4 31 rfl
theorem q831 : (Jvm.Cond.fieldLinkNest "WarpMill" (76 : Nat) "WarpMill$Machine" "all" "I" "WarpMill") ∈ lw_tbl := lw_at lw_m4 33 rfl
theorem q833 : (Jvm.Cond.fieldLinkNest "WarpMill" (134 : Nat) "WarpMill$Machine" "why" "I" "WarpMill") ∈ lw_tbl := lw_at lw_m4 35 rfl
theorem q835 : (Jvm.Cond.fieldLinkNest "WarpMill" (137 : Nat) "WarpMill$Machine" "trapBlock" "I" "WarpMill") ∈ lw_tbl := lw_at lw_m4 37 rfl
theorem q837 : (Jvm.Cond.fieldLinkNest "WarpMill" (140 : Nat) "WarpMill$Machine" "trapThread" "I" "WarpMill") ∈ lw_tbl := lw_at lw_m4 39 rfl
theorem q839 : (Jvm.Cond.fieldLinkNest "WarpMill" (143 : Nat) "WarpMill$Machine" "trapPlace" "I" "WarpMill") ∈ lw_tbl := lw_at lw_m4 41 rfl
theorem q893 : (Jvm.Cond.fieldLink "WarpMill" (14 : Nat) "WarpMill" "kernel" "Ljava/util/ArrayList;") ∈ lw_all := lw_g (lw_at lw_m4 95 rfl) rfl
theorem q894 : (Jvm.Cond.fieldLink "WarpMill" (18 : Nat) "WarpMill" "global" "[I") ∈ lw_all := lw_g (lw_at lw_m4 96 rfl) rfl
theorem q895 : (Jvm.Cond.fieldLink "WarpMill" (25 : Nat) "WarpMill" "pool" "LWarpMill$Pool;") ∈ lw_all := lw_g (lw_at lw_m4 97 rfl) rfl
theorem q896 : (Jvm.Cond.fieldLink "WarpMill" (32 : Nat) "WarpMill" "heap" "LWarpMill$Heap;") ∈ lw_all := lw_g (lw_at lw_m4 98 rfl) rfl
theorem q897 : (Jvm.Cond.fieldLink "WarpMill" (39 : Nat) "WarpMill" "coalescer" "LWarpMill$Coalescer;") ∈ lw_all := lw_g (lw_at lw_m4 99 rfl) rfl
theorem q898 : (Jvm.Cond.fieldLink "WarpMill" (57 : Nat) "WarpMill" "machine" "LWarpMill$Machine;") ∈ lw_all := lw_g (lw_at lw_m4 100 rfl) rfl
theorem q899 : (Jvm.Cond.laysFinal "WarpMill" "WarpMill" "kernel" "Ljava/util/ArrayList;") ∈ lw_all := lw_g (lw_at lw_m4 101 rfl) rfl
theorem q900 : (Jvm.Cond.soleField "WarpMill" "kernel") ∈ lw_all := lw_g (lw_at lw_m4 102 rfl) rfl
theorem q901 : (Jvm.Cond.laysFinal "WarpMill" "WarpMill" "global" "[I") ∈ lw_all := lw_g (lw_at lw_m4 103 rfl) rfl
theorem q902 : (Jvm.Cond.soleField "WarpMill" "global") ∈ lw_all := lw_g (lw_at lw_m4 104 rfl) rfl
theorem q903 : (Jvm.Cond.laysFinal "WarpMill" "WarpMill" "pool" "LWarpMill$Pool;") ∈ lw_all := lw_g (lw_at lw_m4 105 rfl) rfl
theorem q904 : (Jvm.Cond.soleField "WarpMill" "pool") ∈ lw_all := lw_g (lw_at lw_m4 106 rfl) rfl
theorem q905 : (Jvm.Cond.laysFinal "WarpMill" "WarpMill" "heap" "LWarpMill$Heap;") ∈ lw_all := lw_g (lw_at lw_m4 107 rfl) rfl
theorem q906 : (Jvm.Cond.soleField "WarpMill" "heap") ∈ lw_all := lw_g (lw_at lw_m4 108 rfl) rfl
theorem q907 : (Jvm.Cond.laysFinal "WarpMill" "WarpMill" "coalescer" "LWarpMill$Coalescer;") ∈ lw_all := lw_g (lw_at lw_m4 109 rfl) rfl
theorem q908 : (Jvm.Cond.soleField "WarpMill" "coalescer") ∈ lw_all := lw_g (lw_at lw_m4 110 rfl) rfl
theorem q909 : (Jvm.Cond.lays "WarpMill" "WarpMill" "machine" "LWarpMill$Machine;") ∈ lw_all := lw_g (lw_at lw_m4 111 rfl) rfl
theorem q910 : (Jvm.Cond.soleField "WarpMill" "machine") ∈ lw_all := lw_g (lw_at lw_m4 112 rfl) rfl
theorem q911 : (Jvm.Cond.superclass "WarpMill" "java/lang/Object") ∈ lw_all := lw_g (lw_at lw_m4 113 rfl) rfl
theorem q913 : (Jvm.Cond.instanceMethod ({ cls := "WarpMill", name := "sizes", desc := "(IIIIII)Z" } : Jvm.MethodName)) ∈ lw_all := lw_g (lw_at lw_m4 115 rfl) rfl
theorem q914 : (Jvm.Cond.selects "WarpMill" ({ cls := "WarpMill", name := "sizes", desc := "(IIIIII)Z" } : Jvm.MethodName) ({ cls := "WarpMill", name := "sizes", desc := "(IIIIII)Z" } : Jvm.MethodName)) ∈ lw_all := lw_g (lw_at lw_m4 116 rfl) rfl
theorem q915 : (Jvm.Cond.code ({ cls := "WarpMill", name := "sizes", desc := "(IIIIII)Z" } : Jvm.MethodName) prog_1_method_3_code (8 : Nat) (Option.some Jvm.ClassFile.FieldType.boolean)) ∈ lw_all := lw_g (lw_at lw_m4 117 rfl) rfl
theorem q916 : (Jvm.Cond.methodLink "WarpMill" (61 : Nat) ({ cls := "WarpMill$Machine", name := "isOn", desc := "()Z" } : Jvm.MethodName)) ∈ lw_all := lw_g (lw_at lw_m4 118 rfl) rfl
theorem q920 : (Jvm.Cond.methodLink "WarpMill" (65 : Nat) ({ cls := "WarpMill", name := "isPower", desc := "(II)Z" } : Jvm.MethodName)) ∈ lw_all := lw_g (lw_at lw_m4 122 rfl) rfl
theorem q921 : (Jvm.Cond.static ({ cls := "WarpMill", name := "isPower", desc := "(II)Z" } : Jvm.MethodName)) ∈ lw_all := lw_g (lw_at lw_m4 123 rfl) rfl
theorem q922 : (Jvm.Cond.code ({ cls := "WarpMill", name := "isPower", desc := "(II)Z" } : Jvm.MethodName) prog_1_method_2_code (2 : Nat) (Option.some Jvm.ClassFile.FieldType.boolean)) ∈ lw_all := lw_g (lw_at lw_m4 124 rfl) rfl
theorem q923 : (Jvm.Cond.methodLink "WarpMill" (69 : Nat) ({ cls := "WarpMill$Machine", name := "free", desc := "()V" } : Jvm.MethodName)) ∈ lw_all := lw_g (lw_at lw_m4 125 rfl) rfl
theorem q947 : (Jvm.Cond.instanceMethod ({ cls := "WarpMill", name := "word", desc := "(IJ)Z" } : Jvm.MethodName)) ∈ lw_all := lw_g (lw_at lw_m4 149 rfl) rfl
theorem q948 : (Jvm.Cond.selects "WarpMill" ({ cls := "WarpMill", name := "word", desc := "(IJ)Z" } : Jvm.MethodName) ({ cls := "WarpMill", name := "word", desc := "(IJ)Z" } : Jvm.MethodName)) ∈ lw_all := lw_g (lw_at lw_m4 150 rfl) rfl
theorem q949 : (Jvm.Cond.code ({ cls := "WarpMill", name := "word", desc := "(IJ)Z" } : Jvm.MethodName) prog_1_method_4_code (4 : Nat) (Option.some Jvm.ClassFile.FieldType.boolean)) ∈ lw_all := lw_g (lw_at lw_m4 151 rfl) rfl
theorem q950 : (Jvm.Cond.methodLink "WarpMill" (79 : Nat) ({ cls := "java/util/ArrayList", name := "set", desc := "(ILjava/lang/Object;)Ljava/lang/Object;" } : Jvm.MethodName)) ∈ lw_all := lw_g (lw_at lw_m4 152 rfl) rfl
theorem q955 : (Jvm.Cond.instanceMethod ({ cls := "WarpMill", name := "set", desc := "(II)Z" } : Jvm.MethodName)) ∈ lw_all := lw_g (lw_at lw_m4 157 rfl) rfl
theorem q956 : (Jvm.Cond.selects "WarpMill" ({ cls := "WarpMill", name := "set", desc := "(II)Z" } : Jvm.MethodName) ({ cls := "WarpMill", name := "set", desc := "(II)Z" } : Jvm.MethodName)) ∈ lw_all := lw_g (lw_at lw_m4 158 rfl) rfl
theorem q957 : (Jvm.Cond.code ({ cls := "WarpMill", name := "set", desc := "(II)Z" } : Jvm.MethodName) prog_1_method_5_code (3 : Nat) (Option.some Jvm.ClassFile.FieldType.boolean)) ∈ lw_all := lw_g (lw_at lw_m4 159 rfl) rfl
theorem q959 : (Jvm.Cond.instanceMethod ({ cls := "WarpMill", name := "launch", desc := "(II)Z" } : Jvm.MethodName)) ∈ lw_all := lw_g (lw_at lw_m4 161 rfl) rfl
theorem q960 : (Jvm.Cond.selects "WarpMill" ({ cls := "WarpMill", name := "launch", desc := "(II)Z" } : Jvm.MethodName) ({ cls := "WarpMill", name := "launch", desc := "(II)Z" } : Jvm.MethodName)) ∈ lw_all := lw_g (lw_at lw_m4 162 rfl) rfl
theorem q961 : (Jvm.Cond.code ({ cls := "WarpMill", name := "launch", desc := "(II)Z" } : Jvm.MethodName) prog_1_method_6_code (3 : Nat) (Option.some Jvm.ClassFile.FieldType.boolean)) ∈ lw_all := lw_g (lw_at lw_m4 163 rfl) rfl
theorem q962 : (Jvm.Cond.methodLink "WarpMill" (89 : Nat) ({ cls := "WarpMill$Machine", name := "begin", desc := "(II)V" } : Jvm.MethodName)) ∈ lw_all := lw_g (lw_at lw_m4 164 rfl) rfl
theorem q977 : (Jvm.Cond.instanceMethod ({ cls := "WarpMill", name := "stop", desc := "()Z" } : Jvm.MethodName)) ∈ lw_all := lw_g (lw_at lw_m4 179 rfl) rfl
theorem q978 : (Jvm.Cond.selects "WarpMill" ({ cls := "WarpMill", name := "stop", desc := "()Z" } : Jvm.MethodName) ({ cls := "WarpMill", name := "stop", desc := "()Z" } : Jvm.MethodName)) ∈ lw_all := lw_g (lw_at lw_m4 180 rfl) rfl
theorem q979 : (Jvm.Cond.code ({ cls := "WarpMill", name := "stop", desc := "()Z" } : Jvm.MethodName) prog_1_method_8_code (1 : Nat) (Option.some Jvm.ClassFile.FieldType.boolean)) ∈ lw_all := lw_g (lw_at lw_m4 181 rfl) rfl
theorem q980 : (Jvm.Cond.methodLink "WarpMill" (105 : Nat) ({ cls := "WarpMill$Machine", name := "stop", desc := "()V" } : Jvm.MethodName)) ∈ lw_all := lw_g (lw_at lw_m4 182 rfl) rfl
theorem q986 : (Jvm.Cond.instanceMethod ({ cls := "WarpMill", name := "state", desc := "(I)I" } : Jvm.MethodName)) ∈ lw_all := lw_g (lw_at lw_m4 188 rfl) rfl
theorem q987 : (Jvm.Cond.selects "WarpMill" ({ cls := "WarpMill", name := "state", desc := "(I)I" } : Jvm.MethodName) ({ cls := "WarpMill", name := "state", desc := "(I)I" } : Jvm.MethodName)) ∈ lw_all := lw_g (lw_at lw_m4 189 rfl) rfl
theorem q988 : (Jvm.Cond.code ({ cls := "WarpMill", name := "state", desc := "(I)I" } : Jvm.MethodName) prog_1_method_10_code (2 : Nat) (Option.some Jvm.ClassFile.FieldType.int)) ∈ lw_all := lw_g (lw_at lw_m4 190 rfl) rfl
theorem q989 : (Jvm.Cond.methodLink "WarpMill" (152 : Nat) ({ cls := "java/util/ArrayList", name := "size", desc := "()I" } : Jvm.MethodName)) ∈ lw_all := lw_g (lw_at lw_m4 191 rfl) rfl
theorem q991 : (Jvm.Cond.instanceMethod ({ cls := "WarpMill", name := "unit", desc := "(II)I" } : Jvm.MethodName)) ∈ lw_all := lw_g (lw_at lw_m4 193 rfl) rfl
theorem q992 : (Jvm.Cond.selects "WarpMill" ({ cls := "WarpMill", name := "unit", desc := "(II)I" } : Jvm.MethodName) ({ cls := "WarpMill", name := "unit", desc := "(II)I" } : Jvm.MethodName)) ∈ lw_all := lw_g (lw_at lw_m4 194 rfl) rfl
theorem q993 : (Jvm.Cond.code ({ cls := "WarpMill", name := "unit", desc := "(II)I" } : Jvm.MethodName) prog_1_method_12_code (4 : Nat) (Option.some Jvm.ClassFile.FieldType.int)) ∈ lw_all := lw_g (lw_at lw_m4 195 rfl) rfl
theorem q994 : (Jvm.Cond.methodLink "WarpMill" (166 : Nat) ({ cls := "WarpMill", name := "isUnit", desc := "(I)Z" } : Jvm.MethodName)) ∈ lw_all := lw_g (lw_at lw_m4 196 rfl) rfl
theorem q995 : (Jvm.Cond.privateMethod ({ cls := "WarpMill", name := "isUnit", desc := "(I)Z" } : Jvm.MethodName)) ∈ lw_tbl := lw_at lw_m4 197 rfl
theorem q996 : (Jvm.Cond.instanceMethod ({ cls := "WarpMill", name := "isUnit", desc := "(I)Z" } : Jvm.MethodName)) ∈ lw_all := lw_g (lw_at lw_m4 198 rfl) rfl
theorem q997 : (Jvm.Cond.code ({ cls := "WarpMill", name := "isUnit", desc := "(I)Z" } : Jvm.MethodName) prog_1_method_11_code (2 : Nat) (Option.some Jvm.ClassFile.FieldType.boolean)) ∈ lw_all := lw_g (lw_at lw_m4 199 rfl) rfl
theorem q998 : (Jvm.Cond.methodLink "WarpMill" (170 : Nat) ({ cls := "java/util/ArrayList", name := "get", desc := "(I)Ljava/lang/Object;" } : Jvm.MethodName)) ∈ lw_all := lw_g (lw_at lw_m4 200 rfl) rfl
theorem q999 : (Jvm.Cond.classLink "WarpMill" (174 : Nat) "WarpMill$Unit") ∈ lw_all := lw_g (lw_at lw_m4 201 rfl) rfl
theorem q1001 : (Jvm.Cond.instanceMethod ({ cls := "WarpMill", name := "cached", desc := "(II)I" } : Jvm.MethodName)) ∈ lw_all := lw_g (lw_at lw_m4 203 rfl) rfl
theorem q1002 : (Jvm.Cond.selects "WarpMill" ({ cls := "WarpMill", name := "cached", desc := "(II)I" } : Jvm.MethodName) ({ cls := "WarpMill", name := "cached", desc := "(II)I" } : Jvm.MethodName)) ∈ lw_all := lw_g (lw_at lw_m4 204 rfl) rfl
theorem q1003 : (Jvm.Cond.code ({ cls := "WarpMill", name := "cached", desc := "(II)I" } : Jvm.MethodName) prog_1_method_13_code (4 : Nat) (Option.some Jvm.ClassFile.FieldType.int)) ∈ lw_all := lw_g (lw_at lw_m4 205 rfl) rfl
theorem q1004 : (Jvm.Cond.classLink "WarpMill" (186 : Nat) "WarpMill$Gate") ∈ lw_all := lw_g (lw_at lw_m4 206 rfl) rfl
theorem q1006 : (Jvm.Cond.instanceMethod ({ cls := "WarpMill", name := "slot", desc := "(III)I" } : Jvm.MethodName)) ∈ lw_all := lw_g (lw_at lw_m4 208 rfl) rfl
theorem q1007 : (Jvm.Cond.selects "WarpMill" ({ cls := "WarpMill", name := "slot", desc := "(III)I" } : Jvm.MethodName) ({ cls := "WarpMill", name := "slot", desc := "(III)I" } : Jvm.MethodName)) ∈ lw_all := lw_g (lw_at lw_m4 209 rfl) rfl
theorem q1008 : (Jvm.Cond.code ({ cls := "WarpMill", name := "slot", desc := "(III)I" } : Jvm.MethodName) prog_1_method_15_code (5 : Nat) (Option.some Jvm.ClassFile.FieldType.int)) ∈ lw_all := lw_g (lw_at lw_m4 210 rfl) rfl
theorem q1009 : (Jvm.Cond.methodLink "WarpMill" (194 : Nat) ({ cls := "WarpMill", name := "isSlot", desc := "(II)Z" } : Jvm.MethodName)) ∈ lw_all := lw_g (lw_at lw_m4 211 rfl) rfl
theorem q1010 : (Jvm.Cond.privateMethod ({ cls := "WarpMill", name := "isSlot", desc := "(II)Z" } : Jvm.MethodName)) ∈ lw_tbl := lw_at lw_m4 212 rfl
theorem q1011 : (Jvm.Cond.instanceMethod ({ cls := "WarpMill", name := "isSlot", desc := "(II)Z" } : Jvm.MethodName)) ∈ lw_all := lw_g (lw_at lw_m4 213 rfl) rfl
theorem q1012 : (Jvm.Cond.code ({ cls := "WarpMill", name := "isSlot", desc := "(II)Z" } : Jvm.MethodName) prog_1_method_14_code (3 : Nat) (Option.some Jvm.ClassFile.FieldType.boolean)) ∈ lw_all := lw_g (lw_at lw_m4 214 rfl) rfl
theorem q1013 : (Jvm.Cond.methodLink "WarpMill" (212 : Nat) ({ cls := "WarpMill$Warp", name := "ended", desc := "()I" } : Jvm.MethodName)) ∈ lw_all := lw_g (lw_at lw_m4 215 rfl) rfl
theorem q1020 : (Jvm.Cond.methodLink "WarpMill" (215 : Nat) ({ cls := "WarpMill$Warp", name := "waiting", desc := "()I" } : Jvm.MethodName)) ∈ lw_all := lw_g (lw_at lw_m4 222 rfl) rfl
theorem q1030 : (Jvm.Cond.instanceMethod ({ cls := "WarpMill", name := "run", desc := "(I)I" } : Jvm.MethodName)) ∈ lw_all := lw_g (lw_at lw_m4 232 rfl) rfl
theorem q1031 : (Jvm.Cond.selects "WarpMill" ({ cls := "WarpMill", name := "run", desc := "(I)I" } : Jvm.MethodName) ({ cls := "WarpMill", name := "run", desc := "(I)I" } : Jvm.MethodName)) ∈ lw_all := lw_g (lw_at lw_m4 233 rfl) rfl
theorem q1032 : (Jvm.Cond.code ({ cls := "WarpMill", name := "run", desc := "(I)I" } : Jvm.MethodName) prog_1_method_7_code (3 : Nat) (Option.some Jvm.ClassFile.FieldType.int)) ∈ lw_all := lw_g (lw_at lw_m4 234 rfl) rfl
theorem q1033 : (Jvm.Cond.classLink "WarpMill" (93 : Nat) "java/lang/IllegalArgumentException") ∈ lw_all := lw_g (lw_at lw_m4 235 rfl) rfl
theorem q1034 : (Jvm.Cond.methodLink "WarpMill" (95 : Nat) ({ cls := "java/lang/IllegalArgumentException", name := "<init>", desc := "()V" } : Jvm.MethodName)) ∈ lw_all := lw_g (lw_at lw_m4 236 rfl) rfl
theorem q1044 : (Jvm.Cond.classLink "WarpMill" (96 : Nat) "java/lang/IllegalStateException") ∈ lw_all := lw_g (lw_at lw_m5 6 rfl) rfl
theorem q1053 : (Jvm.Cond.methodLink "WarpMill" (98 : Nat) ({ cls := "java/lang/IllegalStateException", name := "<init>", desc := "()V" } : Jvm.MethodName)) ∈ lw_all := lw_g (lw_at lw_m5 15 rfl) rfl
theorem q1059 : (Jvm.Cond.methodLink "WarpMill" (99 : Nat) ({ cls := "WarpMill$Machine", name := "cycle", desc := "()V" } : Jvm.MethodName)) ∈ lw_all := lw_g (lw_at lw_m5 21 rfl) rfl
theorem q1120 : (Jvm.Cond.fieldLinkNest "WarpMill" (206 : Nat) "WarpMill$Block" "number" "I" "WarpMill") ∈ lw_tbl := lw_at lw_m5 82 rfl
theorem q1123 : (Jvm.Cond.fieldLinkNest "WarpMill" (244 : Nat) "WarpMill$Block" "shared" "[I" "WarpMill") ∈ lw_tbl := lw_at lw_m5 85 rfl
theorem q1155 : (Jvm.Cond.fieldLinkNest "WarpMill" (200 : Nat) "WarpMill$Warp" "block" "LWarpMill$Block;" "WarpMill") ∈ lw_tbl := lw_at lw_m5 117 rfl
theorem q1158 : (Jvm.Cond.fieldLinkNest "WarpMill" (211 : Nat) "WarpMill$Warp" "number" "I" "WarpMill") ∈ lw_tbl := lw_at lw_m5 120 rfl
theorem q1163 : (Jvm.Cond.fieldLinkNest "WarpMill" (227 : Nat) "WarpMill$Warp" "lanes" "Ljava/util/ArrayList;" "WarpMill") ∈ lw_tbl := lw_at lw_m5 125 rfl
theorem q1165 : (Jvm.Cond.fieldLinkNest "WarpMill" (221 : Nat) "WarpMill$Warp" "ticks" "[I" "WarpMill") ∈ lw_tbl := lw_at lw_m5 127 rfl
theorem q1167 : (Jvm.Cond.fieldLinkNest "WarpMill" (224 : Nat) "WarpMill$Warp" "predicateTicks" "[I" "WarpMill") ∈ lw_tbl := lw_at lw_m5 129 rfl
theorem q1169 : (Jvm.Cond.fieldLinkNest "WarpMill" (218 : Nat) "WarpMill$Warp" "memoryTick" "I" "WarpMill") ∈ lw_tbl := lw_at lw_m5 131 rfl
theorem q1199 : (Jvm.Cond.fieldLinkNest "WarpMill" (231 : Nat) "WarpMill$Lane" "registers" "[I" "WarpMill") ∈ lw_tbl := lw_at lw_m5 161 rfl
theorem q1201 : (Jvm.Cond.fieldLinkNest "WarpMill" (237 : Nat) "WarpMill$Lane" "predicates" "[Z" "WarpMill") ∈ lw_tbl := lw_at lw_m5 163 rfl
theorem q1206 : (Jvm.Cond.fieldLinkNest "WarpMill" (234 : Nat) "WarpMill$Lane" "place" "I" "WarpMill") ∈ lw_tbl := lw_at lw_m5 168 rfl
theorem q1499 : (Jvm.Cond.instanceMethod ({ cls := "WarpMill", name := "global", desc := "(I)I" } : Jvm.MethodName)) ∈ lw_all := lw_g (lw_at lw_m6 221 rfl) rfl
theorem q1500 : (Jvm.Cond.selects "WarpMill" ({ cls := "WarpMill", name := "global", desc := "(I)I" } : Jvm.MethodName) ({ cls := "WarpMill", name := "global", desc := "(I)I" } : Jvm.MethodName)) ∈ lw_all := lw_g (lw_at lw_m6 222 rfl) rfl
theorem q1501 : (Jvm.Cond.code ({ cls := "WarpMill", name := "global", desc := "(I)I" } : Jvm.MethodName) prog_1_method_9_code (2 : Nat) (Option.some Jvm.ClassFile.FieldType.int)) ∈ lw_all := lw_g (lw_at lw_m6 223 rfl) rfl
theorem q1502 : (Jvm.Cond.classLink "WarpMill" (108 : Nat) "java/util/NoSuchElementException") ∈ lw_all := lw_g (lw_at lw_m6 224 rfl) rfl
theorem q1511 : (Jvm.Cond.methodLink "WarpMill" (110 : Nat) ({ cls := "java/util/NoSuchElementException", name := "<init>", desc := "()V" } : Jvm.MethodName)) ∈ lw_all := lw_g (lw_at lw_m6 233 rfl) rfl
theorem q1521 : (Jvm.Cond.instanceMethod ({ cls := "WarpMill", name := "lane", desc := "(IIII)I" } : Jvm.MethodName)) ∈ lw_all := lw_g (lw_at lw_m7 3 rfl) rfl
theorem q1522 : (Jvm.Cond.selects "WarpMill" ({ cls := "WarpMill", name := "lane", desc := "(IIII)I" } : Jvm.MethodName) ({ cls := "WarpMill", name := "lane", desc := "(IIII)I" } : Jvm.MethodName)) ∈ lw_all := lw_g (lw_at lw_m7 4 rfl) rfl
theorem q1523 : (Jvm.Cond.code ({ cls := "WarpMill", name := "lane", desc := "(IIII)I" } : Jvm.MethodName) prog_1_method_16_code (7 : Nat) (Option.some Jvm.ClassFile.FieldType.int)) ∈ lw_all := lw_g (lw_at lw_m7 5 rfl) rfl
theorem q1524 : (Jvm.Cond.classLink "WarpMill" (229 : Nat) "WarpMill$Lane") ∈ lw_all := lw_g (lw_at lw_m7 6 rfl) rfl
theorem q1529 : (Jvm.Cond.instanceMethod ({ cls := "WarpMill", name := "shared", desc := "(II)I" } : Jvm.MethodName)) ∈ lw_all := lw_g (lw_at lw_m7 11 rfl) rfl
theorem q1530 : (Jvm.Cond.selects "WarpMill" ({ cls := "WarpMill", name := "shared", desc := "(II)I" } : Jvm.MethodName) ({ cls := "WarpMill", name := "shared", desc := "(II)I" } : Jvm.MethodName)) ∈ lw_all := lw_g (lw_at lw_m7 12 rfl) rfl
theorem q1531 : (Jvm.Cond.code ({ cls := "WarpMill", name := "shared", desc := "(II)I" } : Jvm.MethodName) prog_1_method_17_code (4 : Nat) (Option.some Jvm.ClassFile.FieldType.int)) ∈ lw_all := lw_g (lw_at lw_m7 13 rfl) rfl
theorem q1532 : (Jvm.Cond.methodLink "WarpMill" (241 : Nat) ({ cls := "WarpMill$Machine", name := "block", desc := "(I)LWarpMill$Block;" } : Jvm.MethodName)) ∈ lw_all := lw_g (lw_at lw_m7 14 rfl) rfl
theorem q2021 : (Jvm.Cond.castable "WarpMill" "java/lang/Object") ∈ lw_tbl := lw_at lw_m9 23 rfl
theorem in_X1 : ∀ w ∈ wsX10, w ∈ lw_all := lw_in wsX10 [899, 901, 903, 905, 907, 909] (by decide +kernel) (by decide +kernel)

/-! J0 -/
set_option maxRecDepth 100000
def RJ0 : String := "java/util/AbstractCollection"
abbrev cJ0_init : ByteArray := prog_40_method_1_code
def yJ0_init : MethodName := ⟨RJ0, "<init>", "()V"⟩
theorem q80 : (Jvm.Cond.initialized "java/util/AbstractCollection") ∈ lw_all := lw_g (lw_at lw_m1 2 rfl) rfl
theorem q135 : (Jvm.Cond.instanceMethod ({ cls := "java/util/AbstractCollection", name := "<init>", desc := "()V" } : Jvm.MethodName)) ∈ lw_all := lw_g (lw_at lw_m1 57 rfl) rfl
theorem q136 : (Jvm.Cond.code ({ cls := "java/util/AbstractCollection", name := "<init>", desc := "()V" } : Jvm.MethodName) prog_40_method_1_code (1 : Nat) (Option.none : Option Jvm.ClassFile.FieldType)) ∈ lw_all := lw_g (lw_at lw_m1 58 rfl) rfl
theorem q137 : (Jvm.Cond.methodLink "java/util/AbstractCollection" (1 : Nat) ({ cls := "java/lang/Object", name := "<init>", desc := "()V" } : Jvm.MethodName)) ∈ lw_all := lw_g (lw_at lw_m1 59 rfl) rfl

/-! J1 -/
set_option maxRecDepth 100000
def RJ1 : String := "java/util/AbstractList"
abbrev cJ1_init : ByteArray := prog_41_method_1_code
def yJ1_init : MethodName := ⟨RJ1, "<init>", "()V"⟩
theorem q81 : (Jvm.Cond.initialized "java/util/AbstractList") ∈ lw_all := lw_g (lw_at lw_m1 3 rfl) rfl
theorem q132 : (Jvm.Cond.instanceMethod ({ cls := "java/util/AbstractList", name := "<init>", desc := "()V" } : Jvm.MethodName)) ∈ lw_all := lw_g (lw_at lw_m1 54 rfl) rfl
theorem q133 : (Jvm.Cond.code ({ cls := "java/util/AbstractList", name := "<init>", desc := "()V" } : Jvm.MethodName) prog_41_method_1_code (1 : Nat) (Option.none : Option Jvm.ClassFile.FieldType)) ∈ lw_all := lw_g (lw_at lw_m1 55 rfl) rfl
theorem q134 : (Jvm.Cond.methodLink "java/util/AbstractList" (1 : Nat) ({ cls := "java/util/AbstractCollection", name := "<init>", desc := "()V" } : Jvm.MethodName)) ∈ lw_all := lw_g (lw_at lw_m1 56 rfl) rfl
theorem q456 : (Jvm.Cond.fieldLink "java/util/AbstractList" (7 : Nat) "java/util/AbstractList" "modCount" "I") ∈ lw_all := lw_g (lw_at lw_m2 138 rfl) rfl
theorem q464 : (Jvm.Cond.soleField "java/util/AbstractList" "modCount") ∈ lw_all := lw_g (lw_at lw_m2 146 rfl) rfl

/-! J2 -/
set_option maxRecDepth 100000
def RJ2 : String := "java/util/ArrayList"
def TJ2 : u_T := fun k => match k with
  | 0 => ("java/util/AbstractList", "modCount", "I", false)
  | 1 => ("java/util/ArrayList", "elementData", "[Ljava/lang/Object;", false)
  | _ => ("java/util/ArrayList", "size", "I", false)
def tyJ2 : Nat → FieldType := fun k => match k with
  | 0 => .int
  | 1 => .array (.object "java/lang/Object")
  | _ => .int
abbrev wsJ20 : List Cond := u_ws RJ2 TJ2 3
theorem nmJ2 : ∀ a, a < 3 → ∀ b, b < 3 → a ≠ b → (TJ2 a).2.1 ≠ (TJ2 b).2.1 := by decide +kernel
theorem tyJ2_ok : ∀ k, k < 3 → parseFieldDescriptor (TJ2 k).2.2.1 = some (tyJ2 k) := by decide +kernel
abbrev cJ2_init : ByteArray := prog_42_method_1_code
def yJ2_init : MethodName := ⟨RJ2, "<init>", "(I)V"⟩
abbrev cJ2_init_2 : ByteArray := prog_42_method_2_code
def yJ2_init_2 : MethodName := ⟨RJ2, "<init>", "()V"⟩
abbrev cJ2_add : ByteArray := prog_42_method_25_code
def yJ2_add : MethodName := ⟨RJ2, "add", "(Ljava/lang/Object;)Z"⟩
abbrev cJ2_add_2 : ByteArray := prog_42_method_24_code
def yJ2_add_2 : MethodName := ⟨RJ2, "add", "(Ljava/lang/Object;[Ljava/lang/Object;I)V"⟩
abbrev cJ2_grow : ByteArray := prog_42_method_7_code
def yJ2_grow : MethodName := ⟨RJ2, "grow", "()[Ljava/lang/Object;"⟩
abbrev cJ2_grow_2 : ByteArray := prog_42_method_6_code
def yJ2_grow_2 : MethodName := ⟨RJ2, "grow", "(I)[Ljava/lang/Object;"⟩
abbrev cJ2_size : ByteArray := prog_42_method_8_code
def yJ2_size : MethodName := ⟨RJ2, "size", "()I"⟩
abbrev cJ2_get : ByteArray := prog_42_method_20_code
def yJ2_get : MethodName := ⟨RJ2, "get", "(I)Ljava/lang/Object;"⟩
abbrev cJ2_elementData : ByteArray := prog_42_method_18_code
def yJ2_elementData : MethodName := ⟨RJ2, "elementData", "(I)Ljava/lang/Object;"⟩
abbrev cJ2_clear : ByteArray := prog_42_method_40_code
def yJ2_clear : MethodName := ⟨RJ2, "clear", "()V"⟩
abbrev cJ2_set : ByteArray := prog_42_method_23_code
def yJ2_set : MethodName := ⟨RJ2, "set", "(ILjava/lang/Object;)Ljava/lang/Object;"⟩
abbrev cJ2_isEmpty : ByteArray := prog_42_method_9_code
def yJ2_isEmpty : MethodName := ⟨RJ2, "isEmpty", "()Z"⟩
abbrev cJ2_remove : ByteArray := prog_42_method_29_code
def yJ2_remove : MethodName := ⟨RJ2, "remove", "(I)Ljava/lang/Object;"⟩
abbrev cJ2_fastRemove : ByteArray := prog_42_method_39_code
def yJ2_fastRemove : MethodName := ⟨RJ2, "fastRemove", "([Ljava/lang/Object;I)V"⟩
theorem q82 : (Jvm.Cond.initialized "java/util/ArrayList") ∈ lw_all := lw_g (lw_at lw_m1 4 rfl) rfl
theorem q127 : (Jvm.Cond.instantiable "java/util/ArrayList" (3 : Nat)) ∈ lw_all := lw_g (lw_at lw_m1 49 rfl) rfl
theorem q129 : (Jvm.Cond.instanceMethod ({ cls := "java/util/ArrayList", name := "<init>", desc := "(I)V" } : Jvm.MethodName)) ∈ lw_all := lw_g (lw_at lw_m1 51 rfl) rfl
theorem q130 : (Jvm.Cond.code ({ cls := "java/util/ArrayList", name := "<init>", desc := "(I)V" } : Jvm.MethodName) prog_42_method_1_code (2 : Nat) (Option.none : Option Jvm.ClassFile.FieldType)) ∈ lw_all := lw_g (lw_at lw_m1 52 rfl) rfl
theorem q131 : (Jvm.Cond.methodLink "java/util/ArrayList" (1 : Nat) ({ cls := "java/util/AbstractList", name := "<init>", desc := "()V" } : Jvm.MethodName)) ∈ lw_all := lw_g (lw_at lw_m1 53 rfl) rfl
theorem q138 : (Jvm.Cond.classLink "java/util/ArrayList" (7 : Nat) "java/lang/Object") ∈ lw_all := lw_g (lw_at lw_m1 60 rfl) rfl
theorem q140 : (Jvm.Cond.fieldLink "java/util/ArrayList" (15 : Nat) "java/util/ArrayList" "EMPTY_ELEMENTDATA" "[Ljava/lang/Object;") ∈ lw_all := lw_g (lw_at lw_m1 62 rfl) rfl
theorem q141 : (Jvm.Cond.laysStatic "java/util/ArrayList" "EMPTY_ELEMENTDATA" "[Ljava/lang/Object;") ∈ lw_tbl := lw_at lw_m1 63 rfl
theorem q142 : (Jvm.Cond.classLink "java/util/ArrayList" (18 : Nat) "java/lang/IllegalArgumentException") ∈ lw_all := lw_g (lw_at lw_m1 64 rfl) rfl
theorem q183 : (Jvm.Cond.classLink "java/util/ArrayList" (20 : Nat) "java/lang/StringBuilder") ∈ lw_all := lw_g (lw_at lw_m1 105 rfl) rfl
theorem q185 : (Jvm.Cond.methodLink "java/util/ArrayList" (22 : Nat) ({ cls := "java/lang/StringBuilder", name := "<init>", desc := "()V" } : Jvm.MethodName)) ∈ lw_all := lw_g (lw_at lw_m1 107 rfl) rfl
theorem q215 : (Jvm.Cond.stringRef "java/util/ArrayList" (23 : Nat) "Illegal Capacity: ") ∈ lw_tbl := lw_at lw_m1 137 rfl
theorem q216 : (Jvm.Cond.methodLink "java/util/ArrayList" (25 : Nat) ({ cls := "java/lang/StringBuilder", name := "append", desc := "(Ljava/lang/String;)Ljava/lang/StringBuilder;" } : Jvm.MethodName)) ∈ lw_all := lw_g (lw_at lw_m1 138 rfl) rfl
theorem q336 : (Jvm.Cond.methodLink "java/util/ArrayList" (29 : Nat) ({ cls := "java/lang/StringBuilder", name := "append", desc := "(I)Ljava/lang/StringBuilder;" } : Jvm.MethodName)) ∈ lw_all := lw_g (lw_at lw_m2 18 rfl) rfl
theorem q361 : (Jvm.Cond.methodLink "java/util/ArrayList" (32 : Nat) ({ cls := "java/lang/StringBuilder", name := "toString", desc := "()Ljava/lang/String;" } : Jvm.MethodName)) ∈ lw_all := lw_g (lw_at lw_m2 43 rfl) rfl
theorem q453 : (Jvm.Cond.methodLink "java/util/ArrayList" (36 : Nat) ({ cls := "java/lang/IllegalArgumentException", name := "<init>", desc := "(Ljava/lang/String;)V" } : Jvm.MethodName)) ∈ lw_all := lw_g (lw_at lw_m2 135 rfl) rfl
theorem q454 : (Jvm.Cond.fieldLink "java/util/ArrayList" (9 : Nat) "java/util/ArrayList" "elementData" "[Ljava/lang/Object;") ∈ lw_all := lw_g (lw_at lw_m2 136 rfl) rfl
theorem q455 : (Jvm.Cond.fieldLink "java/util/ArrayList" (48 : Nat) "java/util/ArrayList" "size" "I") ∈ lw_all := lw_g (lw_at lw_m2 137 rfl) rfl
theorem q457 : (Jvm.Cond.fieldLink "java/util/ArrayList" (63 : Nat) "java/util/ArrayList" "modCount" "I") ∈ lw_all := lw_g (lw_at lw_m2 139 rfl) rfl
theorem q458 : (Jvm.Cond.sameField "java/util/ArrayList" "java/util/AbstractList" "modCount" "I") ∈ lw_all := lw_g (lw_at lw_m2 140 rfl) rfl
theorem q459 : (Jvm.Cond.lays "java/util/ArrayList" "java/util/ArrayList" "elementData" "[Ljava/lang/Object;") ∈ lw_all := lw_g (lw_at lw_m2 141 rfl) rfl
theorem q460 : (Jvm.Cond.soleField "java/util/ArrayList" "elementData") ∈ lw_all := lw_g (lw_at lw_m2 142 rfl) rfl
theorem q461 : (Jvm.Cond.lays "java/util/ArrayList" "java/util/ArrayList" "size" "I") ∈ lw_all := lw_g (lw_at lw_m2 143 rfl) rfl
theorem q462 : (Jvm.Cond.soleField "java/util/ArrayList" "size") ∈ lw_all := lw_g (lw_at lw_m2 144 rfl) rfl
theorem q463 : (Jvm.Cond.lays "java/util/ArrayList" "java/util/AbstractList" "modCount" "I") ∈ lw_all := lw_g (lw_at lw_m2 145 rfl) rfl
theorem q465 : (Jvm.Cond.superclass "java/util/ArrayList" "java/util/AbstractList") ∈ lw_all := lw_g (lw_at lw_m2 147 rfl) rfl
theorem q474 : (Jvm.Cond.instanceMethod ({ cls := "java/util/ArrayList", name := "<init>", desc := "()V" } : Jvm.MethodName)) ∈ lw_all := lw_g (lw_at lw_m2 156 rfl) rfl
theorem q475 : (Jvm.Cond.code ({ cls := "java/util/ArrayList", name := "<init>", desc := "()V" } : Jvm.MethodName) prog_42_method_2_code (1 : Nat) (Option.none : Option Jvm.ClassFile.FieldType)) ∈ lw_all := lw_g (lw_at lw_m2 157 rfl) rfl
theorem q476 : (Jvm.Cond.fieldLink "java/util/ArrayList" (39 : Nat) "java/util/ArrayList" "DEFAULTCAPACITY_EMPTY_ELEMENTDATA" "[Ljava/lang/Object;") ∈ lw_all := lw_g (lw_at lw_m2 158 rfl) rfl
theorem q477 : (Jvm.Cond.laysStatic "java/util/ArrayList" "DEFAULTCAPACITY_EMPTY_ELEMENTDATA" "[Ljava/lang/Object;") ∈ lw_tbl := lw_at lw_m2 159 rfl
theorem q632 : (Jvm.Cond.instanceMethod ({ cls := "java/util/ArrayList", name := "add", desc := "(Ljava/lang/Object;)Z" } : Jvm.MethodName)) ∈ lw_all := lw_g (lw_at lw_m3 74 rfl) rfl
theorem q633 : (Jvm.Cond.selects "java/util/ArrayList" ({ cls := "java/util/ArrayList", name := "add", desc := "(Ljava/lang/Object;)Z" } : Jvm.MethodName) ({ cls := "java/util/ArrayList", name := "add", desc := "(Ljava/lang/Object;)Z" } : Jvm.MethodName)) ∈ lw_all := lw_g (lw_at lw_m3 75 rfl) rfl
theorem q634 : (Jvm.Cond.code ({ cls := "java/util/ArrayList", name := "add", desc := "(Ljava/lang/Object;)Z" } : Jvm.MethodName) prog_42_method_25_code (2 : Nat) (Option.some Jvm.ClassFile.FieldType.boolean)) ∈ lw_all := lw_g (lw_at lw_m3 76 rfl) rfl
theorem q635 : (Jvm.Cond.methodLink "java/util/ArrayList" (131 : Nat) ({ cls := "java/util/ArrayList", name := "add", desc := "(Ljava/lang/Object;[Ljava/lang/Object;I)V" } : Jvm.MethodName)) ∈ lw_all := lw_g (lw_at lw_m3 77 rfl) rfl
theorem q636 : (Jvm.Cond.privateMethod ({ cls := "java/util/ArrayList", name := "add", desc := "(Ljava/lang/Object;[Ljava/lang/Object;I)V" } : Jvm.MethodName)) ∈ lw_tbl := lw_at lw_m3 78 rfl
theorem q637 : (Jvm.Cond.instanceMethod ({ cls := "java/util/ArrayList", name := "add", desc := "(Ljava/lang/Object;[Ljava/lang/Object;I)V" } : Jvm.MethodName)) ∈ lw_all := lw_g (lw_at lw_m3 79 rfl) rfl
theorem q638 : (Jvm.Cond.code ({ cls := "java/util/ArrayList", name := "add", desc := "(Ljava/lang/Object;[Ljava/lang/Object;I)V" } : Jvm.MethodName) prog_42_method_24_code (4 : Nat) (Option.none : Option Jvm.ClassFile.FieldType)) ∈ lw_all := lw_g (lw_at lw_m3 80 rfl) rfl
theorem q639 : (Jvm.Cond.methodLink "java/util/ArrayList" (129 : Nat) ({ cls := "java/util/ArrayList", name := "grow", desc := "()[Ljava/lang/Object;" } : Jvm.MethodName)) ∈ lw_all := lw_g (lw_at lw_m3 81 rfl) rfl
theorem q640 : (Jvm.Cond.privateMethod ({ cls := "java/util/ArrayList", name := "grow", desc := "()[Ljava/lang/Object;" } : Jvm.MethodName)) ∈ lw_tbl := lw_at lw_m3 82 rfl
theorem q641 : (Jvm.Cond.instanceMethod ({ cls := "java/util/ArrayList", name := "grow", desc := "()[Ljava/lang/Object;" } : Jvm.MethodName)) ∈ lw_all := lw_g (lw_at lw_m3 83 rfl) rfl
theorem q642 : (Jvm.Cond.code ({ cls := "java/util/ArrayList", name := "grow", desc := "()[Ljava/lang/Object;" } : Jvm.MethodName) prog_42_method_7_code (1 : Nat) (Option.some (Jvm.ClassFile.FieldType.array (Jvm.ClassFile.FieldType.object "java/lang/Object")))) ∈ lw_all := lw_g (lw_at lw_m3 84 rfl) rfl
theorem q643 : (Jvm.Cond.methodLink "java/util/ArrayList" (69 : Nat) ({ cls := "java/util/ArrayList", name := "grow", desc := "(I)[Ljava/lang/Object;" } : Jvm.MethodName)) ∈ lw_all := lw_g (lw_at lw_m3 85 rfl) rfl
theorem q644 : (Jvm.Cond.privateMethod ({ cls := "java/util/ArrayList", name := "grow", desc := "(I)[Ljava/lang/Object;" } : Jvm.MethodName)) ∈ lw_tbl := lw_at lw_m3 86 rfl
theorem q645 : (Jvm.Cond.instanceMethod ({ cls := "java/util/ArrayList", name := "grow", desc := "(I)[Ljava/lang/Object;" } : Jvm.MethodName)) ∈ lw_all := lw_g (lw_at lw_m3 87 rfl) rfl
theorem q646 : (Jvm.Cond.code ({ cls := "java/util/ArrayList", name := "grow", desc := "(I)[Ljava/lang/Object;" } : Jvm.MethodName) prog_42_method_6_code (4 : Nat) (Option.some (Jvm.ClassFile.FieldType.array (Jvm.ClassFile.FieldType.object "java/lang/Object")))) ∈ lw_all := lw_g (lw_at lw_m3 88 rfl) rfl
theorem q647 : (Jvm.Cond.methodLink "java/util/ArrayList" (73 : Nat) ({ cls := "jdk/internal/util/ArraysSupport", name := "newLength", desc := "(III)I" } : Jvm.MethodName)) ∈ lw_all := lw_g (lw_at lw_m3 89 rfl) rfl
theorem q648 : (Jvm.Cond.methodLink "java/util/ArrayList" (66 : Nat) ({ cls := "java/util/Arrays", name := "copyOf", desc := "([Ljava/lang/Object;I)[Ljava/lang/Object;" } : Jvm.MethodName)) ∈ lw_all := lw_g (lw_at lw_m3 90 rfl) rfl
theorem q673 : (Jvm.Cond.selects "java/util/ArrayList" ({ cls := "java/lang/Object", name := "getClass", desc := "()Ljava/lang/Class;" } : Jvm.MethodName) ({ cls := "java/lang/Object", name := "getClass", desc := "()Ljava/lang/Class;" } : Jvm.MethodName)) ∈ lw_all := lw_g (lw_at lw_m3 115 rfl) rfl
theorem q682 : (Jvm.Cond.methodLink "java/util/ArrayList" (79 : Nat) ({ cls := "java/lang/Math", name := "max", desc := "(II)I" } : Jvm.MethodName)) ∈ lw_all := lw_g (lw_at lw_m3 124 rfl) rfl
theorem q696 : (Jvm.Cond.instanceMethod ({ cls := "java/util/ArrayList", name := "size", desc := "()I" } : Jvm.MethodName)) ∈ lw_all := lw_g (lw_at lw_m3 138 rfl) rfl
theorem q697 : (Jvm.Cond.selects "java/util/ArrayList" ({ cls := "java/util/ArrayList", name := "size", desc := "()I" } : Jvm.MethodName) ({ cls := "java/util/ArrayList", name := "size", desc := "()I" } : Jvm.MethodName)) ∈ lw_all := lw_g (lw_at lw_m3 139 rfl) rfl
theorem q698 : (Jvm.Cond.code ({ cls := "java/util/ArrayList", name := "size", desc := "()I" } : Jvm.MethodName) prog_42_method_8_code (1 : Nat) (Option.some Jvm.ClassFile.FieldType.int)) ∈ lw_all := lw_g (lw_at lw_m3 140 rfl) rfl
theorem q700 : (Jvm.Cond.instanceMethod ({ cls := "java/util/ArrayList", name := "get", desc := "(I)Ljava/lang/Object;" } : Jvm.MethodName)) ∈ lw_all := lw_g (lw_at lw_m3 142 rfl) rfl
theorem q701 : (Jvm.Cond.selects "java/util/ArrayList" ({ cls := "java/util/ArrayList", name := "get", desc := "(I)Ljava/lang/Object;" } : Jvm.MethodName) ({ cls := "java/util/ArrayList", name := "get", desc := "(I)Ljava/lang/Object;" } : Jvm.MethodName)) ∈ lw_all := lw_g (lw_at lw_m3 143 rfl) rfl
theorem q702 : (Jvm.Cond.code ({ cls := "java/util/ArrayList", name := "get", desc := "(I)Ljava/lang/Object;" } : Jvm.MethodName) prog_42_method_20_code (2 : Nat) (Option.some (Jvm.ClassFile.FieldType.object "java/lang/Object"))) ∈ lw_all := lw_g (lw_at lw_m3 144 rfl) rfl
theorem q703 : (Jvm.Cond.methodLink "java/util/ArrayList" (118 : Nat) ({ cls := "java/util/Objects", name := "checkIndex", desc := "(II)I" } : Jvm.MethodName)) ∈ lw_all := lw_g (lw_at lw_m3 145 rfl) rfl
theorem q709 : (Jvm.Cond.methodLink "java/util/ArrayList" (123 : Nat) ({ cls := "java/util/ArrayList", name := "elementData", desc := "(I)Ljava/lang/Object;" } : Jvm.MethodName)) ∈ lw_all := lw_g (lw_at lw_m3 151 rfl) rfl
theorem q710 : (Jvm.Cond.instanceMethod ({ cls := "java/util/ArrayList", name := "elementData", desc := "(I)Ljava/lang/Object;" } : Jvm.MethodName)) ∈ lw_all := lw_g (lw_at lw_m3 152 rfl) rfl
theorem q711 : (Jvm.Cond.selects "java/util/ArrayList" ({ cls := "java/util/ArrayList", name := "elementData", desc := "(I)Ljava/lang/Object;" } : Jvm.MethodName) ({ cls := "java/util/ArrayList", name := "elementData", desc := "(I)Ljava/lang/Object;" } : Jvm.MethodName)) ∈ lw_all := lw_g (lw_at lw_m3 153 rfl) rfl
theorem q712 : (Jvm.Cond.code ({ cls := "java/util/ArrayList", name := "elementData", desc := "(I)Ljava/lang/Object;" } : Jvm.MethodName) prog_42_method_18_code (2 : Nat) (Option.some (Jvm.ClassFile.FieldType.object "java/lang/Object"))) ∈ lw_all := lw_g (lw_at lw_m3 154 rfl) rfl
theorem q716 : (Jvm.Cond.instanceMethod ({ cls := "java/util/ArrayList", name := "clear", desc := "()V" } : Jvm.MethodName)) ∈ lw_all := lw_g (lw_at lw_m3 158 rfl) rfl
theorem q717 : (Jvm.Cond.selects "java/util/ArrayList" ({ cls := "java/util/ArrayList", name := "clear", desc := "()V" } : Jvm.MethodName) ({ cls := "java/util/ArrayList", name := "clear", desc := "()V" } : Jvm.MethodName)) ∈ lw_all := lw_g (lw_at lw_m3 159 rfl) rfl
theorem q718 : (Jvm.Cond.code ({ cls := "java/util/ArrayList", name := "clear", desc := "()V" } : Jvm.MethodName) prog_42_method_40_code (4 : Nat) (Option.none : Option Jvm.ClassFile.FieldType)) ∈ lw_all := lw_g (lw_at lw_m3 160 rfl) rfl
theorem q951 : (Jvm.Cond.instanceMethod ({ cls := "java/util/ArrayList", name := "set", desc := "(ILjava/lang/Object;)Ljava/lang/Object;" } : Jvm.MethodName)) ∈ lw_all := lw_g (lw_at lw_m4 153 rfl) rfl
theorem q952 : (Jvm.Cond.selects "java/util/ArrayList" ({ cls := "java/util/ArrayList", name := "set", desc := "(ILjava/lang/Object;)Ljava/lang/Object;" } : Jvm.MethodName) ({ cls := "java/util/ArrayList", name := "set", desc := "(ILjava/lang/Object;)Ljava/lang/Object;" } : Jvm.MethodName)) ∈ lw_all := lw_g (lw_at lw_m4 154 rfl) rfl
theorem q953 : (Jvm.Cond.code ({ cls := "java/util/ArrayList", name := "set", desc := "(ILjava/lang/Object;)Ljava/lang/Object;" } : Jvm.MethodName) prog_42_method_23_code (4 : Nat) (Option.some (Jvm.ClassFile.FieldType.object "java/lang/Object"))) ∈ lw_all := lw_g (lw_at lw_m4 155 rfl) rfl
theorem q1068 : (Jvm.Cond.instanceMethod ({ cls := "java/util/ArrayList", name := "isEmpty", desc := "()Z" } : Jvm.MethodName)) ∈ lw_all := lw_g (lw_at lw_m5 30 rfl) rfl
theorem q1069 : (Jvm.Cond.selects "java/util/ArrayList" ({ cls := "java/util/ArrayList", name := "isEmpty", desc := "()Z" } : Jvm.MethodName) ({ cls := "java/util/ArrayList", name := "isEmpty", desc := "()Z" } : Jvm.MethodName)) ∈ lw_all := lw_g (lw_at lw_m5 31 rfl) rfl
theorem q1070 : (Jvm.Cond.code ({ cls := "java/util/ArrayList", name := "isEmpty", desc := "()Z" } : Jvm.MethodName) prog_42_method_9_code (1 : Nat) (Option.some Jvm.ClassFile.FieldType.boolean)) ∈ lw_all := lw_g (lw_at lw_m5 32 rfl) rfl
theorem q1076 : (Jvm.Cond.instanceMethod ({ cls := "java/util/ArrayList", name := "remove", desc := "(I)Ljava/lang/Object;" } : Jvm.MethodName)) ∈ lw_all := lw_g (lw_at lw_m5 38 rfl) rfl
theorem q1077 : (Jvm.Cond.selects "java/util/ArrayList" ({ cls := "java/util/ArrayList", name := "remove", desc := "(I)Ljava/lang/Object;" } : Jvm.MethodName) ({ cls := "java/util/ArrayList", name := "remove", desc := "(I)Ljava/lang/Object;" } : Jvm.MethodName)) ∈ lw_all := lw_g (lw_at lw_m5 39 rfl) rfl
theorem q1078 : (Jvm.Cond.code ({ cls := "java/util/ArrayList", name := "remove", desc := "(I)Ljava/lang/Object;" } : Jvm.MethodName) prog_42_method_29_code (4 : Nat) (Option.some (Jvm.ClassFile.FieldType.object "java/lang/Object"))) ∈ lw_all := lw_g (lw_at lw_m5 40 rfl) rfl
theorem q1079 : (Jvm.Cond.methodLink "java/util/ArrayList" (144 : Nat) ({ cls := "java/util/ArrayList", name := "fastRemove", desc := "([Ljava/lang/Object;I)V" } : Jvm.MethodName)) ∈ lw_all := lw_g (lw_at lw_m5 41 rfl) rfl
theorem q1080 : (Jvm.Cond.privateMethod ({ cls := "java/util/ArrayList", name := "fastRemove", desc := "([Ljava/lang/Object;I)V" } : Jvm.MethodName)) ∈ lw_tbl := lw_at lw_m5 42 rfl
theorem q1081 : (Jvm.Cond.instanceMethod ({ cls := "java/util/ArrayList", name := "fastRemove", desc := "([Ljava/lang/Object;I)V" } : Jvm.MethodName)) ∈ lw_all := lw_g (lw_at lw_m5 43 rfl) rfl
theorem q1082 : (Jvm.Cond.code ({ cls := "java/util/ArrayList", name := "fastRemove", desc := "([Ljava/lang/Object;I)V" } : Jvm.MethodName) prog_42_method_39_code (4 : Nat) (Option.none : Option Jvm.ClassFile.FieldType)) ∈ lw_all := lw_g (lw_at lw_m5 44 rfl) rfl
theorem q1083 : (Jvm.Cond.methodLink "java/util/ArrayList" (112 : Nat) ({ cls := "java/lang/System", name := "arraycopy", desc := "(Ljava/lang/Object;ILjava/lang/Object;II)V" } : Jvm.MethodName)) ∈ lw_all := lw_g (lw_at lw_m5 45 rfl) rfl
theorem q2022 : (Jvm.Cond.castable "java/util/ArrayList" "java/lang/Object") ∈ lw_tbl := lw_at lw_m9 24 rfl
theorem in_J2 : ∀ w ∈ wsJ20, w ∈ lw_all := lw_in wsJ20 [463, 459, 461] (by decide +kernel) (by decide +kernel)

/-! J3 -/
set_option maxRecDepth 100000
def RJ3 : String := "java/lang/Throwable"
def TJ3 : u_T := fun k => match k with
  | 0 => ("java/lang/Throwable", "cause", "Ljava/lang/Throwable;", false)
  | 1 => ("java/lang/Throwable", "stackTrace", "[Ljava/lang/StackTraceElement;", false)
  | 2 => ("java/lang/Throwable", "suppressedExceptions", "Ljava/util/List;", false)
  | 3 => ("java/lang/Throwable", "detailMessage", "Ljava/lang/String;", false)
  | _ => ("java/lang/Throwable", "backtrace", "Ljava/lang/Object;", false)
def tyJ3 : Nat → FieldType := fun k => match k with
  | 0 => .object "java/lang/Throwable"
  | 1 => .array (.object "java/lang/StackTraceElement")
  | 2 => .object "java/util/List"
  | 3 => .object "java/lang/String"
  | _ => .object "java/lang/Object"
abbrev wsJ30 : List Cond := u_ws RJ3 TJ3 5
theorem nmJ3 : ∀ a, a < 5 → ∀ b, b < 5 → a ≠ b → (TJ3 a).2.1 ≠ (TJ3 b).2.1 := by decide +kernel
theorem tyJ3_ok : ∀ k, k < 5 → parseFieldDescriptor (TJ3 k).2.2.1 = some (tyJ3 k) := by decide +kernel
abbrev cJ3_init : ByteArray := prog_37_method_1_code
def yJ3_init : MethodName := ⟨RJ3, "<init>", "()V"⟩
abbrev cJ3_init_2 : ByteArray := prog_37_method_2_code
def yJ3_init_2 : MethodName := ⟨RJ3, "<init>", "(Ljava/lang/String;)V"⟩
theorem q83 : (Jvm.Cond.initialized "java/lang/Throwable") ∈ lw_all := lw_g (lw_at lw_m1 5 rfl) rfl
theorem q149 : (Jvm.Cond.declares ({ cls := "java/lang/Throwable", name := "<init>", desc := "()V" } : Jvm.MethodName)) ∈ lw_tbl := lw_at lw_m1 71 rfl
theorem q150 : (Jvm.Cond.declares ({ cls := "java/lang/Throwable", name := "<init>", desc := "(Ljava/lang/String;)V" } : Jvm.MethodName)) ∈ lw_tbl := lw_at lw_m1 72 rfl
theorem q154 : (Jvm.Cond.lays "java/lang/Throwable" "java/lang/Throwable" "cause" "Ljava/lang/Throwable;") ∈ lw_all := lw_g (lw_at lw_m1 76 rfl) rfl
theorem q156 : (Jvm.Cond.lays "java/lang/Throwable" "java/lang/Throwable" "stackTrace" "[Ljava/lang/StackTraceElement;") ∈ lw_all := lw_g (lw_at lw_m1 78 rfl) rfl
theorem q158 : (Jvm.Cond.lays "java/lang/Throwable" "java/lang/Throwable" "suppressedExceptions" "Ljava/util/List;") ∈ lw_all := lw_g (lw_at lw_m1 80 rfl) rfl
theorem q160 : (Jvm.Cond.lays "java/lang/Throwable" "java/lang/Throwable" "detailMessage" "Ljava/lang/String;") ∈ lw_all := lw_g (lw_at lw_m1 82 rfl) rfl
theorem q162 : (Jvm.Cond.lays "java/lang/Throwable" "java/lang/Throwable" "backtrace" "Ljava/lang/Object;") ∈ lw_all := lw_g (lw_at lw_m1 84 rfl) rfl
theorem q163 : (Jvm.Cond.fieldLink "java/lang/Throwable" (198 : Nat) "java/lang/Throwable" "backtrace" "Ljava/lang/Object;") ∈ lw_all := lw_g (lw_at lw_m1 85 rfl) rfl
theorem q164 : (Jvm.Cond.superclass "java/lang/Throwable" "java/lang/Object") ∈ lw_all := lw_g (lw_at lw_m1 86 rfl) rfl
theorem q165 : (Jvm.Cond.instanceMethod ({ cls := "java/lang/Throwable", name := "<init>", desc := "()V" } : Jvm.MethodName)) ∈ lw_all := lw_g (lw_at lw_m1 87 rfl) rfl
theorem q166 : (Jvm.Cond.code ({ cls := "java/lang/Throwable", name := "<init>", desc := "()V" } : Jvm.MethodName) prog_37_method_1_code (1 : Nat) (Option.none : Option Jvm.ClassFile.FieldType)) ∈ lw_all := lw_g (lw_at lw_m1 88 rfl) rfl
theorem q167 : (Jvm.Cond.methodLink "java/lang/Throwable" (1 : Nat) ({ cls := "java/lang/Object", name := "<init>", desc := "()V" } : Jvm.MethodName)) ∈ lw_all := lw_g (lw_at lw_m1 89 rfl) rfl
theorem q168 : (Jvm.Cond.fieldLink "java/lang/Throwable" (13 : Nat) "java/lang/Throwable" "UNASSIGNED_STACK" "[Ljava/lang/StackTraceElement;") ∈ lw_all := lw_g (lw_at lw_m1 90 rfl) rfl
theorem q169 : (Jvm.Cond.laysStatic "java/lang/Throwable" "UNASSIGNED_STACK" "[Ljava/lang/StackTraceElement;") ∈ lw_tbl := lw_at lw_m1 91 rfl
theorem q170 : (Jvm.Cond.fieldLink "java/lang/Throwable" (20 : Nat) "java/lang/Throwable" "SUPPRESSED_SENTINEL" "Ljava/util/List;") ∈ lw_all := lw_g (lw_at lw_m1 92 rfl) rfl
theorem q171 : (Jvm.Cond.laysStatic "java/lang/Throwable" "SUPPRESSED_SENTINEL" "Ljava/util/List;") ∈ lw_tbl := lw_at lw_m1 93 rfl
theorem q172 : (Jvm.Cond.methodLink "java/lang/Throwable" (27 : Nat) ({ cls := "java/lang/Throwable", name := "fillInStackTrace", desc := "()Ljava/lang/Throwable;" } : Jvm.MethodName)) ∈ lw_all := lw_g (lw_at lw_m1 94 rfl) rfl
theorem q173 : (Jvm.Cond.instanceMethod ({ cls := "java/lang/Throwable", name := "fillInStackTrace", desc := "()Ljava/lang/Throwable;" } : Jvm.MethodName)) ∈ lw_all := lw_g (lw_at lw_m1 95 rfl) rfl
theorem q174 : (Jvm.Cond.sameMethod "java/lang/Throwable" "java/lang/Throwable" "fillInStackTrace" "()Ljava/lang/Throwable;") ∈ lw_all := lw_g (lw_at lw_m1 96 rfl) rfl
theorem q177 : (Jvm.Cond.codeSync ({ cls := "java/lang/Throwable", name := "fillInStackTrace", desc := "()Ljava/lang/Throwable;" } : Jvm.MethodName) prog_37_method_18_code (1 : Nat) (Option.some (Jvm.ClassFile.FieldType.object "java/lang/Throwable"))) ∈ lw_all := lw_g (lw_at lw_m1 99 rfl) rfl
theorem q178 : (Jvm.Cond.methodLink "java/lang/Throwable" (202 : Nat) ({ cls := "java/lang/Throwable", name := "fillInStackTrace", desc := "(I)Ljava/lang/Throwable;" } : Jvm.MethodName)) ∈ lw_all := lw_g (lw_at lw_m1 100 rfl) rfl
theorem q179 : (Jvm.Cond.privateMethod ({ cls := "java/lang/Throwable", name := "fillInStackTrace", desc := "(I)Ljava/lang/Throwable;" } : Jvm.MethodName)) ∈ lw_tbl := lw_at lw_m1 101 rfl
theorem q180 : (Jvm.Cond.instanceMethod ({ cls := "java/lang/Throwable", name := "fillInStackTrace", desc := "(I)Ljava/lang/Throwable;" } : Jvm.MethodName)) ∈ lw_all := lw_g (lw_at lw_m1 102 rfl) rfl
theorem q181 : (Jvm.Cond.instantiable "java/lang/Throwable" (6 : Nat)) ∈ lw_all := lw_g (lw_at lw_m1 103 rfl) rfl
theorem q182 : (Jvm.Cond.native ({ cls := "java/lang/Throwable", name := "fillInStackTrace", desc := "(I)Ljava/lang/Throwable;" } : Jvm.MethodName)) ∈ lw_all := lw_g (lw_at lw_m1 104 rfl) rfl
theorem q414 : (Jvm.Cond.instanceMethod ({ cls := "java/lang/Throwable", name := "<init>", desc := "(Ljava/lang/String;)V" } : Jvm.MethodName)) ∈ lw_all := lw_g (lw_at lw_m2 96 rfl) rfl
theorem q415 : (Jvm.Cond.code ({ cls := "java/lang/Throwable", name := "<init>", desc := "(Ljava/lang/String;)V" } : Jvm.MethodName) prog_37_method_2_code (2 : Nat) (Option.none : Option Jvm.ClassFile.FieldType)) ∈ lw_all := lw_g (lw_at lw_m2 97 rfl) rfl
theorem q416 : (Jvm.Cond.fieldLink "java/lang/Throwable" (198 : Nat) "java/lang/Throwable" "backtrace" "Ljava/lang/Object;") ∈ lw_all := lw_g (lw_at lw_m2 98 rfl) rfl
theorem q417 : (Jvm.Cond.fieldLink "java/lang/Throwable" (31 : Nat) "java/lang/Throwable" "detailMessage" "Ljava/lang/String;") ∈ lw_all := lw_g (lw_at lw_m2 99 rfl) rfl
theorem q418 : (Jvm.Cond.fieldLink "java/lang/Throwable" (7 : Nat) "java/lang/Throwable" "cause" "Ljava/lang/Throwable;") ∈ lw_all := lw_g (lw_at lw_m2 100 rfl) rfl
theorem q419 : (Jvm.Cond.fieldLink "java/lang/Throwable" (17 : Nat) "java/lang/Throwable" "stackTrace" "[Ljava/lang/StackTraceElement;") ∈ lw_all := lw_g (lw_at lw_m2 101 rfl) rfl
theorem q420 : (Jvm.Cond.fieldLink "java/lang/Throwable" (24 : Nat) "java/lang/Throwable" "suppressedExceptions" "Ljava/util/List;") ∈ lw_all := lw_g (lw_at lw_m2 102 rfl) rfl
theorem q421 : (Jvm.Cond.soleField "java/lang/Throwable" "backtrace") ∈ lw_all := lw_g (lw_at lw_m2 103 rfl) rfl
theorem q422 : (Jvm.Cond.soleField "java/lang/Throwable" "detailMessage") ∈ lw_all := lw_g (lw_at lw_m2 104 rfl) rfl
theorem q423 : (Jvm.Cond.soleField "java/lang/Throwable" "cause") ∈ lw_all := lw_g (lw_at lw_m2 105 rfl) rfl
theorem q424 : (Jvm.Cond.soleField "java/lang/Throwable" "stackTrace") ∈ lw_all := lw_g (lw_at lw_m2 106 rfl) rfl
theorem q426 : (Jvm.Cond.soleField "java/lang/Throwable" "depth") ∈ lw_all := lw_g (lw_at lw_m2 108 rfl) rfl
theorem q427 : (Jvm.Cond.soleField "java/lang/Throwable" "suppressedExceptions") ∈ lw_all := lw_g (lw_at lw_m2 109 rfl) rfl
theorem q2002 : (Jvm.Cond.sameMethod "java/lang/Throwable" "java/lang/Throwable" "fillInStackTrace" "(I)Ljava/lang/Throwable;") ∈ lw_all := lw_g (lw_at lw_m9 4 rfl) rfl
theorem q2042 : (Jvm.Cond.castable "java/lang/Throwable" "java/lang/Object") ∈ lw_tbl := lw_at lw_m9 44 rfl
theorem in_J3 : ∀ w ∈ wsJ30, w ∈ lw_all := lw_in wsJ30 [154, 156, 158, 160, 162] (by decide +kernel) (by decide +kernel)

/-! J4 -/
set_option maxRecDepth 100000
def RJ4 : String := "java/lang/Exception"
abbrev cJ4_init : ByteArray := prog_24_method_2_code
def yJ4_init : MethodName := ⟨RJ4, "<init>", "(Ljava/lang/String;)V"⟩
abbrev cJ4_init_2 : ByteArray := prog_24_method_1_code
def yJ4_init_2 : MethodName := ⟨RJ4, "<init>", "()V"⟩
theorem q84 : (Jvm.Cond.initialized "java/lang/Exception") ∈ lw_all := lw_g (lw_at lw_m1 6 rfl) rfl
theorem q147 : (Jvm.Cond.declares ({ cls := "java/lang/Exception", name := "<init>", desc := "()V" } : Jvm.MethodName)) ∈ lw_tbl := lw_at lw_m1 69 rfl
theorem q148 : (Jvm.Cond.declares ({ cls := "java/lang/Exception", name := "<init>", desc := "(Ljava/lang/String;)V" } : Jvm.MethodName)) ∈ lw_tbl := lw_at lw_m1 70 rfl
theorem q411 : (Jvm.Cond.instanceMethod ({ cls := "java/lang/Exception", name := "<init>", desc := "(Ljava/lang/String;)V" } : Jvm.MethodName)) ∈ lw_all := lw_g (lw_at lw_m2 93 rfl) rfl
theorem q412 : (Jvm.Cond.code ({ cls := "java/lang/Exception", name := "<init>", desc := "(Ljava/lang/String;)V" } : Jvm.MethodName) prog_24_method_2_code (2 : Nat) (Option.none : Option Jvm.ClassFile.FieldType)) ∈ lw_all := lw_g (lw_at lw_m2 94 rfl) rfl
theorem q413 : (Jvm.Cond.methodLink "java/lang/Exception" (7 : Nat) ({ cls := "java/lang/Throwable", name := "<init>", desc := "(Ljava/lang/String;)V" } : Jvm.MethodName)) ∈ lw_all := lw_g (lw_at lw_m2 95 rfl) rfl
theorem q1041 : (Jvm.Cond.instanceMethod ({ cls := "java/lang/Exception", name := "<init>", desc := "()V" } : Jvm.MethodName)) ∈ lw_all := lw_g (lw_at lw_m5 3 rfl) rfl
theorem q1042 : (Jvm.Cond.code ({ cls := "java/lang/Exception", name := "<init>", desc := "()V" } : Jvm.MethodName) prog_24_method_1_code (1 : Nat) (Option.none : Option Jvm.ClassFile.FieldType)) ∈ lw_all := lw_g (lw_at lw_m5 4 rfl) rfl
theorem q1043 : (Jvm.Cond.methodLink "java/lang/Exception" (1 : Nat) ({ cls := "java/lang/Throwable", name := "<init>", desc := "()V" } : Jvm.MethodName)) ∈ lw_all := lw_g (lw_at lw_m5 5 rfl) rfl

/-! J5 -/
set_option maxRecDepth 100000
def RJ5 : String := "java/lang/RuntimeException"
abbrev cJ5_init : ByteArray := prog_31_method_2_code
def yJ5_init : MethodName := ⟨RJ5, "<init>", "(Ljava/lang/String;)V"⟩
abbrev cJ5_init_2 : ByteArray := prog_31_method_1_code
def yJ5_init_2 : MethodName := ⟨RJ5, "<init>", "()V"⟩
theorem q85 : (Jvm.Cond.initialized "java/lang/RuntimeException") ∈ lw_all := lw_g (lw_at lw_m1 7 rfl) rfl
theorem q145 : (Jvm.Cond.declares ({ cls := "java/lang/RuntimeException", name := "<init>", desc := "()V" } : Jvm.MethodName)) ∈ lw_tbl := lw_at lw_m1 67 rfl
theorem q146 : (Jvm.Cond.declares ({ cls := "java/lang/RuntimeException", name := "<init>", desc := "(Ljava/lang/String;)V" } : Jvm.MethodName)) ∈ lw_tbl := lw_at lw_m1 68 rfl
theorem q408 : (Jvm.Cond.instanceMethod ({ cls := "java/lang/RuntimeException", name := "<init>", desc := "(Ljava/lang/String;)V" } : Jvm.MethodName)) ∈ lw_all := lw_g (lw_at lw_m2 90 rfl) rfl
theorem q409 : (Jvm.Cond.code ({ cls := "java/lang/RuntimeException", name := "<init>", desc := "(Ljava/lang/String;)V" } : Jvm.MethodName) prog_31_method_2_code (2 : Nat) (Option.none : Option Jvm.ClassFile.FieldType)) ∈ lw_all := lw_g (lw_at lw_m2 91 rfl) rfl
theorem q410 : (Jvm.Cond.methodLink "java/lang/RuntimeException" (7 : Nat) ({ cls := "java/lang/Exception", name := "<init>", desc := "(Ljava/lang/String;)V" } : Jvm.MethodName)) ∈ lw_all := lw_g (lw_at lw_m2 92 rfl) rfl
theorem q1038 : (Jvm.Cond.instanceMethod ({ cls := "java/lang/RuntimeException", name := "<init>", desc := "()V" } : Jvm.MethodName)) ∈ lw_all := lw_g (lw_at lw_m5 0 rfl) rfl
theorem q1039 : (Jvm.Cond.code ({ cls := "java/lang/RuntimeException", name := "<init>", desc := "()V" } : Jvm.MethodName) prog_31_method_1_code (1 : Nat) (Option.none : Option Jvm.ClassFile.FieldType)) ∈ lw_all := lw_g (lw_at lw_m5 1 rfl) rfl
theorem q1040 : (Jvm.Cond.methodLink "java/lang/RuntimeException" (1 : Nat) ({ cls := "java/lang/Exception", name := "<init>", desc := "()V" } : Jvm.MethodName)) ∈ lw_all := lw_g (lw_at lw_m5 2 rfl) rfl

/-! J6 -/
set_option maxRecDepth 100000
def RJ6 : String := "java/lang/IllegalArgumentException"
def TJ6 : u_T := fun k => match k with
  | 0 => ("java/lang/Throwable", "cause", "Ljava/lang/Throwable;", false)
  | 1 => ("java/lang/Throwable", "stackTrace", "[Ljava/lang/StackTraceElement;", false)
  | 2 => ("java/lang/Throwable", "suppressedExceptions", "Ljava/util/List;", false)
  | 3 => ("java/lang/Throwable", "detailMessage", "Ljava/lang/String;", false)
  | 4 => ("java/lang/Throwable", "backtrace", "Ljava/lang/Object;", false)
  | _ => ("java/lang/Throwable", "depth", "I", false)
def tyJ6 : Nat → FieldType := fun k => match k with
  | 0 => .object "java/lang/Throwable"
  | 1 => .array (.object "java/lang/StackTraceElement")
  | 2 => .object "java/util/List"
  | 3 => .object "java/lang/String"
  | 4 => .object "java/lang/Object"
  | _ => .int
abbrev wsJ60 : List Cond := u_ws RJ6 TJ6 6
theorem nmJ6 : ∀ a, a < 6 → ∀ b, b < 6 → a ≠ b → (TJ6 a).2.1 ≠ (TJ6 b).2.1 := by decide +kernel
theorem tyJ6_ok : ∀ k, k < 6 → parseFieldDescriptor (TJ6 k).2.2.1 = some (tyJ6 k) := by decide +kernel
abbrev cJ6_init : ByteArray := prog_25_method_2_code
def yJ6_init : MethodName := ⟨RJ6, "<init>", "(Ljava/lang/String;)V"⟩
abbrev cJ6_init_2 : ByteArray := prog_25_method_1_code
def yJ6_init_2 : MethodName := ⟨RJ6, "<init>", "()V"⟩
theorem q86 : (Jvm.Cond.initialized "java/lang/IllegalArgumentException") ∈ lw_all := lw_g (lw_at lw_m1 8 rfl) rfl
theorem q143 : (Jvm.Cond.instantiable "java/lang/IllegalArgumentException" (6 : Nat)) ∈ lw_all := lw_g (lw_at lw_m1 65 rfl) rfl
theorem q144 : (Jvm.Cond.castable "java/lang/IllegalArgumentException" "java/lang/IllegalArgumentException") ∈ lw_tbl := lw_at lw_m1 66 rfl
theorem q151 : (Jvm.Cond.selects "java/lang/IllegalArgumentException" ({ cls := "java/lang/Throwable", name := "fillInStackTrace", desc := "(I)Ljava/lang/Throwable;" } : Jvm.MethodName) ({ cls := "java/lang/Throwable", name := "fillInStackTrace", desc := "(I)Ljava/lang/Throwable;" } : Jvm.MethodName)) ∈ lw_all := lw_g (lw_at lw_m1 73 rfl) rfl
theorem q152 : (Jvm.Cond.selects "java/lang/IllegalArgumentException" ({ cls := "java/lang/Throwable", name := "fillInStackTrace", desc := "()Ljava/lang/Throwable;" } : Jvm.MethodName) ({ cls := "java/lang/Throwable", name := "fillInStackTrace", desc := "()Ljava/lang/Throwable;" } : Jvm.MethodName)) ∈ lw_all := lw_g (lw_at lw_m1 74 rfl) rfl
theorem q153 : (Jvm.Cond.lays "java/lang/IllegalArgumentException" "java/lang/Throwable" "cause" "Ljava/lang/Throwable;") ∈ lw_all := lw_g (lw_at lw_m1 75 rfl) rfl
theorem q155 : (Jvm.Cond.lays "java/lang/IllegalArgumentException" "java/lang/Throwable" "stackTrace" "[Ljava/lang/StackTraceElement;") ∈ lw_all := lw_g (lw_at lw_m1 77 rfl) rfl
theorem q157 : (Jvm.Cond.lays "java/lang/IllegalArgumentException" "java/lang/Throwable" "suppressedExceptions" "Ljava/util/List;") ∈ lw_all := lw_g (lw_at lw_m1 79 rfl) rfl
theorem q159 : (Jvm.Cond.lays "java/lang/IllegalArgumentException" "java/lang/Throwable" "detailMessage" "Ljava/lang/String;") ∈ lw_all := lw_g (lw_at lw_m1 81 rfl) rfl
theorem q161 : (Jvm.Cond.lays "java/lang/IllegalArgumentException" "java/lang/Throwable" "backtrace" "Ljava/lang/Object;") ∈ lw_all := lw_g (lw_at lw_m1 83 rfl) rfl
theorem q405 : (Jvm.Cond.instanceMethod ({ cls := "java/lang/IllegalArgumentException", name := "<init>", desc := "(Ljava/lang/String;)V" } : Jvm.MethodName)) ∈ lw_all := lw_g (lw_at lw_m2 87 rfl) rfl
theorem q406 : (Jvm.Cond.code ({ cls := "java/lang/IllegalArgumentException", name := "<init>", desc := "(Ljava/lang/String;)V" } : Jvm.MethodName) prog_25_method_2_code (2 : Nat) (Option.none : Option Jvm.ClassFile.FieldType)) ∈ lw_all := lw_g (lw_at lw_m2 88 rfl) rfl
theorem q407 : (Jvm.Cond.methodLink "java/lang/IllegalArgumentException" (7 : Nat) ({ cls := "java/lang/RuntimeException", name := "<init>", desc := "(Ljava/lang/String;)V" } : Jvm.MethodName)) ∈ lw_all := lw_g (lw_at lw_m2 89 rfl) rfl
theorem q425 : (Jvm.Cond.lays "java/lang/IllegalArgumentException" "java/lang/Throwable" "depth" "I") ∈ lw_all := lw_g (lw_at lw_m2 107 rfl) rfl
theorem q428 : (Jvm.Cond.superclass "java/lang/IllegalArgumentException" "java/lang/RuntimeException") ∈ lw_all := lw_g (lw_at lw_m2 110 rfl) rfl
theorem q669 : (Jvm.Cond.selects "java/lang/IllegalArgumentException" ({ cls := "java/lang/Object", name := "getClass", desc := "()Ljava/lang/Class;" } : Jvm.MethodName) ({ cls := "java/lang/Object", name := "getClass", desc := "()Ljava/lang/Class;" } : Jvm.MethodName)) ∈ lw_all := lw_g (lw_at lw_m3 111 rfl) rfl
theorem q1035 : (Jvm.Cond.instanceMethod ({ cls := "java/lang/IllegalArgumentException", name := "<init>", desc := "()V" } : Jvm.MethodName)) ∈ lw_all := lw_g (lw_at lw_m4 237 rfl) rfl
theorem q1036 : (Jvm.Cond.code ({ cls := "java/lang/IllegalArgumentException", name := "<init>", desc := "()V" } : Jvm.MethodName) prog_25_method_1_code (1 : Nat) (Option.none : Option Jvm.ClassFile.FieldType)) ∈ lw_all := lw_g (lw_at lw_m4 238 rfl) rfl
theorem q1037 : (Jvm.Cond.methodLink "java/lang/IllegalArgumentException" (1 : Nat) ({ cls := "java/lang/RuntimeException", name := "<init>", desc := "()V" } : Jvm.MethodName)) ∈ lw_all := lw_g (lw_at lw_m4 239 rfl) rfl
theorem q2023 : (Jvm.Cond.castable "java/lang/IllegalArgumentException" "java/lang/Object") ∈ lw_tbl := lw_at lw_m9 25 rfl
theorem in_J6 : ∀ w ∈ wsJ60, w ∈ lw_all := lw_in wsJ60 [153, 155, 157, 159, 161, 425] (by decide +kernel) (by decide +kernel)

/-! J11 -/
set_option maxRecDepth 100000
def RJ11 : String := "jdk/internal/util/ArraysSupport"
abbrev cJ11_newLength : ByteArray := prog_51_method_27_code
def yJ11_newLength : MethodName := ⟨RJ11, "newLength", "(III)I"⟩
abbrev cJ11_hugeLength : ByteArray := prog_51_method_28_code
def yJ11_hugeLength : MethodName := ⟨RJ11, "hugeLength", "(II)I"⟩
theorem q91 : (Jvm.Cond.initialized "jdk/internal/util/ArraysSupport") ∈ lw_all := lw_g (lw_at lw_m1 13 rfl) rfl
theorem q236 : (Jvm.Cond.static ({ cls := "jdk/internal/util/ArraysSupport", name := "newLength", desc := "(III)I" } : Jvm.MethodName)) ∈ lw_all := lw_g (lw_at lw_m1 158 rfl) rfl
theorem q237 : (Jvm.Cond.code ({ cls := "jdk/internal/util/ArraysSupport", name := "newLength", desc := "(III)I" } : Jvm.MethodName) prog_51_method_27_code (4 : Nat) (Option.some Jvm.ClassFile.FieldType.int)) ∈ lw_all := lw_g (lw_at lw_m1 159 rfl) rfl
theorem q238 : (Jvm.Cond.methodLink "jdk/internal/util/ArraysSupport" (194 : Nat) ({ cls := "java/lang/Math", name := "max", desc := "(II)I" } : Jvm.MethodName)) ∈ lw_all := lw_g (lw_at lw_m1 160 rfl) rfl
theorem q241 : (Jvm.Cond.constant "jdk/internal/util/ArraysSupport" (200 : Nat) (2147483639 : Int32)) ∈ lw_all := lw_g (lw_at lw_m1 163 rfl) rfl
theorem q242 : (Jvm.Cond.methodLink "jdk/internal/util/ArraysSupport" (201 : Nat) ({ cls := "jdk/internal/util/ArraysSupport", name := "hugeLength", desc := "(II)I" } : Jvm.MethodName)) ∈ lw_all := lw_g (lw_at lw_m1 164 rfl) rfl
theorem q243 : (Jvm.Cond.static ({ cls := "jdk/internal/util/ArraysSupport", name := "hugeLength", desc := "(II)I" } : Jvm.MethodName)) ∈ lw_all := lw_g (lw_at lw_m1 165 rfl) rfl
theorem q244 : (Jvm.Cond.code ({ cls := "jdk/internal/util/ArraysSupport", name := "hugeLength", desc := "(II)I" } : Jvm.MethodName) prog_51_method_28_code (3 : Nat) (Option.some Jvm.ClassFile.FieldType.int)) ∈ lw_all := lw_g (lw_at lw_m1 166 rfl) rfl

/-! J12 -/
set_option maxRecDepth 100000
def RJ12 : String := "java/lang/Math"
abbrev cJ12_max : ByteArray := prog_29_method_65_code
def yJ12_max : MethodName := ⟨RJ12, "max", "(II)I"⟩
abbrev cJ12_min : ByteArray := prog_29_method_69_code
def yJ12_min : MethodName := ⟨RJ12, "min", "(II)I"⟩
theorem q92 : (Jvm.Cond.initialized "java/lang/Math") ∈ lw_all := lw_g (lw_at lw_m1 14 rfl) rfl
theorem q239 : (Jvm.Cond.static ({ cls := "java/lang/Math", name := "max", desc := "(II)I" } : Jvm.MethodName)) ∈ lw_all := lw_g (lw_at lw_m1 161 rfl) rfl
theorem q240 : (Jvm.Cond.code ({ cls := "java/lang/Math", name := "max", desc := "(II)I" } : Jvm.MethodName) prog_29_method_65_code (2 : Nat) (Option.some Jvm.ClassFile.FieldType.int)) ∈ lw_all := lw_g (lw_at lw_m1 162 rfl) rfl
theorem q257 : (Jvm.Cond.static ({ cls := "java/lang/Math", name := "min", desc := "(II)I" } : Jvm.MethodName)) ∈ lw_all := lw_g (lw_at lw_m1 179 rfl) rfl
theorem q258 : (Jvm.Cond.code ({ cls := "java/lang/Math", name := "min", desc := "(II)I" } : Jvm.MethodName) prog_29_method_69_code (2 : Nat) (Option.some Jvm.ClassFile.FieldType.int)) ∈ lw_all := lw_g (lw_at lw_m1 180 rfl) rfl

/-! J13 -/
set_option maxRecDepth 100000
def RJ13 : String := "java/util/Arrays"
abbrev cJ13_copyOf : ByteArray := prog_43_method_121_code
def yJ13_copyOf : MethodName := ⟨RJ13, "copyOf", "([BI)[B"⟩
abbrev cJ13_copyOfRange : ByteArray := prog_43_method_132_code
def yJ13_copyOfRange : MethodName := ⟨RJ13, "copyOfRange", "([BII)[B"⟩
abbrev cJ13_copyOfRangeByte : ByteArray := prog_43_method_133_code
def yJ13_copyOfRangeByte : MethodName := ⟨RJ13, "copyOfRangeByte", "([BII)[B"⟩
abbrev cJ13_checkLength : ByteArray := prog_43_method_131_code
def yJ13_checkLength : MethodName := ⟨RJ13, "checkLength", "(II)V"⟩
abbrev cJ13_copyOf_2 : ByteArray := prog_43_method_119_code
def yJ13_copyOf_2 : MethodName := ⟨RJ13, "copyOf", "([Ljava/lang/Object;I)[Ljava/lang/Object;"⟩
abbrev cJ13_copyOf_3 : ByteArray := prog_43_method_120_code
def yJ13_copyOf_3 : MethodName := ⟨RJ13, "copyOf", "([Ljava/lang/Object;ILjava/lang/Class;)[Ljava/lang/Object;"⟩
abbrev cJ13_copyOf_4 : ByteArray := prog_43_method_124_code
def yJ13_copyOf_4 : MethodName := ⟨RJ13, "copyOf", "([JI)[J"⟩
theorem q93 : (Jvm.Cond.initialized "java/util/Arrays") ∈ lw_all := lw_g (lw_at lw_m1 15 rfl) rfl
theorem q247 : (Jvm.Cond.static ({ cls := "java/util/Arrays", name := "copyOf", desc := "([BI)[B" } : Jvm.MethodName)) ∈ lw_all := lw_g (lw_at lw_m1 169 rfl) rfl
theorem q248 : (Jvm.Cond.code ({ cls := "java/util/Arrays", name := "copyOf", desc := "([BI)[B" } : Jvm.MethodName) prog_43_method_121_code (3 : Nat) (Option.some (Jvm.ClassFile.FieldType.array Jvm.ClassFile.FieldType.byte))) ∈ lw_all := lw_g (lw_at lw_m1 170 rfl) rfl
theorem q249 : (Jvm.Cond.methodLink "java/util/Arrays" (310 : Nat) ({ cls := "[B", name := "clone", desc := "()Ljava/lang/Object;" } : Jvm.MethodName)) ∈ lw_all := lw_g (lw_at lw_m1 171 rfl) rfl
theorem q255 : (Jvm.Cond.classLink "java/util/Arrays" (311 : Nat) "[B") ∈ lw_all := lw_g (lw_at lw_m1 177 rfl) rfl
theorem q256 : (Jvm.Cond.methodLink "java/util/Arrays" (304 : Nat) ({ cls := "java/lang/Math", name := "min", desc := "(II)I" } : Jvm.MethodName)) ∈ lw_all := lw_g (lw_at lw_m1 178 rfl) rfl
theorem q259 : (Jvm.Cond.methodLink "java/util/Arrays" (150 : Nat) ({ cls := "java/lang/System", name := "arraycopy", desc := "(Ljava/lang/Object;ILjava/lang/Object;II)V" } : Jvm.MethodName)) ∈ lw_all := lw_g (lw_at lw_m1 181 rfl) rfl
theorem q389 : (Jvm.Cond.static ({ cls := "java/util/Arrays", name := "copyOfRange", desc := "([BII)[B" } : Jvm.MethodName)) ∈ lw_all := lw_g (lw_at lw_m2 71 rfl) rfl
theorem q390 : (Jvm.Cond.code ({ cls := "java/util/Arrays", name := "copyOfRange", desc := "([BII)[B" } : Jvm.MethodName) prog_43_method_132_code (3 : Nat) (Option.some (Jvm.ClassFile.FieldType.array Jvm.ClassFile.FieldType.byte))) ∈ lw_all := lw_g (lw_at lw_m2 72 rfl) rfl
theorem q391 : (Jvm.Cond.methodLink "java/util/Arrays" (339 : Nat) ({ cls := "java/util/Arrays", name := "copyOfRangeByte", desc := "([BII)[B" } : Jvm.MethodName)) ∈ lw_all := lw_g (lw_at lw_m2 73 rfl) rfl
theorem q392 : (Jvm.Cond.static ({ cls := "java/util/Arrays", name := "copyOfRangeByte", desc := "([BII)[B" } : Jvm.MethodName)) ∈ lw_all := lw_g (lw_at lw_m2 74 rfl) rfl
theorem q393 : (Jvm.Cond.code ({ cls := "java/util/Arrays", name := "copyOfRangeByte", desc := "([BII)[B" } : Jvm.MethodName) prog_43_method_133_code (5 : Nat) (Option.some (Jvm.ClassFile.FieldType.array Jvm.ClassFile.FieldType.byte))) ∈ lw_all := lw_g (lw_at lw_m2 75 rfl) rfl
theorem q394 : (Jvm.Cond.methodLink "java/util/Arrays" (343 : Nat) ({ cls := "java/util/Arrays", name := "checkLength", desc := "(II)V" } : Jvm.MethodName)) ∈ lw_all := lw_g (lw_at lw_m2 76 rfl) rfl
theorem q395 : (Jvm.Cond.static ({ cls := "java/util/Arrays", name := "checkLength", desc := "(II)V" } : Jvm.MethodName)) ∈ lw_all := lw_g (lw_at lw_m2 77 rfl) rfl
theorem q396 : (Jvm.Cond.code ({ cls := "java/util/Arrays", name := "checkLength", desc := "(II)V" } : Jvm.MethodName) prog_43_method_131_code (2 : Nat) (Option.none : Option Jvm.ClassFile.FieldType)) ∈ lw_all := lw_g (lw_at lw_m2 78 rfl) rfl
theorem q397 : (Jvm.Cond.classLink "java/util/Arrays" (43 : Nat) "java/lang/IllegalArgumentException") ∈ lw_all := lw_g (lw_at lw_m2 79 rfl) rfl
theorem q398 : (Jvm.Cond.classLink "java/util/Arrays" (45 : Nat) "java/lang/StringBuilder") ∈ lw_all := lw_g (lw_at lw_m2 80 rfl) rfl
theorem q399 : (Jvm.Cond.methodLink "java/util/Arrays" (47 : Nat) ({ cls := "java/lang/StringBuilder", name := "<init>", desc := "()V" } : Jvm.MethodName)) ∈ lw_all := lw_g (lw_at lw_m2 81 rfl) rfl
theorem q400 : (Jvm.Cond.methodLink "java/util/Arrays" (54 : Nat) ({ cls := "java/lang/StringBuilder", name := "append", desc := "(I)Ljava/lang/StringBuilder;" } : Jvm.MethodName)) ∈ lw_all := lw_g (lw_at lw_m2 82 rfl) rfl
theorem q401 : (Jvm.Cond.stringRef "java/util/Arrays" (337 : Nat) " > ") ∈ lw_tbl := lw_at lw_m2 83 rfl
theorem q402 : (Jvm.Cond.methodLink "java/util/Arrays" (50 : Nat) ({ cls := "java/lang/StringBuilder", name := "append", desc := "(Ljava/lang/String;)Ljava/lang/StringBuilder;" } : Jvm.MethodName)) ∈ lw_all := lw_g (lw_at lw_m2 84 rfl) rfl
theorem q403 : (Jvm.Cond.methodLink "java/util/Arrays" (61 : Nat) ({ cls := "java/lang/StringBuilder", name := "toString", desc := "()Ljava/lang/String;" } : Jvm.MethodName)) ∈ lw_all := lw_g (lw_at lw_m2 85 rfl) rfl
theorem q404 : (Jvm.Cond.methodLink "java/util/Arrays" (65 : Nat) ({ cls := "java/lang/IllegalArgumentException", name := "<init>", desc := "(Ljava/lang/String;)V" } : Jvm.MethodName)) ∈ lw_all := lw_g (lw_at lw_m2 86 rfl) rfl
theorem q649 : (Jvm.Cond.static ({ cls := "java/util/Arrays", name := "copyOf", desc := "([Ljava/lang/Object;I)[Ljava/lang/Object;" } : Jvm.MethodName)) ∈ lw_all := lw_g (lw_at lw_m3 91 rfl) rfl
theorem q650 : (Jvm.Cond.code ({ cls := "java/util/Arrays", name := "copyOf", desc := "([Ljava/lang/Object;I)[Ljava/lang/Object;" } : Jvm.MethodName) prog_43_method_119_code (2 : Nat) (Option.some (Jvm.ClassFile.FieldType.array (Jvm.ClassFile.FieldType.object "java/lang/Object")))) ∈ lw_all := lw_g (lw_at lw_m3 92 rfl) rfl
theorem q651 : (Jvm.Cond.methodLink "java/util/Arrays" (86 : Nat) ({ cls := "java/lang/Object", name := "getClass", desc := "()Ljava/lang/Class;" } : Jvm.MethodName)) ∈ lw_all := lw_g (lw_at lw_m3 93 rfl) rfl
theorem q677 : (Jvm.Cond.methodLink "java/util/Arrays" (300 : Nat) ({ cls := "java/util/Arrays", name := "copyOf", desc := "([Ljava/lang/Object;ILjava/lang/Class;)[Ljava/lang/Object;" } : Jvm.MethodName)) ∈ lw_all := lw_g (lw_at lw_m3 119 rfl) rfl
theorem q678 : (Jvm.Cond.static ({ cls := "java/util/Arrays", name := "copyOf", desc := "([Ljava/lang/Object;ILjava/lang/Class;)[Ljava/lang/Object;" } : Jvm.MethodName)) ∈ lw_all := lw_g (lw_at lw_m3 120 rfl) rfl
theorem q679 : (Jvm.Cond.code ({ cls := "java/util/Arrays", name := "copyOf", desc := "([Ljava/lang/Object;ILjava/lang/Class;)[Ljava/lang/Object;" } : Jvm.MethodName) prog_43_method_120_code (4 : Nat) (Option.some (Jvm.ClassFile.FieldType.array (Jvm.ClassFile.FieldType.object "java/lang/Object")))) ∈ lw_all := lw_g (lw_at lw_m3 121 rfl) rfl
theorem q680 : (Jvm.Cond.classLink "java/util/Arrays" (110 : Nat) "[Ljava/lang/Object;") ∈ lw_all := lw_g (lw_at lw_m3 122 rfl) rfl
theorem q681 : (Jvm.Cond.classLink "java/util/Arrays" (2 : Nat) "java/lang/Object") ∈ lw_all := lw_g (lw_at lw_m3 123 rfl) rfl
theorem q1380 : (Jvm.Cond.static ({ cls := "java/util/Arrays", name := "copyOf", desc := "([JI)[J" } : Jvm.MethodName)) ∈ lw_all := lw_g (lw_at lw_m6 102 rfl) rfl
theorem q1381 : (Jvm.Cond.code ({ cls := "java/util/Arrays", name := "copyOf", desc := "([JI)[J" } : Jvm.MethodName) prog_43_method_124_code (3 : Nat) (Option.some (Jvm.ClassFile.FieldType.array Jvm.ClassFile.FieldType.long))) ∈ lw_all := lw_g (lw_at lw_m6 103 rfl) rfl
theorem q1382 : (Jvm.Cond.methodLink "java/util/Arrays" (319 : Nat) ({ cls := "[J", name := "clone", desc := "()Ljava/lang/Object;" } : Jvm.MethodName)) ∈ lw_all := lw_g (lw_at lw_m6 104 rfl) rfl
theorem q1386 : (Jvm.Cond.classLink "java/util/Arrays" (320 : Nat) "[J") ∈ lw_all := lw_g (lw_at lw_m6 108 rfl) rfl

/-! J14 -/
set_option maxRecDepth 100000
def RJ14 : String := "jdk/internal/util/Preconditions"
abbrev cJ14_checkFromToIndex : ByteArray := prog_52_method_12_code
def yJ14_checkFromToIndex : MethodName := ⟨RJ14, "checkFromToIndex", "(IIILjava/util/function/BiFunction;)I"⟩
abbrev cJ14_checkFromIndexSize : ByteArray := prog_52_method_13_code
def yJ14_checkFromIndexSize : MethodName := ⟨RJ14, "checkFromIndexSize", "(IIILjava/util/function/BiFunction;)I"⟩
abbrev cJ14_checkIndex : ByteArray := prog_52_method_11_code
def yJ14_checkIndex : MethodName := ⟨RJ14, "checkIndex", "(IILjava/util/function/BiFunction;)I"⟩
theorem q95 : (Jvm.Cond.initialized "jdk/internal/util/Preconditions") ∈ lw_all := lw_g (lw_at lw_m1 17 rfl) rfl
theorem q280 : (Jvm.Cond.laysStatic "jdk/internal/util/Preconditions" "SIOOBE_FORMATTER" "Ljava/util/function/BiFunction;") ∈ lw_tbl := lw_at lw_m1 202 rfl
theorem q282 : (Jvm.Cond.static ({ cls := "jdk/internal/util/Preconditions", name := "checkFromToIndex", desc := "(IIILjava/util/function/BiFunction;)I" } : Jvm.MethodName)) ∈ lw_all := lw_g (lw_at lw_m1 204 rfl) rfl
theorem q283 : (Jvm.Cond.code ({ cls := "jdk/internal/util/Preconditions", name := "checkFromToIndex", desc := "(IIILjava/util/function/BiFunction;)I" } : Jvm.MethodName) prog_52_method_12_code (4 : Nat) (Option.some Jvm.ClassFile.FieldType.int)) ∈ lw_all := lw_g (lw_at lw_m1 205 rfl) rfl
theorem q328 : (Jvm.Cond.static ({ cls := "jdk/internal/util/Preconditions", name := "checkFromIndexSize", desc := "(IIILjava/util/function/BiFunction;)I" } : Jvm.MethodName)) ∈ lw_all := lw_g (lw_at lw_m2 10 rfl) rfl
theorem q329 : (Jvm.Cond.code ({ cls := "jdk/internal/util/Preconditions", name := "checkFromIndexSize", desc := "(IIILjava/util/function/BiFunction;)I" } : Jvm.MethodName) prog_52_method_13_code (4 : Nat) (Option.some Jvm.ClassFile.FieldType.int)) ∈ lw_all := lw_g (lw_at lw_m2 11 rfl) rfl
theorem q707 : (Jvm.Cond.static ({ cls := "jdk/internal/util/Preconditions", name := "checkIndex", desc := "(IILjava/util/function/BiFunction;)I" } : Jvm.MethodName)) ∈ lw_all := lw_g (lw_at lw_m3 149 rfl) rfl
theorem q708 : (Jvm.Cond.code ({ cls := "jdk/internal/util/Preconditions", name := "checkIndex", desc := "(IILjava/util/function/BiFunction;)I" } : Jvm.MethodName) prog_52_method_11_code (3 : Nat) (Option.some Jvm.ClassFile.FieldType.int)) ∈ lw_all := lw_g (lw_at lw_m3 150 rfl) rfl

/-! J16 -/
set_option maxRecDepth 100000
def RJ16 : String := "java/lang/Integer"
abbrev cJ16_stringSize : ByteArray := prog_27_method_13_code
def yJ16_stringSize : MethodName := ⟨RJ16, "stringSize", "(I)I"⟩
abbrev cJ16_getChars : ByteArray := prog_27_method_12_code
def yJ16_getChars : MethodName := ⟨RJ16, "getChars", "(II[B)I"⟩
abbrev cJ16_numberOfTrailingZeros : ByteArray := prog_27_method_48_code
def yJ16_numberOfTrailingZeros : MethodName := ⟨RJ16, "numberOfTrailingZeros", "(I)I"⟩
abbrev cJ16_bitCount : ByteArray := prog_27_method_49_code
def yJ16_bitCount : MethodName := ⟨RJ16, "bitCount", "(I)I"⟩
theorem q98 : (Jvm.Cond.initialized "java/lang/Integer") ∈ lw_all := lw_g (lw_at lw_m1 20 rfl) rfl
theorem q344 : (Jvm.Cond.static ({ cls := "java/lang/Integer", name := "stringSize", desc := "(I)I" } : Jvm.MethodName)) ∈ lw_all := lw_g (lw_at lw_m2 26 rfl) rfl
theorem q345 : (Jvm.Cond.code ({ cls := "java/lang/Integer", name := "stringSize", desc := "(I)I" } : Jvm.MethodName) prog_27_method_13_code (4 : Nat) (Option.some Jvm.ClassFile.FieldType.int)) ∈ lw_all := lw_g (lw_at lw_m2 27 rfl) rfl
theorem q347 : (Jvm.Cond.static ({ cls := "java/lang/Integer", name := "getChars", desc := "(II[B)I" } : Jvm.MethodName)) ∈ lw_all := lw_g (lw_at lw_m2 29 rfl) rfl
theorem q348 : (Jvm.Cond.code ({ cls := "java/lang/Integer", name := "getChars", desc := "(II[B)I" } : Jvm.MethodName) prog_27_method_12_code (7 : Nat) (Option.some Jvm.ClassFile.FieldType.int)) ∈ lw_all := lw_g (lw_at lw_m2 30 rfl) rfl
theorem q349 : (Jvm.Cond.fieldLink "java/lang/Integer" (83 : Nat) "java/lang/Integer" "DigitOnes" "[B") ∈ lw_all := lw_g (lw_at lw_m2 31 rfl) rfl
theorem q350 : (Jvm.Cond.laysStatic "java/lang/Integer" "DigitOnes" "[B") ∈ lw_tbl := lw_at lw_m2 32 rfl
theorem q351 : (Jvm.Cond.fieldLink "java/lang/Integer" (87 : Nat) "java/lang/Integer" "DigitTens" "[B") ∈ lw_all := lw_g (lw_at lw_m2 33 rfl) rfl
theorem q352 : (Jvm.Cond.laysStatic "java/lang/Integer" "DigitTens" "[B") ∈ lw_tbl := lw_at lw_m2 34 rfl
theorem q1248 : (Jvm.Cond.static ({ cls := "java/lang/Integer", name := "numberOfTrailingZeros", desc := "(I)I" } : Jvm.MethodName)) ∈ lw_all := lw_g (lw_at lw_m5 210 rfl) rfl
theorem q1249 : (Jvm.Cond.code ({ cls := "java/lang/Integer", name := "numberOfTrailingZeros", desc := "(I)I" } : Jvm.MethodName) prog_27_method_48_code (2 : Nat) (Option.some Jvm.ClassFile.FieldType.int)) ∈ lw_all := lw_g (lw_at lw_m5 211 rfl) rfl
theorem q1250 : (Jvm.Cond.constant "java/lang/Integer" (264 : Nat) (65536 : Int32)) ∈ lw_all := lw_g (lw_at lw_m5 212 rfl) rfl
theorem q1331 : (Jvm.Cond.static ({ cls := "java/lang/Integer", name := "bitCount", desc := "(I)I" } : Jvm.MethodName)) ∈ lw_all := lw_g (lw_at lw_m6 53 rfl) rfl
theorem q1332 : (Jvm.Cond.code ({ cls := "java/lang/Integer", name := "bitCount", desc := "(I)I" } : Jvm.MethodName) prog_27_method_49_code (1 : Nat) (Option.some Jvm.ClassFile.FieldType.int)) ∈ lw_all := lw_g (lw_at lw_m6 54 rfl) rfl
theorem q1333 : (Jvm.Cond.constant "java/lang/Integer" (265 : Nat) (1431655765 : Int32)) ∈ lw_all := lw_g (lw_at lw_m6 55 rfl) rfl
theorem q1334 : (Jvm.Cond.constant "java/lang/Integer" (266 : Nat) (858993459 : Int32)) ∈ lw_all := lw_g (lw_at lw_m6 56 rfl) rfl
theorem q1335 : (Jvm.Cond.constant "java/lang/Integer" (267 : Nat) (252645135 : Int32)) ∈ lw_all := lw_g (lw_at lw_m6 57 rfl) rfl

/-! X2 -/
set_option maxRecDepth 100000
def RX2 : String := "WarpMill$Pool"
def TX2 : u_T := fun k => match k with
  | 0 => ("WarpMill$Pool", "blocks", "Ljava/util/ArrayList;", true)
  | 1 => ("WarpMill$Pool", "warps", "Ljava/util/ArrayList;", true)
  | _ => ("WarpMill$Pool", "lanes", "Ljava/util/ArrayList;", true)
def tyX2 : Nat → FieldType := fun k => match k with
  | 0 => .object "java/util/ArrayList"
  | 1 => .object "java/util/ArrayList"
  | _ => .object "java/util/ArrayList"
abbrev wsX20 : List Cond := u_ws RX2 TX2 3
theorem nmX2 : ∀ a, a < 3 → ∀ b, b < 3 → a ≠ b → (TX2 a).2.1 ≠ (TX2 b).2.1 := by decide +kernel
theorem tyX2_ok : ∀ k, k < 3 → parseFieldDescriptor (TX2 k).2.2.1 = some (tyX2 k) := by decide +kernel
abbrev cX2_init : ByteArray := prog_10_method_1_code
def yX2_init : MethodName := ⟨RX2, "<init>", "()V"⟩
abbrev cX2_free : ByteArray := prog_10_method_5_code
def yX2_free : MethodName := ⟨RX2, "free", "(LWarpMill$Block;)V"⟩
abbrev cX2_block : ByteArray := prog_10_method_4_code
def yX2_block : MethodName := ⟨RX2, "block", "(III)LWarpMill$Block;"⟩
abbrev cX2_warp : ByteArray := prog_10_method_3_code
def yX2_warp : MethodName := ⟨RX2, "warp", "(LWarpMill$Block;II)LWarpMill$Warp;"⟩
abbrev cX2_lane : ByteArray := prog_10_method_2_code
def yX2_lane : MethodName := ⟨RX2, "lane", "()LWarpMill$Lane;"⟩
theorem q99 : (Jvm.Cond.initialized "WarpMill$Pool") ∈ lw_all := lw_g (lw_at lw_m1 21 rfl) rfl
theorem q467 : (Jvm.Cond.instantiable "WarpMill$Pool" (3 : Nat)) ∈ lw_all := lw_g (lw_at lw_m2 149 rfl) rfl
theorem q469 : (Jvm.Cond.instanceMethod ({ cls := "WarpMill$Pool", name := "<init>", desc := "()V" } : Jvm.MethodName)) ∈ lw_all := lw_g (lw_at lw_m2 151 rfl) rfl
theorem q470 : (Jvm.Cond.code ({ cls := "WarpMill$Pool", name := "<init>", desc := "()V" } : Jvm.MethodName) prog_10_method_1_code (1 : Nat) (Option.none : Option Jvm.ClassFile.FieldType)) ∈ lw_all := lw_g (lw_at lw_m2 152 rfl) rfl
theorem q471 : (Jvm.Cond.methodLink "WarpMill$Pool" (1 : Nat) ({ cls := "java/lang/Object", name := "<init>", desc := "()V" } : Jvm.MethodName)) ∈ lw_all := lw_g (lw_at lw_m2 153 rfl) rfl
theorem q472 : (Jvm.Cond.classLink "WarpMill$Pool" (7 : Nat) "java/util/ArrayList") ∈ lw_all := lw_g (lw_at lw_m2 154 rfl) rfl
theorem q473 : (Jvm.Cond.methodLink "WarpMill$Pool" (9 : Nat) ({ cls := "java/util/ArrayList", name := "<init>", desc := "()V" } : Jvm.MethodName)) ∈ lw_all := lw_g (lw_at lw_m2 155 rfl) rfl
theorem q478 : (Jvm.Cond.fieldLink "WarpMill$Pool" (10 : Nat) "WarpMill$Pool" "blocks" "Ljava/util/ArrayList;") ∈ lw_all := lw_g (lw_at lw_m2 160 rfl) rfl
theorem q479 : (Jvm.Cond.fieldLink "WarpMill$Pool" (16 : Nat) "WarpMill$Pool" "warps" "Ljava/util/ArrayList;") ∈ lw_all := lw_g (lw_at lw_m2 161 rfl) rfl
theorem q480 : (Jvm.Cond.fieldLink "WarpMill$Pool" (19 : Nat) "WarpMill$Pool" "lanes" "Ljava/util/ArrayList;") ∈ lw_all := lw_g (lw_at lw_m2 162 rfl) rfl
theorem q481 : (Jvm.Cond.laysFinal "WarpMill$Pool" "WarpMill$Pool" "blocks" "Ljava/util/ArrayList;") ∈ lw_all := lw_g (lw_at lw_m2 163 rfl) rfl
theorem q482 : (Jvm.Cond.soleField "WarpMill$Pool" "blocks") ∈ lw_all := lw_g (lw_at lw_m2 164 rfl) rfl
theorem q483 : (Jvm.Cond.laysFinal "WarpMill$Pool" "WarpMill$Pool" "warps" "Ljava/util/ArrayList;") ∈ lw_all := lw_g (lw_at lw_m2 165 rfl) rfl
theorem q484 : (Jvm.Cond.soleField "WarpMill$Pool" "warps") ∈ lw_all := lw_g (lw_at lw_m2 166 rfl) rfl
theorem q485 : (Jvm.Cond.laysFinal "WarpMill$Pool" "WarpMill$Pool" "lanes" "Ljava/util/ArrayList;") ∈ lw_all := lw_g (lw_at lw_m2 167 rfl) rfl
theorem q486 : (Jvm.Cond.soleField "WarpMill$Pool" "lanes") ∈ lw_all := lw_g (lw_at lw_m2 168 rfl) rfl
theorem q487 : (Jvm.Cond.superclass "WarpMill$Pool" "java/lang/Object") ∈ lw_all := lw_g (lw_at lw_m2 169 rfl) rfl
theorem q663 : (Jvm.Cond.selects "WarpMill$Pool" ({ cls := "java/lang/Object", name := "getClass", desc := "()Ljava/lang/Class;" } : Jvm.MethodName) ({ cls := "java/lang/Object", name := "getClass", desc := "()Ljava/lang/Class;" } : Jvm.MethodName)) ∈ lw_all := lw_g (lw_at lw_m3 105 rfl) rfl
theorem q938 : (Jvm.Cond.instanceMethod ({ cls := "WarpMill$Pool", name := "free", desc := "(LWarpMill$Block;)V" } : Jvm.MethodName)) ∈ lw_all := lw_g (lw_at lw_m4 140 rfl) rfl
theorem q939 : (Jvm.Cond.selects "WarpMill$Pool" ({ cls := "WarpMill$Pool", name := "free", desc := "(LWarpMill$Block;)V" } : Jvm.MethodName) ({ cls := "WarpMill$Pool", name := "free", desc := "(LWarpMill$Block;)V" } : Jvm.MethodName)) ∈ lw_all := lw_g (lw_at lw_m4 141 rfl) rfl
theorem q940 : (Jvm.Cond.code ({ cls := "WarpMill$Pool", name := "free", desc := "(LWarpMill$Block;)V" } : Jvm.MethodName) prog_10_method_5_code (5 : Nat) (Option.none : Option Jvm.ClassFile.FieldType)) ∈ lw_all := lw_g (lw_at lw_m4 142 rfl) rfl
theorem q941 : (Jvm.Cond.methodLink "WarpMill$Pool" (29 : Nat) ({ cls := "java/util/ArrayList", name := "size", desc := "()I" } : Jvm.MethodName)) ∈ lw_all := lw_g (lw_at lw_m4 143 rfl) rfl
theorem q942 : (Jvm.Cond.methodLink "WarpMill$Pool" (72 : Nat) ({ cls := "java/util/ArrayList", name := "get", desc := "(I)Ljava/lang/Object;" } : Jvm.MethodName)) ∈ lw_all := lw_g (lw_at lw_m4 144 rfl) rfl
theorem q943 : (Jvm.Cond.classLink "WarpMill$Pool" (40 : Nat) "WarpMill$Warp") ∈ lw_all := lw_g (lw_at lw_m4 145 rfl) rfl
theorem q944 : (Jvm.Cond.classLink "WarpMill$Pool" (26 : Nat) "WarpMill$Lane") ∈ lw_all := lw_g (lw_at lw_m4 146 rfl) rfl
theorem q945 : (Jvm.Cond.methodLink "WarpMill$Pool" (51 : Nat) ({ cls := "java/util/ArrayList", name := "add", desc := "(Ljava/lang/Object;)Z" } : Jvm.MethodName)) ∈ lw_all := lw_g (lw_at lw_m4 147 rfl) rfl
theorem q1106 : (Jvm.Cond.instanceMethod ({ cls := "WarpMill$Pool", name := "block", desc := "(III)LWarpMill$Block;" } : Jvm.MethodName)) ∈ lw_all := lw_g (lw_at lw_m5 68 rfl) rfl
theorem q1107 : (Jvm.Cond.selects "WarpMill$Pool" ({ cls := "WarpMill$Pool", name := "block", desc := "(III)LWarpMill$Block;" } : Jvm.MethodName) ({ cls := "WarpMill$Pool", name := "block", desc := "(III)LWarpMill$Block;" } : Jvm.MethodName)) ∈ lw_all := lw_g (lw_at lw_m5 69 rfl) rfl
theorem q1108 : (Jvm.Cond.code ({ cls := "WarpMill$Pool", name := "block", desc := "(III)LWarpMill$Block;" } : Jvm.MethodName) prog_10_method_4_code (6 : Nat) (Option.some (Jvm.ClassFile.FieldType.object "WarpMill$Block"))) ∈ lw_all := lw_g (lw_at lw_m5 70 rfl) rfl
theorem q1109 : (Jvm.Cond.methodLink "WarpMill$Pool" (22 : Nat) ({ cls := "java/util/ArrayList", name := "isEmpty", desc := "()Z" } : Jvm.MethodName)) ∈ lw_all := lw_g (lw_at lw_m5 71 rfl) rfl
theorem q1110 : (Jvm.Cond.classLink "WarpMill$Pool" (55 : Nat) "WarpMill$Block") ∈ lw_all := lw_g (lw_at lw_m5 72 rfl) rfl
theorem q1112 : (Jvm.Cond.methodLinkNest "WarpMill$Pool" (57 : Nat) ({ cls := "WarpMill$Block", name := "<init>", desc := "()V" } : Jvm.MethodName) "WarpMill") ∈ lw_tbl := lw_at lw_m5 74 rfl
theorem q1126 : (Jvm.Cond.fieldLinkNest "WarpMill$Pool" (61 : Nat) "WarpMill$Block" "warps" "Ljava/util/ArrayList;" "WarpMill") ∈ lw_tbl := lw_at lw_m5 88 rfl
theorem q1134 : (Jvm.Cond.methodLink "WarpMill$Pool" (33 : Nat) ({ cls := "java/util/ArrayList", name := "remove", desc := "(I)Ljava/lang/Object;" } : Jvm.MethodName)) ∈ lw_all := lw_g (lw_at lw_m5 96 rfl) rfl
theorem q1135 : (Jvm.Cond.methodLink "WarpMill$Pool" (58 : Nat) ({ cls := "WarpMill$Block", name := "begin", desc := "(I)V" } : Jvm.MethodName)) ∈ lw_all := lw_g (lw_at lw_m5 97 rfl) rfl
theorem q1140 : (Jvm.Cond.methodLink "WarpMill$Pool" (62 : Nat) ({ cls := "java/lang/Math", name := "min", desc := "(II)I" } : Jvm.MethodName)) ∈ lw_all := lw_g (lw_at lw_m5 102 rfl) rfl
theorem q1141 : (Jvm.Cond.methodLink "WarpMill$Pool" (68 : Nat) ({ cls := "WarpMill$Pool", name := "warp", desc := "(LWarpMill$Block;II)LWarpMill$Warp;" } : Jvm.MethodName)) ∈ lw_all := lw_g (lw_at lw_m5 103 rfl) rfl
theorem q1142 : (Jvm.Cond.privateMethod ({ cls := "WarpMill$Pool", name := "warp", desc := "(LWarpMill$Block;II)LWarpMill$Warp;" } : Jvm.MethodName)) ∈ lw_tbl := lw_at lw_m5 104 rfl
theorem q1143 : (Jvm.Cond.instanceMethod ({ cls := "WarpMill$Pool", name := "warp", desc := "(LWarpMill$Block;II)LWarpMill$Warp;" } : Jvm.MethodName)) ∈ lw_all := lw_g (lw_at lw_m5 105 rfl) rfl
theorem q1144 : (Jvm.Cond.code ({ cls := "WarpMill$Pool", name := "warp", desc := "(LWarpMill$Block;II)LWarpMill$Warp;" } : Jvm.MethodName) prog_10_method_3_code (6 : Nat) (Option.some (Jvm.ClassFile.FieldType.object "WarpMill$Warp"))) ∈ lw_all := lw_g (lw_at lw_m5 106 rfl) rfl
theorem q1146 : (Jvm.Cond.methodLinkNest "WarpMill$Pool" (42 : Nat) ({ cls := "WarpMill$Warp", name := "<init>", desc := "()V" } : Jvm.MethodName) "WarpMill") ∈ lw_tbl := lw_at lw_m5 108 rfl
theorem q1161 : (Jvm.Cond.fieldLinkNest "WarpMill$Pool" (46 : Nat) "WarpMill$Warp" "lanes" "Ljava/util/ArrayList;" "WarpMill") ∈ lw_tbl := lw_at lw_m5 123 rfl
theorem q1183 : (Jvm.Cond.methodLink "WarpMill$Pool" (43 : Nat) ({ cls := "WarpMill$Warp", name := "begin", desc := "(LWarpMill$Block;I)V" } : Jvm.MethodName)) ∈ lw_all := lw_g (lw_at lw_m5 145 rfl) rfl
theorem q1188 : (Jvm.Cond.methodLink "WarpMill$Pool" (47 : Nat) ({ cls := "WarpMill$Pool", name := "lane", desc := "()LWarpMill$Lane;" } : Jvm.MethodName)) ∈ lw_all := lw_g (lw_at lw_m5 150 rfl) rfl
theorem q1189 : (Jvm.Cond.privateMethod ({ cls := "WarpMill$Pool", name := "lane", desc := "()LWarpMill$Lane;" } : Jvm.MethodName)) ∈ lw_tbl := lw_at lw_m5 151 rfl
theorem q1190 : (Jvm.Cond.instanceMethod ({ cls := "WarpMill$Pool", name := "lane", desc := "()LWarpMill$Lane;" } : Jvm.MethodName)) ∈ lw_all := lw_g (lw_at lw_m5 152 rfl) rfl
theorem q1191 : (Jvm.Cond.code ({ cls := "WarpMill$Pool", name := "lane", desc := "()LWarpMill$Lane;" } : Jvm.MethodName) prog_10_method_2_code (2 : Nat) (Option.some (Jvm.ClassFile.FieldType.object "WarpMill$Lane"))) ∈ lw_all := lw_g (lw_at lw_m5 153 rfl) rfl
theorem q1193 : (Jvm.Cond.methodLinkNest "WarpMill$Pool" (28 : Nat) ({ cls := "WarpMill$Lane", name := "<init>", desc := "()V" } : Jvm.MethodName) "WarpMill") ∈ lw_tbl := lw_at lw_m5 155 rfl
theorem q1229 : (Jvm.Cond.methodLink "WarpMill$Pool" (37 : Nat) ({ cls := "WarpMill$Lane", name := "begin", desc := "()V" } : Jvm.MethodName)) ∈ lw_all := lw_g (lw_at lw_m5 191 rfl) rfl
theorem q2026 : (Jvm.Cond.castable "WarpMill$Pool" "java/lang/Object") ∈ lw_tbl := lw_at lw_m9 28 rfl
theorem in_X2 : ∀ w ∈ wsX20, w ∈ lw_all := lw_in wsX20 [481, 483, 485] (by decide +kernel) (by decide +kernel)

/-! X3 -/
set_option maxRecDepth 100000
def RX3 : String := "WarpMill$Heap"
def TX3 : u_T := fun k => match k with
  | 0 => ("WarpMill$Heap", "asks", "Ljava/util/ArrayList;", true)
  | 1 => ("WarpMill$Heap", "spare", "Ljava/util/ArrayList;", true)
  | _ => ("WarpMill$Heap", "turns", "I", false)
def tyX3 : Nat → FieldType := fun k => match k with
  | 0 => .object "java/util/ArrayList"
  | 1 => .object "java/util/ArrayList"
  | _ => .int
abbrev wsX30 : List Cond := u_ws RX3 TX3 3
theorem nmX3 : ∀ a, a < 3 → ∀ b, b < 3 → a ≠ b → (TX3 a).2.1 ≠ (TX3 b).2.1 := by decide +kernel
theorem tyX3_ok : ∀ k, k < 3 → parseFieldDescriptor (TX3 k).2.2.1 = some (tyX3 k) := by decide +kernel
abbrev cX3_init : ByteArray := prog_7_method_1_code
def yX3_init : MethodName := ⟨RX3, "<init>", "()V"⟩
abbrev cX3_clear : ByteArray := prog_7_method_6_code
def yX3_clear : MethodName := ⟨RX3, "clear", "()V"⟩
abbrev cX3_isDue : ByteArray := prog_7_method_4_code
def yX3_isDue : MethodName := ⟨RX3, "isDue", "(I)Z"⟩
abbrev cX3_take : ByteArray := prog_7_method_5_code
def yX3_take : MethodName := ⟨RX3, "take", "()LWarpMill$Ask;"⟩
abbrev cX3_fresh : ByteArray := prog_7_method_2_code
def yX3_fresh : MethodName := ⟨RX3, "fresh", "()LWarpMill$Ask;"⟩
abbrev cX3_add : ByteArray := prog_7_method_3_code
def yX3_add : MethodName := ⟨RX3, "add", "(LWarpMill$Ask;)V"⟩
theorem q100 : (Jvm.Cond.initialized "WarpMill$Heap") ∈ lw_all := lw_g (lw_at lw_m1 22 rfl) rfl
theorem q490 : (Jvm.Cond.instantiable "WarpMill$Heap" (3 : Nat)) ∈ lw_all := lw_g (lw_at lw_m2 172 rfl) rfl
theorem q492 : (Jvm.Cond.instanceMethod ({ cls := "WarpMill$Heap", name := "<init>", desc := "()V" } : Jvm.MethodName)) ∈ lw_all := lw_g (lw_at lw_m2 174 rfl) rfl
theorem q493 : (Jvm.Cond.code ({ cls := "WarpMill$Heap", name := "<init>", desc := "()V" } : Jvm.MethodName) prog_7_method_1_code (1 : Nat) (Option.none : Option Jvm.ClassFile.FieldType)) ∈ lw_all := lw_g (lw_at lw_m2 175 rfl) rfl
theorem q494 : (Jvm.Cond.methodLink "WarpMill$Heap" (1 : Nat) ({ cls := "java/lang/Object", name := "<init>", desc := "()V" } : Jvm.MethodName)) ∈ lw_all := lw_g (lw_at lw_m2 176 rfl) rfl
theorem q495 : (Jvm.Cond.classLink "WarpMill$Heap" (7 : Nat) "java/util/ArrayList") ∈ lw_all := lw_g (lw_at lw_m2 177 rfl) rfl
theorem q496 : (Jvm.Cond.methodLink "WarpMill$Heap" (9 : Nat) ({ cls := "java/util/ArrayList", name := "<init>", desc := "()V" } : Jvm.MethodName)) ∈ lw_all := lw_g (lw_at lw_m2 178 rfl) rfl
theorem q497 : (Jvm.Cond.fieldLink "WarpMill$Heap" (10 : Nat) "WarpMill$Heap" "asks" "Ljava/util/ArrayList;") ∈ lw_all := lw_g (lw_at lw_m2 179 rfl) rfl
theorem q500 : (Jvm.Cond.fieldLink "WarpMill$Heap" (16 : Nat) "WarpMill$Heap" "spare" "Ljava/util/ArrayList;") ∈ lw_all := lw_g (lw_at lw_m2 182 rfl) rfl
theorem q501 : (Jvm.Cond.fieldLink "WarpMill$Heap" (34 : Nat) "WarpMill$Heap" "turns" "I") ∈ lw_all := lw_g (lw_at lw_m2 183 rfl) rfl
theorem q502 : (Jvm.Cond.laysFinal "WarpMill$Heap" "WarpMill$Heap" "asks" "Ljava/util/ArrayList;") ∈ lw_all := lw_g (lw_at lw_m2 184 rfl) rfl
theorem q503 : (Jvm.Cond.soleField "WarpMill$Heap" "asks") ∈ lw_all := lw_g (lw_at lw_m2 185 rfl) rfl
theorem q504 : (Jvm.Cond.laysFinal "WarpMill$Heap" "WarpMill$Heap" "spare" "Ljava/util/ArrayList;") ∈ lw_all := lw_g (lw_at lw_m2 186 rfl) rfl
theorem q505 : (Jvm.Cond.soleField "WarpMill$Heap" "spare") ∈ lw_all := lw_g (lw_at lw_m2 187 rfl) rfl
theorem q506 : (Jvm.Cond.lays "WarpMill$Heap" "WarpMill$Heap" "turns" "I") ∈ lw_all := lw_g (lw_at lw_m2 188 rfl) rfl
theorem q507 : (Jvm.Cond.soleField "WarpMill$Heap" "turns") ∈ lw_all := lw_g (lw_at lw_m2 189 rfl) rfl
theorem q508 : (Jvm.Cond.superclass "WarpMill$Heap" "java/lang/Object") ∈ lw_all := lw_g (lw_at lw_m2 190 rfl) rfl
theorem q660 : (Jvm.Cond.selects "WarpMill$Heap" ({ cls := "java/lang/Object", name := "getClass", desc := "()Ljava/lang/Class;" } : Jvm.MethodName) ({ cls := "java/lang/Object", name := "getClass", desc := "()Ljava/lang/Class;" } : Jvm.MethodName)) ∈ lw_all := lw_g (lw_at lw_m3 102 rfl) rfl
theorem q692 : (Jvm.Cond.instanceMethod ({ cls := "WarpMill$Heap", name := "clear", desc := "()V" } : Jvm.MethodName)) ∈ lw_all := lw_g (lw_at lw_m3 134 rfl) rfl
theorem q693 : (Jvm.Cond.selects "WarpMill$Heap" ({ cls := "WarpMill$Heap", name := "clear", desc := "()V" } : Jvm.MethodName) ({ cls := "WarpMill$Heap", name := "clear", desc := "()V" } : Jvm.MethodName)) ∈ lw_all := lw_g (lw_at lw_m3 135 rfl) rfl
theorem q694 : (Jvm.Cond.code ({ cls := "WarpMill$Heap", name := "clear", desc := "()V" } : Jvm.MethodName) prog_7_method_6_code (2 : Nat) (Option.none : Option Jvm.ClassFile.FieldType)) ∈ lw_all := lw_g (lw_at lw_m3 136 rfl) rfl
theorem q695 : (Jvm.Cond.methodLink "WarpMill$Heap" (26 : Nat) ({ cls := "java/util/ArrayList", name := "size", desc := "()I" } : Jvm.MethodName)) ∈ lw_all := lw_g (lw_at lw_m3 137 rfl) rfl
theorem q699 : (Jvm.Cond.methodLink "WarpMill$Heap" (45 : Nat) ({ cls := "java/util/ArrayList", name := "get", desc := "(I)Ljava/lang/Object;" } : Jvm.MethodName)) ∈ lw_all := lw_g (lw_at lw_m3 141 rfl) rfl
theorem q713 : (Jvm.Cond.classLink "WarpMill$Heap" (23 : Nat) "WarpMill$Ask") ∈ lw_all := lw_g (lw_at lw_m3 155 rfl) rfl
theorem q714 : (Jvm.Cond.methodLink "WarpMill$Heap" (41 : Nat) ({ cls := "java/util/ArrayList", name := "add", desc := "(Ljava/lang/Object;)Z" } : Jvm.MethodName)) ∈ lw_all := lw_g (lw_at lw_m3 156 rfl) rfl
theorem q715 : (Jvm.Cond.methodLink "WarpMill$Heap" (59 : Nat) ({ cls := "java/util/ArrayList", name := "clear", desc := "()V" } : Jvm.MethodName)) ∈ lw_all := lw_g (lw_at lw_m3 157 rfl) rfl
theorem q1064 : (Jvm.Cond.instanceMethod ({ cls := "WarpMill$Heap", name := "isDue", desc := "(I)Z" } : Jvm.MethodName)) ∈ lw_all := lw_g (lw_at lw_m5 26 rfl) rfl
theorem q1065 : (Jvm.Cond.selects "WarpMill$Heap" ({ cls := "WarpMill$Heap", name := "isDue", desc := "(I)Z" } : Jvm.MethodName) ({ cls := "WarpMill$Heap", name := "isDue", desc := "(I)Z" } : Jvm.MethodName)) ∈ lw_all := lw_g (lw_at lw_m5 27 rfl) rfl
theorem q1066 : (Jvm.Cond.code ({ cls := "WarpMill$Heap", name := "isDue", desc := "(I)Z" } : Jvm.MethodName) prog_7_method_4_code (2 : Nat) (Option.some Jvm.ClassFile.FieldType.boolean)) ∈ lw_all := lw_g (lw_at lw_m5 28 rfl) rfl
theorem q1067 : (Jvm.Cond.methodLink "WarpMill$Heap" (19 : Nat) ({ cls := "java/util/ArrayList", name := "isEmpty", desc := "()Z" } : Jvm.MethodName)) ∈ lw_all := lw_g (lw_at lw_m5 29 rfl) rfl
theorem q1072 : (Jvm.Cond.instanceMethod ({ cls := "WarpMill$Heap", name := "take", desc := "()LWarpMill$Ask;" } : Jvm.MethodName)) ∈ lw_all := lw_g (lw_at lw_m5 34 rfl) rfl
theorem q1073 : (Jvm.Cond.selects "WarpMill$Heap" ({ cls := "WarpMill$Heap", name := "take", desc := "()LWarpMill$Ask;" } : Jvm.MethodName) ({ cls := "WarpMill$Heap", name := "take", desc := "()LWarpMill$Ask;" } : Jvm.MethodName)) ∈ lw_all := lw_g (lw_at lw_m5 35 rfl) rfl
theorem q1074 : (Jvm.Cond.code ({ cls := "WarpMill$Heap", name := "take", desc := "()LWarpMill$Ask;" } : Jvm.MethodName) prog_7_method_5_code (7 : Nat) (Option.some (Jvm.ClassFile.FieldType.object "WarpMill$Ask"))) ∈ lw_all := lw_g (lw_at lw_m5 36 rfl) rfl
theorem q1075 : (Jvm.Cond.methodLink "WarpMill$Heap" (30 : Nat) ({ cls := "java/util/ArrayList", name := "remove", desc := "(I)Ljava/lang/Object;" } : Jvm.MethodName)) ∈ lw_all := lw_g (lw_at lw_m5 37 rfl) rfl
theorem q1084 : (Jvm.Cond.methodLink "WarpMill$Heap" (48 : Nat) ({ cls := "WarpMill$Ask", name := "isAhead", desc := "(LWarpMill$Ask;)Z" } : Jvm.MethodName)) ∈ lw_all := lw_g (lw_at lw_m5 46 rfl) rfl
theorem q1088 : (Jvm.Cond.methodLink "WarpMill$Heap" (52 : Nat) ({ cls := "java/util/ArrayList", name := "set", desc := "(ILjava/lang/Object;)Ljava/lang/Object;" } : Jvm.MethodName)) ∈ lw_all := lw_g (lw_at lw_m5 50 rfl) rfl
theorem q1415 : (Jvm.Cond.instanceMethod ({ cls := "WarpMill$Heap", name := "fresh", desc := "()LWarpMill$Ask;" } : Jvm.MethodName)) ∈ lw_all := lw_g (lw_at lw_m6 137 rfl) rfl
theorem q1416 : (Jvm.Cond.selects "WarpMill$Heap" ({ cls := "WarpMill$Heap", name := "fresh", desc := "()LWarpMill$Ask;" } : Jvm.MethodName) ({ cls := "WarpMill$Heap", name := "fresh", desc := "()LWarpMill$Ask;" } : Jvm.MethodName)) ∈ lw_all := lw_g (lw_at lw_m6 138 rfl) rfl
theorem q1417 : (Jvm.Cond.code ({ cls := "WarpMill$Heap", name := "fresh", desc := "()LWarpMill$Ask;" } : Jvm.MethodName) prog_7_method_2_code (1 : Nat) (Option.some (Jvm.ClassFile.FieldType.object "WarpMill$Ask"))) ∈ lw_all := lw_g (lw_at lw_m6 139 rfl) rfl
theorem q1419 : (Jvm.Cond.methodLinkNest "WarpMill$Heap" (25 : Nat) ({ cls := "WarpMill$Ask", name := "<init>", desc := "()V" } : Jvm.MethodName) "WarpMill") ∈ lw_tbl := lw_at lw_m6 141 rfl
theorem q1424 : (Jvm.Cond.fieldLinkNest "WarpMill$Heap" (56 : Nat) "WarpMill$Ask" "time" "I" "WarpMill") ∈ lw_tbl := lw_at lw_m6 146 rfl
theorem q1427 : (Jvm.Cond.fieldLinkNest "WarpMill$Heap" (38 : Nat) "WarpMill$Ask" "turn" "I" "WarpMill") ∈ lw_tbl := lw_at lw_m6 149 rfl
theorem q1455 : (Jvm.Cond.instanceMethod ({ cls := "WarpMill$Heap", name := "add", desc := "(LWarpMill$Ask;)V" } : Jvm.MethodName)) ∈ lw_all := lw_g (lw_at lw_m6 177 rfl) rfl
theorem q1456 : (Jvm.Cond.selects "WarpMill$Heap" ({ cls := "WarpMill$Heap", name := "add", desc := "(LWarpMill$Ask;)V" } : Jvm.MethodName) ({ cls := "WarpMill$Heap", name := "add", desc := "(LWarpMill$Ask;)V" } : Jvm.MethodName)) ∈ lw_all := lw_g (lw_at lw_m6 178 rfl) rfl
theorem q1457 : (Jvm.Cond.code ({ cls := "WarpMill$Heap", name := "add", desc := "(LWarpMill$Ask;)V" } : Jvm.MethodName) prog_7_method_3_code (3 : Nat) (Option.none : Option Jvm.ClassFile.FieldType)) ∈ lw_all := lw_g (lw_at lw_m6 179 rfl) rfl
theorem q2027 : (Jvm.Cond.castable "WarpMill$Heap" "java/lang/Object") ∈ lw_tbl := lw_at lw_m9 29 rfl
theorem in_X3 : ∀ w ∈ wsX30, w ∈ lw_all := lw_in wsX30 [502, 504, 506] (by decide +kernel) (by decide +kernel)

/-! X4 -/
set_option maxRecDepth 100000
def RX4 : String := "WarpMill$Coalescer"
def TX4 : u_T := fun k => match k with
  | 0 => ("WarpMill$Coalescer", "words", "Ljava/util/BitSet;", true)
  | 1 => ("WarpMill$Coalescer", "lines", "Ljava/util/BitSet;", true)
  | 2 => ("WarpMill$Coalescer", "banks", "[I", true)
  | 3 => ("WarpMill$Coalescer", "shared", "I", false)
  | 4 => ("WarpMill$Coalescer", "times", "[I", true)
  | 5 => ("WarpMill$Coalescer", "most", "I", false)
  | 6 => ("WarpMill$Coalescer", "again", "I", false)
  | _ => ("WarpMill$Coalescer", "done", "I", false)
def tyX4 : Nat → FieldType := fun k => match k with
  | 0 => .object "java/util/BitSet"
  | 1 => .object "java/util/BitSet"
  | 2 => .array .int
  | 3 => .int
  | 4 => .array .int
  | 5 => .int
  | 6 => .int
  | _ => .int
abbrev wsX40 : List Cond := u_ws RX4 TX4 8
theorem nmX4 : ∀ a, a < 8 → ∀ b, b < 8 → a ≠ b → (TX4 a).2.1 ≠ (TX4 b).2.1 := by decide +kernel
theorem tyX4_ok : ∀ k, k < 8 → parseFieldDescriptor (TX4 k).2.2.1 = some (tyX4 k) := by decide +kernel
abbrev cX4_init : ByteArray := prog_5_method_1_code
def yX4_init : MethodName := ⟨RX4, "<init>", "()V"⟩
abbrev cX4_begin : ByteArray := prog_5_method_2_code
def yX4_begin : MethodName := ⟨RX4, "begin", "(I)V"⟩
abbrev cX4_askShared : ByteArray := prog_5_method_3_code
def yX4_askShared : MethodName := ⟨RX4, "askShared", "(IZ)V"⟩
abbrev cX4_askGlobal : ByteArray := prog_5_method_4_code
def yX4_askGlobal : MethodName := ⟨RX4, "askGlobal", "(ILWarpMill$Cache;I)V"⟩
theorem q101 : (Jvm.Cond.initialized "WarpMill$Coalescer") ∈ lw_all := lw_g (lw_at lw_m1 23 rfl) rfl
theorem q510 : (Jvm.Cond.instantiable "WarpMill$Coalescer" (8 : Nat)) ∈ lw_all := lw_g (lw_at lw_m2 192 rfl) rfl
theorem q512 : (Jvm.Cond.instanceMethod ({ cls := "WarpMill$Coalescer", name := "<init>", desc := "()V" } : Jvm.MethodName)) ∈ lw_all := lw_g (lw_at lw_m2 194 rfl) rfl
theorem q513 : (Jvm.Cond.code ({ cls := "WarpMill$Coalescer", name := "<init>", desc := "()V" } : Jvm.MethodName) prog_5_method_1_code (1 : Nat) (Option.none : Option Jvm.ClassFile.FieldType)) ∈ lw_all := lw_g (lw_at lw_m2 195 rfl) rfl
theorem q514 : (Jvm.Cond.methodLink "WarpMill$Coalescer" (3 : Nat) ({ cls := "java/lang/Object", name := "<init>", desc := "()V" } : Jvm.MethodName)) ∈ lw_all := lw_g (lw_at lw_m2 196 rfl) rfl
theorem q515 : (Jvm.Cond.classLink "WarpMill$Coalescer" (9 : Nat) "java/util/BitSet") ∈ lw_all := lw_g (lw_at lw_m2 197 rfl) rfl
theorem q517 : (Jvm.Cond.methodLink "WarpMill$Coalescer" (11 : Nat) ({ cls := "java/util/BitSet", name := "<init>", desc := "(I)V" } : Jvm.MethodName)) ∈ lw_all := lw_g (lw_at lw_m2 199 rfl) rfl
theorem q539 : (Jvm.Cond.fieldLink "WarpMill$Coalescer" (14 : Nat) "WarpMill$Coalescer" "words" "Ljava/util/BitSet;") ∈ lw_all := lw_g (lw_at lw_m2 221 rfl) rfl
theorem q540 : (Jvm.Cond.fieldLink "WarpMill$Coalescer" (20 : Nat) "WarpMill$Coalescer" "lines" "Ljava/util/BitSet;") ∈ lw_all := lw_g (lw_at lw_m2 222 rfl) rfl
theorem q541 : (Jvm.Cond.fieldLink "WarpMill$Coalescer" (23 : Nat) "WarpMill$Coalescer" "banks" "[I") ∈ lw_all := lw_g (lw_at lw_m2 223 rfl) rfl
theorem q542 : (Jvm.Cond.fieldLink "WarpMill$Coalescer" (27 : Nat) "WarpMill$Coalescer" "shared" "I") ∈ lw_all := lw_g (lw_at lw_m2 224 rfl) rfl
theorem q544 : (Jvm.Cond.fieldLink "WarpMill$Coalescer" (31 : Nat) "WarpMill$Coalescer" "times" "[I") ∈ lw_all := lw_g (lw_at lw_m2 226 rfl) rfl
theorem q546 : (Jvm.Cond.fieldLink "WarpMill$Coalescer" (37 : Nat) "WarpMill$Coalescer" "most" "I") ∈ lw_all := lw_g (lw_at lw_m2 228 rfl) rfl
theorem q548 : (Jvm.Cond.fieldLink "WarpMill$Coalescer" (40 : Nat) "WarpMill$Coalescer" "again" "I") ∈ lw_all := lw_g (lw_at lw_m2 230 rfl) rfl
theorem q550 : (Jvm.Cond.fieldLink "WarpMill$Coalescer" (43 : Nat) "WarpMill$Coalescer" "done" "I") ∈ lw_all := lw_g (lw_at lw_m2 232 rfl) rfl
theorem q552 : (Jvm.Cond.laysFinal "WarpMill$Coalescer" "WarpMill$Coalescer" "words" "Ljava/util/BitSet;") ∈ lw_all := lw_g (lw_at lw_m2 234 rfl) rfl
theorem q553 : (Jvm.Cond.soleField "WarpMill$Coalescer" "words") ∈ lw_all := lw_g (lw_at lw_m2 235 rfl) rfl
theorem q554 : (Jvm.Cond.laysFinal "WarpMill$Coalescer" "WarpMill$Coalescer" "lines" "Ljava/util/BitSet;") ∈ lw_all := lw_g (lw_at lw_m2 236 rfl) rfl
theorem q555 : (Jvm.Cond.soleField "WarpMill$Coalescer" "lines") ∈ lw_all := lw_g (lw_at lw_m2 237 rfl) rfl
theorem q556 : (Jvm.Cond.laysFinal "WarpMill$Coalescer" "WarpMill$Coalescer" "banks" "[I") ∈ lw_all := lw_g (lw_at lw_m2 238 rfl) rfl
theorem q557 : (Jvm.Cond.soleField "WarpMill$Coalescer" "banks") ∈ lw_all := lw_g (lw_at lw_m2 239 rfl) rfl
theorem q558 : (Jvm.Cond.lays "WarpMill$Coalescer" "WarpMill$Coalescer" "shared" "I") ∈ lw_all := lw_g (lw_at lw_m3 0 rfl) rfl
theorem q559 : (Jvm.Cond.soleField "WarpMill$Coalescer" "shared") ∈ lw_all := lw_g (lw_at lw_m3 1 rfl) rfl
theorem q560 : (Jvm.Cond.laysFinal "WarpMill$Coalescer" "WarpMill$Coalescer" "times" "[I") ∈ lw_all := lw_g (lw_at lw_m3 2 rfl) rfl
theorem q561 : (Jvm.Cond.soleField "WarpMill$Coalescer" "times") ∈ lw_all := lw_g (lw_at lw_m3 3 rfl) rfl
theorem q562 : (Jvm.Cond.lays "WarpMill$Coalescer" "WarpMill$Coalescer" "most" "I") ∈ lw_all := lw_g (lw_at lw_m3 4 rfl) rfl
theorem q563 : (Jvm.Cond.soleField "WarpMill$Coalescer" "most") ∈ lw_all := lw_g (lw_at lw_m3 5 rfl) rfl
theorem q564 : (Jvm.Cond.lays "WarpMill$Coalescer" "WarpMill$Coalescer" "again" "I") ∈ lw_all := lw_g (lw_at lw_m3 6 rfl) rfl
theorem q565 : (Jvm.Cond.soleField "WarpMill$Coalescer" "again") ∈ lw_all := lw_g (lw_at lw_m3 7 rfl) rfl
theorem q566 : (Jvm.Cond.lays "WarpMill$Coalescer" "WarpMill$Coalescer" "done" "I") ∈ lw_all := lw_g (lw_at lw_m3 8 rfl) rfl
theorem q567 : (Jvm.Cond.soleField "WarpMill$Coalescer" "done") ∈ lw_all := lw_g (lw_at lw_m3 9 rfl) rfl
theorem q568 : (Jvm.Cond.superclass "WarpMill$Coalescer" "java/lang/Object") ∈ lw_all := lw_g (lw_at lw_m3 10 rfl) rfl
theorem q658 : (Jvm.Cond.selects "WarpMill$Coalescer" ({ cls := "java/lang/Object", name := "getClass", desc := "()Ljava/lang/Class;" } : Jvm.MethodName) ({ cls := "java/lang/Object", name := "getClass", desc := "()Ljava/lang/Class;" } : Jvm.MethodName)) ∈ lw_all := lw_g (lw_at lw_m3 100 rfl) rfl
theorem q1341 : (Jvm.Cond.instanceMethod ({ cls := "WarpMill$Coalescer", name := "begin", desc := "(I)V" } : Jvm.MethodName)) ∈ lw_all := lw_g (lw_at lw_m6 63 rfl) rfl
theorem q1342 : (Jvm.Cond.selects "WarpMill$Coalescer" ({ cls := "WarpMill$Coalescer", name := "begin", desc := "(I)V" } : Jvm.MethodName) ({ cls := "WarpMill$Coalescer", name := "begin", desc := "(I)V" } : Jvm.MethodName)) ∈ lw_all := lw_g (lw_at lw_m6 64 rfl) rfl
theorem q1343 : (Jvm.Cond.code ({ cls := "WarpMill$Coalescer", name := "begin", desc := "(I)V" } : Jvm.MethodName) prog_5_method_2_code (3 : Nat) (Option.none : Option Jvm.ClassFile.FieldType)) ∈ lw_all := lw_g (lw_at lw_m6 65 rfl) rfl
theorem q1344 : (Jvm.Cond.methodLink "WarpMill$Coalescer" (34 : Nat) ({ cls := "java/util/BitSet", name := "clear", desc := "()V" } : Jvm.MethodName)) ∈ lw_all := lw_g (lw_at lw_m6 66 rfl) rfl
theorem q1353 : (Jvm.Cond.instanceMethod ({ cls := "WarpMill$Coalescer", name := "askShared", desc := "(IZ)V" } : Jvm.MethodName)) ∈ lw_all := lw_g (lw_at lw_m6 75 rfl) rfl
theorem q1354 : (Jvm.Cond.selects "WarpMill$Coalescer" ({ cls := "WarpMill$Coalescer", name := "askShared", desc := "(IZ)V" } : Jvm.MethodName) ({ cls := "WarpMill$Coalescer", name := "askShared", desc := "(IZ)V" } : Jvm.MethodName)) ∈ lw_all := lw_g (lw_at lw_m6 76 rfl) rfl
theorem q1355 : (Jvm.Cond.code ({ cls := "WarpMill$Coalescer", name := "askShared", desc := "(IZ)V" } : Jvm.MethodName) prog_5_method_3_code (4 : Nat) (Option.none : Option Jvm.ClassFile.FieldType)) ∈ lw_all := lw_g (lw_at lw_m6 77 rfl) rfl
theorem q1356 : (Jvm.Cond.methodLink "WarpMill$Coalescer" (46 : Nat) ({ cls := "java/util/BitSet", name := "get", desc := "(I)Z" } : Jvm.MethodName)) ∈ lw_all := lw_g (lw_at lw_m6 78 rfl) rfl
theorem q1366 : (Jvm.Cond.methodLink "WarpMill$Coalescer" (50 : Nat) ({ cls := "java/util/BitSet", name := "set", desc := "(I)V" } : Jvm.MethodName)) ∈ lw_all := lw_g (lw_at lw_m6 88 rfl) rfl
theorem q1387 : (Jvm.Cond.methodLink "WarpMill$Coalescer" (53 : Nat) ({ cls := "java/lang/Math", name := "max", desc := "(II)I" } : Jvm.MethodName)) ∈ lw_all := lw_g (lw_at lw_m6 109 rfl) rfl
theorem q1389 : (Jvm.Cond.instanceMethod ({ cls := "WarpMill$Coalescer", name := "askGlobal", desc := "(ILWarpMill$Cache;I)V" } : Jvm.MethodName)) ∈ lw_all := lw_g (lw_at lw_m6 111 rfl) rfl
theorem q1390 : (Jvm.Cond.selects "WarpMill$Coalescer" ({ cls := "WarpMill$Coalescer", name := "askGlobal", desc := "(ILWarpMill$Cache;I)V" } : Jvm.MethodName) ({ cls := "WarpMill$Coalescer", name := "askGlobal", desc := "(ILWarpMill$Cache;I)V" } : Jvm.MethodName)) ∈ lw_all := lw_g (lw_at lw_m6 112 rfl) rfl
theorem q1391 : (Jvm.Cond.code ({ cls := "WarpMill$Coalescer", name := "askGlobal", desc := "(ILWarpMill$Cache;I)V" } : Jvm.MethodName) prog_5_method_4_code (4 : Nat) (Option.none : Option Jvm.ClassFile.FieldType)) ∈ lw_all := lw_g (lw_at lw_m6 113 rfl) rfl
theorem q1392 : (Jvm.Cond.methodLink "WarpMill$Coalescer" (59 : Nat) ({ cls := "WarpMill$Cache", name := "ask", desc := "(II)I" } : Jvm.MethodName)) ∈ lw_all := lw_g (lw_at lw_m6 114 rfl) rfl
theorem q2028 : (Jvm.Cond.castable "WarpMill$Coalescer" "java/lang/Object") ∈ lw_tbl := lw_at lw_m9 30 rfl
theorem in_X4 : ∀ w ∈ wsX40, w ∈ lw_all := lw_in wsX40 [552, 554, 556, 558, 560, 562, 564, 566] (by decide +kernel) (by decide +kernel)

/-! J17 -/
set_option maxRecDepth 100000
def RJ17 : String := "java/util/BitSet"
def TJ17 : u_T := fun k => match k with
  | 0 => ("java/util/BitSet", "words", "[J", false)
  | 1 => ("java/util/BitSet", "wordsInUse", "I", false)
  | _ => ("java/util/BitSet", "sizeIsSticky", "Z", false)
def tyJ17 : Nat → FieldType := fun k => match k with
  | 0 => .array .long
  | 1 => .int
  | _ => .boolean
abbrev wsJ170 : List Cond := u_ws RJ17 TJ17 3
theorem nmJ17 : ∀ a, a < 3 → ∀ b, b < 3 → a ≠ b → (TJ17 a).2.1 ≠ (TJ17 b).2.1 := by decide +kernel
theorem tyJ17_ok : ∀ k, k < 3 → parseFieldDescriptor (TJ17 k).2.2.1 = some (tyJ17 k) := by decide +kernel
abbrev cJ17_init : ByteArray := prog_44_method_5_code
def yJ17_init : MethodName := ⟨RJ17, "<init>", "(I)V"⟩
abbrev cJ17_initWords : ByteArray := prog_44_method_6_code
def yJ17_initWords : MethodName := ⟨RJ17, "initWords", "(I)V"⟩
abbrev cJ17_wordIndex : ByteArray := prog_44_method_1_code
def yJ17_wordIndex : MethodName := ⟨RJ17, "wordIndex", "(I)I"⟩
abbrev cJ17_clear : ByteArray := prog_44_method_25_code
def yJ17_clear : MethodName := ⟨RJ17, "clear", "()V"⟩
abbrev cJ17_get : ByteArray := prog_44_method_26_code
def yJ17_get : MethodName := ⟨RJ17, "get", "(I)Z"⟩
abbrev cJ17_checkInvariants : ByteArray := prog_44_method_2_code
def yJ17_checkInvariants : MethodName := ⟨RJ17, "checkInvariants", "()V"⟩
abbrev cJ17_set : ByteArray := prog_44_method_19_code
def yJ17_set : MethodName := ⟨RJ17, "set", "(I)V"⟩
abbrev cJ17_expandTo : ByteArray := prog_44_method_15_code
def yJ17_expandTo : MethodName := ⟨RJ17, "expandTo", "(I)V"⟩
abbrev cJ17_ensureCapacity : ByteArray := prog_44_method_14_code
def yJ17_ensureCapacity : MethodName := ⟨RJ17, "ensureCapacity", "(I)V"⟩
theorem q102 : (Jvm.Cond.initialized "java/util/BitSet") ∈ lw_all := lw_g (lw_at lw_m1 24 rfl) rfl
theorem q516 : (Jvm.Cond.instantiable "java/util/BitSet" (3 : Nat)) ∈ lw_all := lw_g (lw_at lw_m2 198 rfl) rfl
theorem q518 : (Jvm.Cond.instanceMethod ({ cls := "java/util/BitSet", name := "<init>", desc := "(I)V" } : Jvm.MethodName)) ∈ lw_all := lw_g (lw_at lw_m2 200 rfl) rfl
theorem q519 : (Jvm.Cond.code ({ cls := "java/util/BitSet", name := "<init>", desc := "(I)V" } : Jvm.MethodName) prog_44_method_5_code (2 : Nat) (Option.none : Option Jvm.ClassFile.FieldType)) ∈ lw_all := lw_g (lw_at lw_m2 201 rfl) rfl
theorem q520 : (Jvm.Cond.methodLink "java/util/BitSet" (21 : Nat) ({ cls := "java/lang/Object", name := "<init>", desc := "()V" } : Jvm.MethodName)) ∈ lw_all := lw_g (lw_at lw_m2 202 rfl) rfl
theorem q521 : (Jvm.Cond.methodLink "java/util/BitSet" (27 : Nat) ({ cls := "java/util/BitSet", name := "initWords", desc := "(I)V" } : Jvm.MethodName)) ∈ lw_all := lw_g (lw_at lw_m2 203 rfl) rfl
theorem q522 : (Jvm.Cond.privateMethod ({ cls := "java/util/BitSet", name := "initWords", desc := "(I)V" } : Jvm.MethodName)) ∈ lw_tbl := lw_at lw_m2 204 rfl
theorem q523 : (Jvm.Cond.instanceMethod ({ cls := "java/util/BitSet", name := "initWords", desc := "(I)V" } : Jvm.MethodName)) ∈ lw_all := lw_g (lw_at lw_m2 205 rfl) rfl
theorem q524 : (Jvm.Cond.code ({ cls := "java/util/BitSet", name := "initWords", desc := "(I)V" } : Jvm.MethodName) prog_44_method_6_code (2 : Nat) (Option.none : Option Jvm.ClassFile.FieldType)) ∈ lw_all := lw_g (lw_at lw_m2 206 rfl) rfl
theorem q525 : (Jvm.Cond.methodLink "java/util/BitSet" (52 : Nat) ({ cls := "java/util/BitSet", name := "wordIndex", desc := "(I)I" } : Jvm.MethodName)) ∈ lw_all := lw_g (lw_at lw_m2 207 rfl) rfl
theorem q526 : (Jvm.Cond.static ({ cls := "java/util/BitSet", name := "wordIndex", desc := "(I)I" } : Jvm.MethodName)) ∈ lw_all := lw_g (lw_at lw_m2 208 rfl) rfl
theorem q527 : (Jvm.Cond.code ({ cls := "java/util/BitSet", name := "wordIndex", desc := "(I)I" } : Jvm.MethodName) prog_44_method_1_code (1 : Nat) (Option.some Jvm.ClassFile.FieldType.int)) ∈ lw_all := lw_g (lw_at lw_m2 209 rfl) rfl
theorem q528 : (Jvm.Cond.fieldLink "java/util/BitSet" (11 : Nat) "java/util/BitSet" "words" "[J") ∈ lw_all := lw_g (lw_at lw_m2 210 rfl) rfl
theorem q529 : (Jvm.Cond.fieldLink "java/util/BitSet" (7 : Nat) "java/util/BitSet" "wordsInUse" "I") ∈ lw_all := lw_g (lw_at lw_m2 211 rfl) rfl
theorem q530 : (Jvm.Cond.fieldLink "java/util/BitSet" (24 : Nat) "java/util/BitSet" "sizeIsSticky" "Z") ∈ lw_all := lw_g (lw_at lw_m2 212 rfl) rfl
theorem q531 : (Jvm.Cond.lays "java/util/BitSet" "java/util/BitSet" "words" "[J") ∈ lw_all := lw_g (lw_at lw_m2 213 rfl) rfl
theorem q532 : (Jvm.Cond.soleField "java/util/BitSet" "words") ∈ lw_all := lw_g (lw_at lw_m2 214 rfl) rfl
theorem q533 : (Jvm.Cond.lays "java/util/BitSet" "java/util/BitSet" "wordsInUse" "I") ∈ lw_all := lw_g (lw_at lw_m2 215 rfl) rfl
theorem q534 : (Jvm.Cond.soleField "java/util/BitSet" "wordsInUse") ∈ lw_all := lw_g (lw_at lw_m2 216 rfl) rfl
theorem q535 : (Jvm.Cond.lays "java/util/BitSet" "java/util/BitSet" "sizeIsSticky" "Z") ∈ lw_all := lw_g (lw_at lw_m2 217 rfl) rfl
theorem q536 : (Jvm.Cond.soleField "java/util/BitSet" "sizeIsSticky") ∈ lw_all := lw_g (lw_at lw_m2 218 rfl) rfl
theorem q537 : (Jvm.Cond.superclass "java/util/BitSet" "java/lang/Object") ∈ lw_all := lw_g (lw_at lw_m2 219 rfl) rfl
theorem q674 : (Jvm.Cond.selects "java/util/BitSet" ({ cls := "java/lang/Object", name := "getClass", desc := "()Ljava/lang/Class;" } : Jvm.MethodName) ({ cls := "java/lang/Object", name := "getClass", desc := "()Ljava/lang/Class;" } : Jvm.MethodName)) ∈ lw_all := lw_g (lw_at lw_m3 116 rfl) rfl
theorem q1345 : (Jvm.Cond.instanceMethod ({ cls := "java/util/BitSet", name := "clear", desc := "()V" } : Jvm.MethodName)) ∈ lw_all := lw_g (lw_at lw_m6 67 rfl) rfl
theorem q1346 : (Jvm.Cond.selects "java/util/BitSet" ({ cls := "java/util/BitSet", name := "clear", desc := "()V" } : Jvm.MethodName) ({ cls := "java/util/BitSet", name := "clear", desc := "()V" } : Jvm.MethodName)) ∈ lw_all := lw_g (lw_at lw_m6 68 rfl) rfl
theorem q1347 : (Jvm.Cond.code ({ cls := "java/util/BitSet", name := "clear", desc := "()V" } : Jvm.MethodName) prog_44_method_25_code (1 : Nat) (Option.none : Option Jvm.ClassFile.FieldType)) ∈ lw_all := lw_g (lw_at lw_m6 69 rfl) rfl
theorem q1357 : (Jvm.Cond.instanceMethod ({ cls := "java/util/BitSet", name := "get", desc := "(I)Z" } : Jvm.MethodName)) ∈ lw_all := lw_g (lw_at lw_m6 79 rfl) rfl
theorem q1358 : (Jvm.Cond.selects "java/util/BitSet" ({ cls := "java/util/BitSet", name := "get", desc := "(I)Z" } : Jvm.MethodName) ({ cls := "java/util/BitSet", name := "get", desc := "(I)Z" } : Jvm.MethodName)) ∈ lw_all := lw_g (lw_at lw_m6 80 rfl) rfl
theorem q1359 : (Jvm.Cond.code ({ cls := "java/util/BitSet", name := "get", desc := "(I)Z" } : Jvm.MethodName) prog_44_method_26_code (3 : Nat) (Option.some Jvm.ClassFile.FieldType.boolean)) ∈ lw_all := lw_g (lw_at lw_m6 81 rfl) rfl
theorem q1360 : (Jvm.Cond.methodLink "java/util/BitSet" (56 : Nat) ({ cls := "java/util/BitSet", name := "checkInvariants", desc := "()V" } : Jvm.MethodName)) ∈ lw_all := lw_g (lw_at lw_m6 82 rfl) rfl
theorem q1361 : (Jvm.Cond.privateMethod ({ cls := "java/util/BitSet", name := "checkInvariants", desc := "()V" } : Jvm.MethodName)) ∈ lw_tbl := lw_at lw_m6 83 rfl
theorem q1362 : (Jvm.Cond.instanceMethod ({ cls := "java/util/BitSet", name := "checkInvariants", desc := "()V" } : Jvm.MethodName)) ∈ lw_all := lw_g (lw_at lw_m6 84 rfl) rfl
theorem q1363 : (Jvm.Cond.code ({ cls := "java/util/BitSet", name := "checkInvariants", desc := "()V" } : Jvm.MethodName) prog_44_method_2_code (1 : Nat) (Option.none : Option Jvm.ClassFile.FieldType)) ∈ lw_all := lw_g (lw_at lw_m6 85 rfl) rfl
theorem q1364 : (Jvm.Cond.fieldLink "java/util/BitSet" (3 : Nat) "java/util/BitSet" "$assertionsDisabled" "Z") ∈ lw_all := lw_g (lw_at lw_m6 86 rfl) rfl
theorem q1365 : (Jvm.Cond.laysStatic "java/util/BitSet" "$assertionsDisabled" "Z") ∈ lw_tbl := lw_at lw_m6 87 rfl
theorem q1367 : (Jvm.Cond.instanceMethod ({ cls := "java/util/BitSet", name := "set", desc := "(I)V" } : Jvm.MethodName)) ∈ lw_all := lw_g (lw_at lw_m6 89 rfl) rfl
theorem q1368 : (Jvm.Cond.selects "java/util/BitSet" ({ cls := "java/util/BitSet", name := "set", desc := "(I)V" } : Jvm.MethodName) ({ cls := "java/util/BitSet", name := "set", desc := "(I)V" } : Jvm.MethodName)) ∈ lw_all := lw_g (lw_at lw_m6 90 rfl) rfl
theorem q1369 : (Jvm.Cond.code ({ cls := "java/util/BitSet", name := "set", desc := "(I)V" } : Jvm.MethodName) prog_44_method_19_code (3 : Nat) (Option.none : Option Jvm.ClassFile.FieldType)) ∈ lw_all := lw_g (lw_at lw_m6 91 rfl) rfl
theorem q1370 : (Jvm.Cond.methodLink "java/util/BitSet" (155 : Nat) ({ cls := "java/util/BitSet", name := "expandTo", desc := "(I)V" } : Jvm.MethodName)) ∈ lw_all := lw_g (lw_at lw_m6 92 rfl) rfl
theorem q1371 : (Jvm.Cond.privateMethod ({ cls := "java/util/BitSet", name := "expandTo", desc := "(I)V" } : Jvm.MethodName)) ∈ lw_tbl := lw_at lw_m6 93 rfl
theorem q1372 : (Jvm.Cond.instanceMethod ({ cls := "java/util/BitSet", name := "expandTo", desc := "(I)V" } : Jvm.MethodName)) ∈ lw_all := lw_g (lw_at lw_m6 94 rfl) rfl
theorem q1373 : (Jvm.Cond.code ({ cls := "java/util/BitSet", name := "expandTo", desc := "(I)V" } : Jvm.MethodName) prog_44_method_15_code (3 : Nat) (Option.none : Option Jvm.ClassFile.FieldType)) ∈ lw_all := lw_g (lw_at lw_m6 95 rfl) rfl
theorem q1374 : (Jvm.Cond.methodLink "java/util/BitSet" (139 : Nat) ({ cls := "java/util/BitSet", name := "ensureCapacity", desc := "(I)V" } : Jvm.MethodName)) ∈ lw_all := lw_g (lw_at lw_m6 96 rfl) rfl
theorem q1375 : (Jvm.Cond.privateMethod ({ cls := "java/util/BitSet", name := "ensureCapacity", desc := "(I)V" } : Jvm.MethodName)) ∈ lw_tbl := lw_at lw_m6 97 rfl
theorem q1376 : (Jvm.Cond.instanceMethod ({ cls := "java/util/BitSet", name := "ensureCapacity", desc := "(I)V" } : Jvm.MethodName)) ∈ lw_all := lw_g (lw_at lw_m6 98 rfl) rfl
theorem q1377 : (Jvm.Cond.code ({ cls := "java/util/BitSet", name := "ensureCapacity", desc := "(I)V" } : Jvm.MethodName) prog_44_method_14_code (3 : Nat) (Option.none : Option Jvm.ClassFile.FieldType)) ∈ lw_all := lw_g (lw_at lw_m6 99 rfl) rfl
theorem q1378 : (Jvm.Cond.methodLink "java/util/BitSet" (133 : Nat) ({ cls := "java/lang/Math", name := "max", desc := "(II)I" } : Jvm.MethodName)) ∈ lw_all := lw_g (lw_at lw_m6 100 rfl) rfl
theorem q1379 : (Jvm.Cond.methodLink "java/util/BitSet" (59 : Nat) ({ cls := "java/util/Arrays", name := "copyOf", desc := "([JI)[J" } : Jvm.MethodName)) ∈ lw_all := lw_g (lw_at lw_m6 101 rfl) rfl
theorem q2029 : (Jvm.Cond.castable "java/util/BitSet" "java/lang/Object") ∈ lw_tbl := lw_at lw_m9 31 rfl
theorem in_J17 : ∀ w ∈ wsJ170, w ∈ lw_all := lw_in wsJ170 [531, 533, 535] (by decide +kernel) (by decide +kernel)

/-! X5 -/
set_option maxRecDepth 100000
def RX5 : String := "WarpMill$Word"
def TX5 : u_T := fun k => match k with
  | 0 => ("WarpMill$Word", "op", "I", true)
  | 1 => ("WarpMill$Word", "d", "I", true)
  | 2 => ("WarpMill$Word", "a", "I", true)
  | 3 => ("WarpMill$Word", "b", "I", true)
  | 4 => ("WarpMill$Word", "g", "I", true)
  | 5 => ("WarpMill$Word", "n", "I", true)
  | _ => ("WarpMill$Word", "sort", "LWarpMill$Sort;", true)
def tyX5 : Nat → FieldType := fun k => match k with
  | 0 => .int
  | 1 => .int
  | 2 => .int
  | 3 => .int
  | 4 => .int
  | 5 => .int
  | _ => .object "WarpMill$Sort"
abbrev wsX50 : List Cond := u_ws RX5 TX5 7
theorem nmX5 : ∀ a, a < 7 → ∀ b, b < 7 → a ≠ b → (TX5 a).2.1 ≠ (TX5 b).2.1 := by decide +kernel
theorem tyX5_ok : ∀ k, k < 7 → parseFieldDescriptor (TX5 k).2.2.1 = some (tyX5 k) := by decide +kernel
abbrev cX5_init : ByteArray := prog_14_method_1_code
def yX5_init : MethodName := ⟨RX5, "<init>", "(J)V"⟩
abbrev cX5_sortOf : ByteArray := prog_14_method_2_code
def yX5_sortOf : MethodName := ⟨RX5, "sortOf", "()LWarpMill$Sort;"⟩
abbrev cX5_isKnown : ByteArray := prog_14_method_3_code
def yX5_isKnown : MethodName := ⟨RX5, "isKnown", "()Z"⟩
abbrev cX5_readsFirst : ByteArray := prog_14_method_5_code
def yX5_readsFirst : MethodName := ⟨RX5, "readsFirst", "()Z"⟩
abbrev cX5_readsSecond : ByteArray := prog_14_method_6_code
def yX5_readsSecond : MethodName := ⟨RX5, "readsSecond", "()Z"⟩
abbrev cX5_writes : ByteArray := prog_14_method_8_code
def yX5_writes : MethodName := ⟨RX5, "writes", "()Z"⟩
abbrev cX5_readsOwn : ByteArray := prog_14_method_7_code
def yX5_readsOwn : MethodName := ⟨RX5, "readsOwn", "()Z"⟩
abbrev cX5_decides : ByteArray := prog_14_method_9_code
def yX5_decides : MethodName := ⟨RX5, "decides", "()Z"⟩
abbrev cX5_asked : ByteArray := prog_14_method_10_code
def yX5_asked : MethodName := ⟨RX5, "asked", "()I"⟩
abbrev cX5_isGuarded : ByteArray := prog_14_method_4_code
def yX5_isGuarded : MethodName := ⟨RX5, "isGuarded", "()Z"⟩
abbrev cX5_isAtomic : ByteArray := prog_14_method_11_code
def yX5_isAtomic : MethodName := ⟨RX5, "isAtomic", "()Z"⟩
theorem q103 : (Jvm.Cond.initialized "WarpMill$Word") ∈ lw_all := lw_g (lw_at lw_m1 25 rfl) rfl
theorem q570 : (Jvm.Cond.instantiable "WarpMill$Word" (7 : Nat)) ∈ lw_all := lw_g (lw_at lw_m3 12 rfl) rfl
theorem q572 : (Jvm.Cond.instanceMethod ({ cls := "WarpMill$Word", name := "<init>", desc := "(J)V" } : Jvm.MethodName)) ∈ lw_all := lw_g (lw_at lw_m3 14 rfl) rfl
theorem q573 : (Jvm.Cond.code ({ cls := "WarpMill$Word", name := "<init>", desc := "(J)V" } : Jvm.MethodName) prog_14_method_1_code (3 : Nat) (Option.none : Option Jvm.ClassFile.FieldType)) ∈ lw_all := lw_g (lw_at lw_m3 15 rfl) rfl
theorem q574 : (Jvm.Cond.methodLink "WarpMill$Word" (1 : Nat) ({ cls := "java/lang/Object", name := "<init>", desc := "()V" } : Jvm.MethodName)) ∈ lw_all := lw_g (lw_at lw_m3 16 rfl) rfl
theorem q575 : (Jvm.Cond.constantLong "WarpMill$Word" (7 : Nat) (255 : Int64)) ∈ lw_all := lw_g (lw_at lw_m3 17 rfl) rfl
theorem q576 : (Jvm.Cond.methodLink "WarpMill$Word" (30 : Nat) ({ cls := "WarpMill$Word", name := "sortOf", desc := "()LWarpMill$Sort;" } : Jvm.MethodName)) ∈ lw_all := lw_g (lw_at lw_m3 18 rfl) rfl
theorem q577 : (Jvm.Cond.privateMethod ({ cls := "WarpMill$Word", name := "sortOf", desc := "()LWarpMill$Sort;" } : Jvm.MethodName)) ∈ lw_tbl := lw_at lw_m3 19 rfl
theorem q578 : (Jvm.Cond.instanceMethod ({ cls := "WarpMill$Word", name := "sortOf", desc := "()LWarpMill$Sort;" } : Jvm.MethodName)) ∈ lw_all := lw_g (lw_at lw_m3 20 rfl) rfl
theorem q579 : (Jvm.Cond.code ({ cls := "WarpMill$Word", name := "sortOf", desc := "()LWarpMill$Sort;" } : Jvm.MethodName) prog_14_method_2_code (1 : Nat) (Option.some (Jvm.ClassFile.FieldType.object "WarpMill$Sort"))) ∈ lw_all := lw_g (lw_at lw_m3 21 rfl) rfl
theorem q580 : (Jvm.Cond.fieldLink "WarpMill$Word" (38 : Nat) "WarpMill$Sort" "NOTHING" "LWarpMill$Sort;") ∈ lw_all := lw_g (lw_at lw_m3 22 rfl) rfl
theorem q582 : (Jvm.Cond.fieldLink "WarpMill$Word" (43 : Nat) "WarpMill$Sort" "UNKNOWN" "LWarpMill$Sort;") ∈ lw_all := lw_g (lw_at lw_m3 24 rfl) rfl
theorem q584 : (Jvm.Cond.fieldLink "WarpMill$Word" (46 : Nat) "WarpMill$Sort" "SLOW" "LWarpMill$Sort;") ∈ lw_all := lw_g (lw_at lw_m3 26 rfl) rfl
theorem q586 : (Jvm.Cond.fieldLink "WarpMill$Word" (49 : Nat) "WarpMill$Sort" "DIVIDE" "LWarpMill$Sort;") ∈ lw_all := lw_g (lw_at lw_m3 28 rfl) rfl
theorem q588 : (Jvm.Cond.fieldLink "WarpMill$Word" (52 : Nat) "WarpMill$Sort" "PLAIN" "LWarpMill$Sort;") ∈ lw_all := lw_g (lw_at lw_m3 30 rfl) rfl
theorem q590 : (Jvm.Cond.fieldLink "WarpMill$Word" (55 : Nat) "WarpMill$Sort" "SHARED_MEMORY" "LWarpMill$Sort;") ∈ lw_all := lw_g (lw_at lw_m3 32 rfl) rfl
theorem q592 : (Jvm.Cond.fieldLink "WarpMill$Word" (58 : Nat) "WarpMill$Sort" "GLOBAL_MEMORY" "LWarpMill$Sort;") ∈ lw_all := lw_g (lw_at lw_m3 34 rfl) rfl
theorem q594 : (Jvm.Cond.fieldLink "WarpMill$Word" (61 : Nat) "WarpMill$Sort" "VOTE" "LWarpMill$Sort;") ∈ lw_all := lw_g (lw_at lw_m3 36 rfl) rfl
theorem q596 : (Jvm.Cond.fieldLink "WarpMill$Word" (9 : Nat) "WarpMill$Word" "op" "I") ∈ lw_all := lw_g (lw_at lw_m3 38 rfl) rfl
theorem q599 : (Jvm.Cond.fieldLink "WarpMill$Word" (15 : Nat) "WarpMill$Word" "d" "I") ∈ lw_all := lw_g (lw_at lw_m3 41 rfl) rfl
theorem q602 : (Jvm.Cond.fieldLink "WarpMill$Word" (18 : Nat) "WarpMill$Word" "a" "I") ∈ lw_all := lw_g (lw_at lw_m3 44 rfl) rfl
theorem q605 : (Jvm.Cond.fieldLink "WarpMill$Word" (21 : Nat) "WarpMill$Word" "b" "I") ∈ lw_all := lw_g (lw_at lw_m3 47 rfl) rfl
theorem q608 : (Jvm.Cond.fieldLink "WarpMill$Word" (24 : Nat) "WarpMill$Word" "g" "I") ∈ lw_all := lw_g (lw_at lw_m3 50 rfl) rfl
theorem q610 : (Jvm.Cond.fieldLink "WarpMill$Word" (27 : Nat) "WarpMill$Word" "n" "I") ∈ lw_all := lw_g (lw_at lw_m3 52 rfl) rfl
theorem q612 : (Jvm.Cond.fieldLink "WarpMill$Word" (34 : Nat) "WarpMill$Word" "sort" "LWarpMill$Sort;") ∈ lw_all := lw_g (lw_at lw_m3 54 rfl) rfl
theorem q616 : (Jvm.Cond.laysFinal "WarpMill$Word" "WarpMill$Word" "op" "I") ∈ lw_all := lw_g (lw_at lw_m3 58 rfl) rfl
theorem q617 : (Jvm.Cond.soleField "WarpMill$Word" "op") ∈ lw_all := lw_g (lw_at lw_m3 59 rfl) rfl
theorem q618 : (Jvm.Cond.laysFinal "WarpMill$Word" "WarpMill$Word" "d" "I") ∈ lw_all := lw_g (lw_at lw_m3 60 rfl) rfl
theorem q619 : (Jvm.Cond.soleField "WarpMill$Word" "d") ∈ lw_all := lw_g (lw_at lw_m3 61 rfl) rfl
theorem q620 : (Jvm.Cond.laysFinal "WarpMill$Word" "WarpMill$Word" "a" "I") ∈ lw_all := lw_g (lw_at lw_m3 62 rfl) rfl
theorem q621 : (Jvm.Cond.soleField "WarpMill$Word" "a") ∈ lw_all := lw_g (lw_at lw_m3 63 rfl) rfl
theorem q622 : (Jvm.Cond.laysFinal "WarpMill$Word" "WarpMill$Word" "b" "I") ∈ lw_all := lw_g (lw_at lw_m3 64 rfl) rfl
theorem q623 : (Jvm.Cond.soleField "WarpMill$Word" "b") ∈ lw_all := lw_g (lw_at lw_m3 65 rfl) rfl
theorem q624 : (Jvm.Cond.laysFinal "WarpMill$Word" "WarpMill$Word" "g" "I") ∈ lw_all := lw_g (lw_at lw_m3 66 rfl) rfl
theorem q625 : (Jvm.Cond.soleField "WarpMill$Word" "g") ∈ lw_all := lw_g (lw_at lw_m3 67 rfl) rfl
theorem q626 : (Jvm.Cond.laysFinal "WarpMill$Word" "WarpMill$Word" "n" "I") ∈ lw_all := lw_g (lw_at lw_m3 68 rfl) rfl
theorem q627 : (Jvm.Cond.soleField "WarpMill$Word" "n") ∈ lw_all := lw_g (lw_at lw_m3 69 rfl) rfl
theorem q628 : (Jvm.Cond.laysFinal "WarpMill$Word" "WarpMill$Word" "sort" "LWarpMill$Sort;") ∈ lw_all := lw_g (lw_at lw_m3 70 rfl) rfl
theorem q629 : (Jvm.Cond.soleField "WarpMill$Word" "sort") ∈ lw_all := lw_g (lw_at lw_m3 71 rfl) rfl
theorem q630 : (Jvm.Cond.superclass "WarpMill$Word" "java/lang/Object") ∈ lw_all := lw_g (lw_at lw_m3 72 rfl) rfl
theorem q667 : (Jvm.Cond.selects "WarpMill$Word" ({ cls := "java/lang/Object", name := "getClass", desc := "()Ljava/lang/Class;" } : Jvm.MethodName) ({ cls := "java/lang/Object", name := "getClass", desc := "()Ljava/lang/Class;" } : Jvm.MethodName)) ∈ lw_all := lw_g (lw_at lw_m3 109 rfl) rfl
theorem q1258 : (Jvm.Cond.instanceMethod ({ cls := "WarpMill$Word", name := "isKnown", desc := "()Z" } : Jvm.MethodName)) ∈ lw_all := lw_g (lw_at lw_m5 220 rfl) rfl
theorem q1259 : (Jvm.Cond.selects "WarpMill$Word" ({ cls := "WarpMill$Word", name := "isKnown", desc := "()Z" } : Jvm.MethodName) ({ cls := "WarpMill$Word", name := "isKnown", desc := "()Z" } : Jvm.MethodName)) ∈ lw_all := lw_g (lw_at lw_m5 221 rfl) rfl
theorem q1260 : (Jvm.Cond.code ({ cls := "WarpMill$Word", name := "isKnown", desc := "()Z" } : Jvm.MethodName) prog_14_method_3_code (1 : Nat) (Option.some Jvm.ClassFile.FieldType.boolean)) ∈ lw_all := lw_g (lw_at lw_m5 222 rfl) rfl
theorem q1262 : (Jvm.Cond.instanceMethod ({ cls := "WarpMill$Word", name := "readsFirst", desc := "()Z" } : Jvm.MethodName)) ∈ lw_all := lw_g (lw_at lw_m5 224 rfl) rfl
theorem q1263 : (Jvm.Cond.selects "WarpMill$Word" ({ cls := "WarpMill$Word", name := "readsFirst", desc := "()Z" } : Jvm.MethodName) ({ cls := "WarpMill$Word", name := "readsFirst", desc := "()Z" } : Jvm.MethodName)) ∈ lw_all := lw_g (lw_at lw_m5 225 rfl) rfl
theorem q1264 : (Jvm.Cond.code ({ cls := "WarpMill$Word", name := "readsFirst", desc := "()Z" } : Jvm.MethodName) prog_14_method_5_code (1 : Nat) (Option.some Jvm.ClassFile.FieldType.boolean)) ∈ lw_all := lw_g (lw_at lw_m5 226 rfl) rfl
theorem q1265 : (Jvm.Cond.methodLink "WarpMill$Word" (64 : Nat) ({ cls := "WarpMill$Sort", name := "isMemory", desc := "()Z" } : Jvm.MethodName)) ∈ lw_all := lw_g (lw_at lw_m5 227 rfl) rfl
theorem q1272 : (Jvm.Cond.instanceMethod ({ cls := "WarpMill$Word", name := "readsSecond", desc := "()Z" } : Jvm.MethodName)) ∈ lw_all := lw_g (lw_at lw_m5 234 rfl) rfl
theorem q1273 : (Jvm.Cond.selects "WarpMill$Word" ({ cls := "WarpMill$Word", name := "readsSecond", desc := "()Z" } : Jvm.MethodName) ({ cls := "WarpMill$Word", name := "readsSecond", desc := "()Z" } : Jvm.MethodName)) ∈ lw_all := lw_g (lw_at lw_m5 235 rfl) rfl
theorem q1274 : (Jvm.Cond.code ({ cls := "WarpMill$Word", name := "readsSecond", desc := "()Z" } : Jvm.MethodName) prog_14_method_6_code (1 : Nat) (Option.some Jvm.ClassFile.FieldType.boolean)) ∈ lw_all := lw_g (lw_at lw_m5 236 rfl) rfl
theorem q1276 : (Jvm.Cond.instanceMethod ({ cls := "WarpMill$Word", name := "writes", desc := "()Z" } : Jvm.MethodName)) ∈ lw_all := lw_g (lw_at lw_m5 238 rfl) rfl
theorem q1277 : (Jvm.Cond.selects "WarpMill$Word" ({ cls := "WarpMill$Word", name := "writes", desc := "()Z" } : Jvm.MethodName) ({ cls := "WarpMill$Word", name := "writes", desc := "()Z" } : Jvm.MethodName)) ∈ lw_all := lw_g (lw_at lw_m5 239 rfl) rfl
theorem q1278 : (Jvm.Cond.code ({ cls := "WarpMill$Word", name := "writes", desc := "()Z" } : Jvm.MethodName) prog_14_method_8_code (1 : Nat) (Option.some Jvm.ClassFile.FieldType.boolean)) ∈ lw_all := lw_g (lw_at lw_m6 0 rfl) rfl
theorem q1280 : (Jvm.Cond.instanceMethod ({ cls := "WarpMill$Word", name := "readsOwn", desc := "()Z" } : Jvm.MethodName)) ∈ lw_all := lw_g (lw_at lw_m6 2 rfl) rfl
theorem q1281 : (Jvm.Cond.selects "WarpMill$Word" ({ cls := "WarpMill$Word", name := "readsOwn", desc := "()Z" } : Jvm.MethodName) ({ cls := "WarpMill$Word", name := "readsOwn", desc := "()Z" } : Jvm.MethodName)) ∈ lw_all := lw_g (lw_at lw_m6 3 rfl) rfl
theorem q1282 : (Jvm.Cond.code ({ cls := "WarpMill$Word", name := "readsOwn", desc := "()Z" } : Jvm.MethodName) prog_14_method_7_code (1 : Nat) (Option.some Jvm.ClassFile.FieldType.boolean)) ∈ lw_all := lw_g (lw_at lw_m6 4 rfl) rfl
theorem q1284 : (Jvm.Cond.instanceMethod ({ cls := "WarpMill$Word", name := "decides", desc := "()Z" } : Jvm.MethodName)) ∈ lw_all := lw_g (lw_at lw_m6 6 rfl) rfl
theorem q1285 : (Jvm.Cond.selects "WarpMill$Word" ({ cls := "WarpMill$Word", name := "decides", desc := "()Z" } : Jvm.MethodName) ({ cls := "WarpMill$Word", name := "decides", desc := "()Z" } : Jvm.MethodName)) ∈ lw_all := lw_g (lw_at lw_m6 7 rfl) rfl
theorem q1286 : (Jvm.Cond.code ({ cls := "WarpMill$Word", name := "decides", desc := "()Z" } : Jvm.MethodName) prog_14_method_9_code (1 : Nat) (Option.some Jvm.ClassFile.FieldType.boolean)) ∈ lw_all := lw_g (lw_at lw_m6 8 rfl) rfl
theorem q1288 : (Jvm.Cond.instanceMethod ({ cls := "WarpMill$Word", name := "asked", desc := "()I" } : Jvm.MethodName)) ∈ lw_all := lw_g (lw_at lw_m6 10 rfl) rfl
theorem q1289 : (Jvm.Cond.selects "WarpMill$Word" ({ cls := "WarpMill$Word", name := "asked", desc := "()I" } : Jvm.MethodName) ({ cls := "WarpMill$Word", name := "asked", desc := "()I" } : Jvm.MethodName)) ∈ lw_all := lw_g (lw_at lw_m6 11 rfl) rfl
theorem q1290 : (Jvm.Cond.code ({ cls := "WarpMill$Word", name := "asked", desc := "()I" } : Jvm.MethodName) prog_14_method_10_code (2 : Nat) (Option.some Jvm.ClassFile.FieldType.int)) ∈ lw_all := lw_g (lw_at lw_m6 12 rfl) rfl
theorem q1291 : (Jvm.Cond.methodLink "WarpMill$Word" (68 : Nat) ({ cls := "WarpMill$Word", name := "isGuarded", desc := "()Z" } : Jvm.MethodName)) ∈ lw_all := lw_g (lw_at lw_m6 13 rfl) rfl
theorem q1292 : (Jvm.Cond.instanceMethod ({ cls := "WarpMill$Word", name := "isGuarded", desc := "()Z" } : Jvm.MethodName)) ∈ lw_all := lw_g (lw_at lw_m6 14 rfl) rfl
theorem q1293 : (Jvm.Cond.selects "WarpMill$Word" ({ cls := "WarpMill$Word", name := "isGuarded", desc := "()Z" } : Jvm.MethodName) ({ cls := "WarpMill$Word", name := "isGuarded", desc := "()Z" } : Jvm.MethodName)) ∈ lw_all := lw_g (lw_at lw_m6 15 rfl) rfl
theorem q1294 : (Jvm.Cond.code ({ cls := "WarpMill$Word", name := "isGuarded", desc := "()Z" } : Jvm.MethodName) prog_14_method_4_code (1 : Nat) (Option.some Jvm.ClassFile.FieldType.boolean)) ∈ lw_all := lw_g (lw_at lw_m6 16 rfl) rfl
theorem q1349 : (Jvm.Cond.instanceMethod ({ cls := "WarpMill$Word", name := "isAtomic", desc := "()Z" } : Jvm.MethodName)) ∈ lw_all := lw_g (lw_at lw_m6 71 rfl) rfl
theorem q1350 : (Jvm.Cond.selects "WarpMill$Word" ({ cls := "WarpMill$Word", name := "isAtomic", desc := "()Z" } : Jvm.MethodName) ({ cls := "WarpMill$Word", name := "isAtomic", desc := "()Z" } : Jvm.MethodName)) ∈ lw_all := lw_g (lw_at lw_m6 72 rfl) rfl
theorem q1351 : (Jvm.Cond.code ({ cls := "WarpMill$Word", name := "isAtomic", desc := "()Z" } : Jvm.MethodName) prog_14_method_11_code (1 : Nat) (Option.some Jvm.ClassFile.FieldType.boolean)) ∈ lw_all := lw_g (lw_at lw_m6 73 rfl) rfl
theorem q2017 : (Jvm.Cond.castable "WarpMill$Word" "WarpMill$Word") ∈ lw_tbl := lw_at lw_m9 19 rfl
theorem q2030 : (Jvm.Cond.castable "WarpMill$Word" "java/lang/Object") ∈ lw_tbl := lw_at lw_m9 32 rfl
theorem in_X5 : ∀ w ∈ wsX50, w ∈ lw_all := lw_in wsX50 [616, 618, 620, 622, 624, 626, 628] (by decide +kernel) (by decide +kernel)

/-! X6 -/
set_option maxRecDepth 100000
def RX6 : String := "WarpMill$Sort"
abbrev cX6_isMemory : ByteArray := prog_11_method_4_code
def yX6_isMemory : MethodName := ⟨RX6, "isMemory", "()Z"⟩
theorem q105 : (Jvm.Cond.initialized "WarpMill$Sort") ∈ lw_all := lw_g (lw_at lw_m1 27 rfl) rfl
theorem q581 : (Jvm.Cond.laysStatic "WarpMill$Sort" "NOTHING" "LWarpMill$Sort;") ∈ lw_tbl := lw_at lw_m3 23 rfl
theorem q583 : (Jvm.Cond.laysStatic "WarpMill$Sort" "UNKNOWN" "LWarpMill$Sort;") ∈ lw_tbl := lw_at lw_m3 25 rfl
theorem q585 : (Jvm.Cond.laysStatic "WarpMill$Sort" "SLOW" "LWarpMill$Sort;") ∈ lw_tbl := lw_at lw_m3 27 rfl
theorem q587 : (Jvm.Cond.laysStatic "WarpMill$Sort" "DIVIDE" "LWarpMill$Sort;") ∈ lw_tbl := lw_at lw_m3 29 rfl
theorem q589 : (Jvm.Cond.laysStatic "WarpMill$Sort" "PLAIN" "LWarpMill$Sort;") ∈ lw_tbl := lw_at lw_m3 31 rfl
theorem q591 : (Jvm.Cond.laysStatic "WarpMill$Sort" "SHARED_MEMORY" "LWarpMill$Sort;") ∈ lw_tbl := lw_at lw_m3 33 rfl
theorem q593 : (Jvm.Cond.laysStatic "WarpMill$Sort" "GLOBAL_MEMORY" "LWarpMill$Sort;") ∈ lw_tbl := lw_at lw_m3 35 rfl
theorem q595 : (Jvm.Cond.laysStatic "WarpMill$Sort" "VOTE" "LWarpMill$Sort;") ∈ lw_tbl := lw_at lw_m3 37 rfl
theorem q664 : (Jvm.Cond.selects "WarpMill$Sort" ({ cls := "java/lang/Object", name := "getClass", desc := "()Ljava/lang/Class;" } : Jvm.MethodName) ({ cls := "java/lang/Object", name := "getClass", desc := "()Ljava/lang/Class;" } : Jvm.MethodName)) ∈ lw_all := lw_g (lw_at lw_m3 106 rfl) rfl
theorem q1266 : (Jvm.Cond.instanceMethod ({ cls := "WarpMill$Sort", name := "isMemory", desc := "()Z" } : Jvm.MethodName)) ∈ lw_all := lw_g (lw_at lw_m5 228 rfl) rfl
theorem q1267 : (Jvm.Cond.selects "WarpMill$Sort" ({ cls := "WarpMill$Sort", name := "isMemory", desc := "()Z" } : Jvm.MethodName) ({ cls := "WarpMill$Sort", name := "isMemory", desc := "()Z" } : Jvm.MethodName)) ∈ lw_all := lw_g (lw_at lw_m5 229 rfl) rfl
theorem q1268 : (Jvm.Cond.code ({ cls := "WarpMill$Sort", name := "isMemory", desc := "()Z" } : Jvm.MethodName) prog_11_method_4_code (1 : Nat) (Option.some Jvm.ClassFile.FieldType.boolean)) ∈ lw_all := lw_g (lw_at lw_m5 230 rfl) rfl
theorem q1269 : (Jvm.Cond.fieldLink "WarpMill$Sort" (19 : Nat) "WarpMill$Sort" "SHARED_MEMORY" "LWarpMill$Sort;") ∈ lw_all := lw_g (lw_at lw_m5 231 rfl) rfl
theorem q1270 : (Jvm.Cond.fieldLink "WarpMill$Sort" (22 : Nat) "WarpMill$Sort" "GLOBAL_MEMORY" "LWarpMill$Sort;") ∈ lw_all := lw_g (lw_at lw_m5 232 rfl) rfl
theorem q2043 : (Jvm.Cond.castable "WarpMill$Sort" "java/lang/Object") ∈ lw_tbl := lw_at lw_m9 45 rfl

/-! X7 -/
set_option maxRecDepth 100000
def RX7 : String := "WarpMill$Machine"
def TX7 : u_T := fun k => match k with
  | 0 => ("WarpMill$Machine", "lanes", "I", true)
  | 1 => ("WarpMill$Machine", "slots", "I", true)
  | 2 => ("WarpMill$Machine", "banks", "I", true)
  | 3 => ("WarpMill$Machine", "ints", "I", true)
  | 4 => ("WarpMill$Machine", "kernel", "Ljava/util/ArrayList;", true)
  | 5 => ("WarpMill$Machine", "global", "[I", true)
  | 6 => ("WarpMill$Machine", "pool", "LWarpMill$Pool;", true)
  | 7 => ("WarpMill$Machine", "heap", "LWarpMill$Heap;", true)
  | 8 => ("WarpMill$Machine", "units", "Ljava/util/ArrayList;", true)
  | 9 => ("WarpMill$Machine", "cache", "LWarpMill$Cache;", true)
  | 10 => ("WarpMill$Machine", "coalescer", "LWarpMill$Coalescer;", true)
  | 11 => ("WarpMill$Machine", "before", "[I", true)
  | 12 => ("WarpMill$Machine", "state", "I", false)
  | 13 => ("WarpMill$Machine", "blocks", "I", false)
  | 14 => ("WarpMill$Machine", "threads", "I", false)
  | 15 => ("WarpMill$Machine", "next", "I", false)
  | 16 => ("WarpMill$Machine", "over", "I", false)
  | 17 => ("WarpMill$Machine", "cycle", "I", false)
  | 18 => ("WarpMill$Machine", "went", "I", false)
  | 19 => ("WarpMill$Machine", "did", "I", false)
  | 20 => ("WarpMill$Machine", "parts", "I", false)
  | 21 => ("WarpMill$Machine", "all", "I", false)
  | 22 => ("WarpMill$Machine", "why", "I", false)
  | 23 => ("WarpMill$Machine", "trapBlock", "I", false)
  | 24 => ("WarpMill$Machine", "trapThread", "I", false)
  | _ => ("WarpMill$Machine", "trapPlace", "I", false)
def tyX7 : Nat → FieldType := fun k => match k with
  | 0 => .int
  | 1 => .int
  | 2 => .int
  | 3 => .int
  | 4 => .object "java/util/ArrayList"
  | 5 => .array .int
  | 6 => .object "WarpMill$Pool"
  | 7 => .object "WarpMill$Heap"
  | 8 => .object "java/util/ArrayList"
  | 9 => .object "WarpMill$Cache"
  | 10 => .object "WarpMill$Coalescer"
  | 11 => .array .int
  | 12 => .int
  | 13 => .int
  | 14 => .int
  | 15 => .int
  | 16 => .int
  | 17 => .int
  | 18 => .int
  | 19 => .int
  | 20 => .int
  | 21 => .int
  | 22 => .int
  | 23 => .int
  | 24 => .int
  | _ => .int
abbrev wsX70 : List Cond := u_ws RX7 TX7 26
set_option maxRecDepth 100000 in
theorem nmX7 : ∀ a, a < 26 → ∀ b, b < 26 → a ≠ b → (TX7 a).2.1 ≠ (TX7 b).2.1 := by decide +kernel
set_option maxRecDepth 100000 in
theorem tyX7_ok : ∀ k, k < 26 → parseFieldDescriptor (TX7 k).2.2.1 = some (tyX7 k) := by decide +kernel
abbrev cX7_init : ByteArray := prog_9_method_1_code
def yX7_init : MethodName := ⟨RX7, "<init>", "(IIIIIILjava/util/ArrayList;[ILWarpMill$Pool;LWarpMill$Heap;LWarpMill$Coalescer;I)V"⟩
abbrev cX7_isOn : ByteArray := prog_9_method_5_code
def yX7_isOn : MethodName := ⟨RX7, "isOn", "()Z"⟩
abbrev cX7_free : ByteArray := prog_9_method_6_code
def yX7_free : MethodName := ⟨RX7, "free", "()V"⟩
abbrev cX7_begin : ByteArray := prog_9_method_2_code
def yX7_begin : MethodName := ⟨RX7, "begin", "(II)V"⟩
abbrev cX7_forget : ByteArray := prog_9_method_3_code
def yX7_forget : MethodName := ⟨RX7, "forget", "()V"⟩
abbrev cX7_stop : ByteArray := prog_9_method_4_code
def yX7_stop : MethodName := ⟨RX7, "stop", "()V"⟩
abbrev cX7_cycle : ByteArray := prog_9_method_7_code
def yX7_cycle : MethodName := ⟨RX7, "cycle", "()V"⟩
abbrev cX7_finish : ByteArray := prog_9_method_8_code
def yX7_finish : MethodName := ⟨RX7, "finish", "(LWarpMill$Ask;)V"⟩
abbrev cX7_left : ByteArray := prog_9_method_21_code
def yX7_left : MethodName := ⟨RX7, "left", "(IIII)I"⟩
abbrev cX7_dispatch : ByteArray := prog_9_method_9_code
def yX7_dispatch : MethodName := ⟨RX7, "dispatch", "()V"⟩
abbrev cX7_issue : ByteArray := prog_9_method_10_code
def yX7_issue : MethodName := ⟨RX7, "issue", "(LWarpMill$Unit;)V"⟩
abbrev cX7_trap : ByteArray := prog_9_method_11_code
def yX7_trap : MethodName := ⟨RX7, "trap", "(LWarpMill$Warp;II)V"⟩
abbrev cX7_go : ByteArray := prog_9_method_12_code
def yX7_go : MethodName := ⟨RX7, "go", "(LWarpMill$Unit;LWarpMill$Warp;ILWarpMill$Word;)V"⟩
abbrev cX7_trouble : ByteArray := prog_9_method_14_code
def yX7_trouble : MethodName := ⟨RX7, "trouble", "(LWarpMill$Lane;LWarpMill$Word;)I"⟩
abbrev cX7_address : ByteArray := prog_9_method_13_code
def yX7_address : MethodName := ⟨RX7, "address", "(LWarpMill$Lane;LWarpMill$Word;)I"⟩
abbrev cX7_takes : ByteArray := prog_9_method_15_code
def yX7_takes : MethodName := ⟨RX7, "takes", "(LWarpMill$Unit;LWarpMill$Warp;ILWarpMill$Word;)I"⟩
abbrev cX7_vote : ByteArray := prog_9_method_22_code
def yX7_vote : MethodName := ⟨RX7, "vote", "(LWarpMill$Warp;ILWarpMill$Word;)V"⟩
abbrev cX7_act : ByteArray := prog_9_method_16_code
def yX7_act : MethodName := ⟨RX7, "act", "(LWarpMill$Warp;ILWarpMill$Word;)V"⟩
abbrev cX7_ask : ByteArray := prog_9_method_20_code
def yX7_ask : MethodName := ⟨RX7, "ask", "(LWarpMill$Lane;LWarpMill$Word;)V"⟩
abbrev cX7_isSo : ByteArray := prog_9_method_17_code
def yX7_isSo : MethodName := ⟨RX7, "isSo", "(LWarpMill$Lane;LWarpMill$Word;)Z"⟩
abbrev cX7_special : ByteArray := prog_9_method_18_code
def yX7_special : MethodName := ⟨RX7, "special", "(LWarpMill$Warp;II)I"⟩
abbrev cX7_reckoned : ByteArray := prog_9_method_19_code
def yX7_reckoned : MethodName := ⟨RX7, "reckoned", "(III)I"⟩
abbrev cX7_block : ByteArray := prog_9_method_23_code
def yX7_block : MethodName := ⟨RX7, "block", "(I)LWarpMill$Block;"⟩
theorem q106 : (Jvm.Cond.initialized "WarpMill$Machine") ∈ lw_all := lw_g (lw_at lw_m1 28 rfl) rfl
theorem q498 : (Jvm.Cond.fieldLinkNest "WarpMill$Machine" (174 : Nat) "WarpMill$Heap" "asks" "Ljava/util/ArrayList;" "WarpMill") ∈ lw_tbl := lw_at lw_m2 180 rfl
theorem q543 : (Jvm.Cond.fieldLinkNest "WarpMill$Machine" (60 : Nat) "WarpMill$Coalescer" "shared" "I" "WarpMill") ∈ lw_tbl := lw_at lw_m2 225 rfl
theorem q545 : (Jvm.Cond.fieldLinkNest "WarpMill$Machine" (429 : Nat) "WarpMill$Coalescer" "times" "[I" "WarpMill") ∈ lw_tbl := lw_at lw_m2 227 rfl
theorem q547 : (Jvm.Cond.fieldLinkNest "WarpMill$Machine" (370 : Nat) "WarpMill$Coalescer" "most" "I" "WarpMill") ∈ lw_tbl := lw_at lw_m2 229 rfl
theorem q549 : (Jvm.Cond.fieldLinkNest "WarpMill$Machine" (367 : Nat) "WarpMill$Coalescer" "again" "I" "WarpMill") ∈ lw_tbl := lw_at lw_m2 231 rfl
theorem q551 : (Jvm.Cond.fieldLinkNest "WarpMill$Machine" (364 : Nat) "WarpMill$Coalescer" "done" "I" "WarpMill") ∈ lw_tbl := lw_at lw_m2 233 rfl
theorem q598 : (Jvm.Cond.fieldLinkNest "WarpMill$Machine" (313 : Nat) "WarpMill$Word" "op" "I" "WarpMill") ∈ lw_tbl := lw_at lw_m3 40 rfl
theorem q601 : (Jvm.Cond.fieldLinkNest "WarpMill$Machine" (387 : Nat) "WarpMill$Word" "d" "I" "WarpMill") ∈ lw_tbl := lw_at lw_m3 43 rfl
theorem q604 : (Jvm.Cond.fieldLinkNest "WarpMill$Machine" (325 : Nat) "WarpMill$Word" "a" "I" "WarpMill") ∈ lw_tbl := lw_at lw_m3 46 rfl
theorem q607 : (Jvm.Cond.fieldLinkNest "WarpMill$Machine" (334 : Nat) "WarpMill$Word" "b" "I" "WarpMill") ∈ lw_tbl := lw_at lw_m3 49 rfl
theorem q611 : (Jvm.Cond.fieldLinkNest "WarpMill$Machine" (328 : Nat) "WarpMill$Word" "n" "I" "WarpMill") ∈ lw_tbl := lw_at lw_m3 53 rfl
theorem q615 : (Jvm.Cond.fieldLinkNest "WarpMill$Machine" (293 : Nat) "WarpMill$Word" "sort" "LWarpMill$Sort;" "WarpMill") ∈ lw_tbl := lw_at lw_m3 57 rfl
theorem q662 : (Jvm.Cond.selects "WarpMill$Machine" ({ cls := "java/lang/Object", name := "getClass", desc := "()Ljava/lang/Class;" } : Jvm.MethodName) ({ cls := "java/lang/Object", name := "getClass", desc := "()Ljava/lang/Class;" } : Jvm.MethodName)) ∈ lw_all := lw_g (lw_at lw_m3 104 rfl) rfl
theorem q684 : (Jvm.Cond.instantiable "WarpMill$Machine" (26 : Nat)) ∈ lw_all := lw_g (lw_at lw_m3 126 rfl) rfl
theorem q686 : (Jvm.Cond.instanceMethod ({ cls := "WarpMill$Machine", name := "<init>", desc := "(IIIIIILjava/util/ArrayList;[ILWarpMill$Pool;LWarpMill$Heap;LWarpMill$Coalescer;I)V" } : Jvm.MethodName)) ∈ lw_all := lw_g (lw_at lw_m3 128 rfl) rfl
theorem q687 : (Jvm.Cond.code ({ cls := "WarpMill$Machine", name := "<init>", desc := "(IIIIIILjava/util/ArrayList;[ILWarpMill$Pool;LWarpMill$Heap;LWarpMill$Coalescer;I)V" } : Jvm.MethodName) prog_9_method_1_code (14 : Nat) (Option.none : Option Jvm.ClassFile.FieldType)) ∈ lw_all := lw_g (lw_at lw_m3 129 rfl) rfl
theorem q688 : (Jvm.Cond.methodLink "WarpMill$Machine" (3 : Nat) ({ cls := "java/lang/Object", name := "<init>", desc := "()V" } : Jvm.MethodName)) ∈ lw_all := lw_g (lw_at lw_m3 130 rfl) rfl
theorem q689 : (Jvm.Cond.classLink "WarpMill$Machine" (9 : Nat) "java/util/ArrayList") ∈ lw_all := lw_g (lw_at lw_m3 131 rfl) rfl
theorem q690 : (Jvm.Cond.methodLink "WarpMill$Machine" (11 : Nat) ({ cls := "java/util/ArrayList", name := "<init>", desc := "(I)V" } : Jvm.MethodName)) ∈ lw_all := lw_g (lw_at lw_m3 132 rfl) rfl
theorem q691 : (Jvm.Cond.methodLink "WarpMill$Machine" (55 : Nat) ({ cls := "WarpMill$Heap", name := "clear", desc := "()V" } : Jvm.MethodName)) ∈ lw_all := lw_g (lw_at lw_m3 133 rfl) rfl
theorem q719 : (Jvm.Cond.classLink "WarpMill$Machine" (65 : Nat) "WarpMill$Unit") ∈ lw_all := lw_g (lw_at lw_m3 161 rfl) rfl
theorem q721 : (Jvm.Cond.methodLink "WarpMill$Machine" (67 : Nat) ({ cls := "WarpMill$Unit", name := "<init>", desc := "(I)V" } : Jvm.MethodName)) ∈ lw_all := lw_g (lw_at lw_m3 163 rfl) rfl
theorem q728 : (Jvm.Cond.fieldLinkNest "WarpMill$Machine" (229 : Nat) "WarpMill$Unit" "slots" "[LWarpMill$Warp;" "WarpMill") ∈ lw_tbl := lw_at lw_m3 170 rfl
theorem q731 : (Jvm.Cond.fieldLinkNest "WarpMill$Machine" (226 : Nat) "WarpMill$Unit" "last" "I" "WarpMill") ∈ lw_tbl := lw_at lw_m3 173 rfl
theorem q735 : (Jvm.Cond.fieldLinkNest "WarpMill$Machine" (348 : Nat) "WarpMill$Unit" "dividerTick" "I" "WarpMill") ∈ lw_tbl := lw_at lw_m3 177 rfl
theorem q738 : (Jvm.Cond.fieldLinkNest "WarpMill$Machine" (379 : Nat) "WarpMill$Unit" "sharedTick" "I" "WarpMill") ∈ lw_tbl := lw_at lw_m3 180 rfl
theorem q741 : (Jvm.Cond.fieldLinkNest "WarpMill$Machine" (285 : Nat) "WarpMill$Unit" "went" "I" "WarpMill") ∈ lw_tbl := lw_at lw_m3 183 rfl
theorem q753 : (Jvm.Cond.methodLink "WarpMill$Machine" (68 : Nat) ({ cls := "java/util/ArrayList", name := "add", desc := "(Ljava/lang/Object;)Z" } : Jvm.MethodName)) ∈ lw_all := lw_g (lw_at lw_m3 195 rfl) rfl
theorem q754 : (Jvm.Cond.classLink "WarpMill$Machine" (72 : Nat) "WarpMill$Cache") ∈ lw_all := lw_g (lw_at lw_m3 196 rfl) rfl
theorem q756 : (Jvm.Cond.methodLink "WarpMill$Machine" (74 : Nat) ({ cls := "WarpMill$Cache", name := "<init>", desc := "(I)V" } : Jvm.MethodName)) ∈ lw_all := lw_g (lw_at lw_m3 198 rfl) rfl
theorem q772 : (Jvm.Cond.fieldLinkNest "WarpMill$Machine" (128 : Nat) "WarpMill$Gate" "tick" "I" "WarpMill") ∈ lw_tbl := lw_at lw_m3 214 rfl
theorem q781 : (Jvm.Cond.fieldLinkNest "WarpMill$Machine" (115 : Nat) "WarpMill$Cache" "gates" "Ljava/util/ArrayList;" "WarpMill") ∈ lw_tbl := lw_at lw_m3 223 rfl
theorem q783 : (Jvm.Cond.fieldLinkNest "WarpMill$Machine" (109 : Nat) "WarpMill$Cache" "hits" "I" "WarpMill") ∈ lw_tbl := lw_at lw_m3 225 rfl
theorem q786 : (Jvm.Cond.fieldLinkNest "WarpMill$Machine" (112 : Nat) "WarpMill$Cache" "misses" "I" "WarpMill") ∈ lw_tbl := lw_at lw_m3 228 rfl
theorem q796 : (Jvm.Cond.fieldLink "WarpMill$Machine" (20 : Nat) "WarpMill$Machine" "lanes" "I") ∈ lw_all := lw_g (lw_at lw_m3 238 rfl) rfl
theorem q798 : (Jvm.Cond.fieldLink "WarpMill$Machine" (24 : Nat) "WarpMill$Machine" "slots" "I") ∈ lw_all := lw_g (lw_at lw_m4 0 rfl) rfl
theorem q800 : (Jvm.Cond.fieldLink "WarpMill$Machine" (27 : Nat) "WarpMill$Machine" "banks" "I") ∈ lw_all := lw_g (lw_at lw_m4 2 rfl) rfl
theorem q802 : (Jvm.Cond.fieldLink "WarpMill$Machine" (30 : Nat) "WarpMill$Machine" "ints" "I") ∈ lw_all := lw_g (lw_at lw_m4 4 rfl) rfl
theorem q804 : (Jvm.Cond.fieldLink "WarpMill$Machine" (33 : Nat) "WarpMill$Machine" "kernel" "Ljava/util/ArrayList;") ∈ lw_all := lw_g (lw_at lw_m4 6 rfl) rfl
theorem q805 : (Jvm.Cond.fieldLink "WarpMill$Machine" (36 : Nat) "WarpMill$Machine" "global" "[I") ∈ lw_all := lw_g (lw_at lw_m4 7 rfl) rfl
theorem q806 : (Jvm.Cond.fieldLink "WarpMill$Machine" (40 : Nat) "WarpMill$Machine" "pool" "LWarpMill$Pool;") ∈ lw_all := lw_g (lw_at lw_m4 8 rfl) rfl
theorem q807 : (Jvm.Cond.fieldLink "WarpMill$Machine" (44 : Nat) "WarpMill$Machine" "heap" "LWarpMill$Heap;") ∈ lw_all := lw_g (lw_at lw_m4 9 rfl) rfl
theorem q809 : (Jvm.Cond.fieldLink "WarpMill$Machine" (14 : Nat) "WarpMill$Machine" "units" "Ljava/util/ArrayList;") ∈ lw_all := lw_g (lw_at lw_m4 11 rfl) rfl
theorem q811 : (Jvm.Cond.fieldLink "WarpMill$Machine" (75 : Nat) "WarpMill$Machine" "cache" "LWarpMill$Cache;") ∈ lw_all := lw_g (lw_at lw_m4 13 rfl) rfl
theorem q813 : (Jvm.Cond.fieldLink "WarpMill$Machine" (48 : Nat) "WarpMill$Machine" "coalescer" "LWarpMill$Coalescer;") ∈ lw_all := lw_g (lw_at lw_m4 15 rfl) rfl
theorem q814 : (Jvm.Cond.fieldLink "WarpMill$Machine" (79 : Nat) "WarpMill$Machine" "before" "[I") ∈ lw_all := lw_g (lw_at lw_m4 16 rfl) rfl
theorem q815 : (Jvm.Cond.fieldLink "WarpMill$Machine" (82 : Nat) "WarpMill$Machine" "state" "I") ∈ lw_all := lw_g (lw_at lw_m4 17 rfl) rfl
theorem q817 : (Jvm.Cond.fieldLink "WarpMill$Machine" (85 : Nat) "WarpMill$Machine" "blocks" "I") ∈ lw_all := lw_g (lw_at lw_m4 19 rfl) rfl
theorem q818 : (Jvm.Cond.fieldLink "WarpMill$Machine" (88 : Nat) "WarpMill$Machine" "threads" "I") ∈ lw_all := lw_g (lw_at lw_m4 20 rfl) rfl
theorem q819 : (Jvm.Cond.fieldLink "WarpMill$Machine" (91 : Nat) "WarpMill$Machine" "next" "I") ∈ lw_all := lw_g (lw_at lw_m4 21 rfl) rfl
theorem q820 : (Jvm.Cond.fieldLink "WarpMill$Machine" (94 : Nat) "WarpMill$Machine" "over" "I") ∈ lw_all := lw_g (lw_at lw_m4 22 rfl) rfl
theorem q822 : (Jvm.Cond.fieldLink "WarpMill$Machine" (97 : Nat) "WarpMill$Machine" "cycle" "I") ∈ lw_all := lw_g (lw_at lw_m4 24 rfl) rfl
theorem q824 : (Jvm.Cond.fieldLink "WarpMill$Machine" (100 : Nat) "WarpMill$Machine" "went" "I") ∈ lw_all := lw_g (lw_at lw_m4 26 rfl) rfl
theorem q826 : (Jvm.Cond.fieldLink "WarpMill$Machine" (103 : Nat) "WarpMill$Machine" "did" "I") ∈ lw_all := lw_g (lw_at lw_m4 28 rfl) rfl
theorem q828 : (Jvm.Cond.fieldLink "WarpMill$Machine" (106 : Nat) "WarpMill$Machine" "parts" "I") ∈ lw_all := lw_g (lw_at lw_m4 30 rfl) rfl
theorem q830 : (Jvm.Cond.fieldLink "WarpMill$Machine" (52 : Nat) "WarpMill$Machine" "all" "I") ∈ lw_all := lw_g (lw_at lw_m4 32 rfl) rfl
theorem q832 : (Jvm.Cond.fieldLink "WarpMill$Machine" (138 : Nat) "WarpMill$Machine" "why" "I") ∈ lw_all := lw_g (lw_at lw_m4 34 rfl) rfl
theorem q834 : (Jvm.Cond.fieldLink "WarpMill$Machine" (141 : Nat) "WarpMill$Machine" "trapBlock" "I") ∈ lw_all := lw_g (lw_at lw_m4 36 rfl) rfl
theorem q836 : (Jvm.Cond.fieldLink "WarpMill$Machine" (144 : Nat) "WarpMill$Machine" "trapThread" "I") ∈ lw_all := lw_g (lw_at lw_m4 38 rfl) rfl
theorem q838 : (Jvm.Cond.fieldLink "WarpMill$Machine" (147 : Nat) "WarpMill$Machine" "trapPlace" "I") ∈ lw_all := lw_g (lw_at lw_m4 40 rfl) rfl
theorem q840 : (Jvm.Cond.laysFinal "WarpMill$Machine" "WarpMill$Machine" "lanes" "I") ∈ lw_all := lw_g (lw_at lw_m4 42 rfl) rfl
theorem q841 : (Jvm.Cond.soleField "WarpMill$Machine" "lanes") ∈ lw_all := lw_g (lw_at lw_m4 43 rfl) rfl
theorem q842 : (Jvm.Cond.laysFinal "WarpMill$Machine" "WarpMill$Machine" "slots" "I") ∈ lw_all := lw_g (lw_at lw_m4 44 rfl) rfl
theorem q843 : (Jvm.Cond.soleField "WarpMill$Machine" "slots") ∈ lw_all := lw_g (lw_at lw_m4 45 rfl) rfl
theorem q844 : (Jvm.Cond.laysFinal "WarpMill$Machine" "WarpMill$Machine" "banks" "I") ∈ lw_all := lw_g (lw_at lw_m4 46 rfl) rfl
theorem q845 : (Jvm.Cond.soleField "WarpMill$Machine" "banks") ∈ lw_all := lw_g (lw_at lw_m4 47 rfl) rfl
theorem q846 : (Jvm.Cond.laysFinal "WarpMill$Machine" "WarpMill$Machine" "ints" "I") ∈ lw_all := lw_g (lw_at lw_m4 48 rfl) rfl
theorem q847 : (Jvm.Cond.soleField "WarpMill$Machine" "ints") ∈ lw_all := lw_g (lw_at lw_m4 49 rfl) rfl
theorem q848 : (Jvm.Cond.laysFinal "WarpMill$Machine" "WarpMill$Machine" "kernel" "Ljava/util/ArrayList;") ∈ lw_all := lw_g (lw_at lw_m4 50 rfl) rfl
theorem q849 : (Jvm.Cond.soleField "WarpMill$Machine" "kernel") ∈ lw_all := lw_g (lw_at lw_m4 51 rfl) rfl
theorem q850 : (Jvm.Cond.laysFinal "WarpMill$Machine" "WarpMill$Machine" "global" "[I") ∈ lw_all := lw_g (lw_at lw_m4 52 rfl) rfl
theorem q851 : (Jvm.Cond.soleField "WarpMill$Machine" "global") ∈ lw_all := lw_g (lw_at lw_m4 53 rfl) rfl
theorem q852 : (Jvm.Cond.laysFinal "WarpMill$Machine" "WarpMill$Machine" "pool" "LWarpMill$Pool;") ∈ lw_all := lw_g (lw_at lw_m4 54 rfl) rfl
theorem q853 : (Jvm.Cond.soleField "WarpMill$Machine" "pool") ∈ lw_all := lw_g (lw_at lw_m4 55 rfl) rfl
theorem q854 : (Jvm.Cond.laysFinal "WarpMill$Machine" "WarpMill$Machine" "heap" "LWarpMill$Heap;") ∈ lw_all := lw_g (lw_at lw_m4 56 rfl) rfl
theorem q855 : (Jvm.Cond.soleField "WarpMill$Machine" "heap") ∈ lw_all := lw_g (lw_at lw_m4 57 rfl) rfl
theorem q856 : (Jvm.Cond.laysFinal "WarpMill$Machine" "WarpMill$Machine" "units" "Ljava/util/ArrayList;") ∈ lw_all := lw_g (lw_at lw_m4 58 rfl) rfl
theorem q857 : (Jvm.Cond.soleField "WarpMill$Machine" "units") ∈ lw_all := lw_g (lw_at lw_m4 59 rfl) rfl
theorem q858 : (Jvm.Cond.laysFinal "WarpMill$Machine" "WarpMill$Machine" "cache" "LWarpMill$Cache;") ∈ lw_all := lw_g (lw_at lw_m4 60 rfl) rfl
theorem q859 : (Jvm.Cond.soleField "WarpMill$Machine" "cache") ∈ lw_all := lw_g (lw_at lw_m4 61 rfl) rfl
theorem q860 : (Jvm.Cond.laysFinal "WarpMill$Machine" "WarpMill$Machine" "coalescer" "LWarpMill$Coalescer;") ∈ lw_all := lw_g (lw_at lw_m4 62 rfl) rfl
theorem q861 : (Jvm.Cond.soleField "WarpMill$Machine" "coalescer") ∈ lw_all := lw_g (lw_at lw_m4 63 rfl) rfl
theorem q862 : (Jvm.Cond.laysFinal "WarpMill$Machine" "WarpMill$Machine" "before" "[I") ∈ lw_all := lw_g (lw_at lw_m4 64 rfl) rfl
theorem q863 : (Jvm.Cond.soleField "WarpMill$Machine" "before") ∈ lw_all := lw_g (lw_at lw_m4 65 rfl) rfl
theorem q864 : (Jvm.Cond.lays "WarpMill$Machine" "WarpMill$Machine" "state" "I") ∈ lw_all := lw_g (lw_at lw_m4 66 rfl) rfl
theorem q865 : (Jvm.Cond.soleField "WarpMill$Machine" "state") ∈ lw_all := lw_g (lw_at lw_m4 67 rfl) rfl
theorem q866 : (Jvm.Cond.lays "WarpMill$Machine" "WarpMill$Machine" "blocks" "I") ∈ lw_all := lw_g (lw_at lw_m4 68 rfl) rfl
theorem q867 : (Jvm.Cond.soleField "WarpMill$Machine" "blocks") ∈ lw_all := lw_g (lw_at lw_m4 69 rfl) rfl
theorem q868 : (Jvm.Cond.lays "WarpMill$Machine" "WarpMill$Machine" "threads" "I") ∈ lw_all := lw_g (lw_at lw_m4 70 rfl) rfl
theorem q869 : (Jvm.Cond.soleField "WarpMill$Machine" "threads") ∈ lw_all := lw_g (lw_at lw_m4 71 rfl) rfl
theorem q870 : (Jvm.Cond.lays "WarpMill$Machine" "WarpMill$Machine" "next" "I") ∈ lw_all := lw_g (lw_at lw_m4 72 rfl) rfl
theorem q871 : (Jvm.Cond.soleField "WarpMill$Machine" "next") ∈ lw_all := lw_g (lw_at lw_m4 73 rfl) rfl
theorem q872 : (Jvm.Cond.lays "WarpMill$Machine" "WarpMill$Machine" "over" "I") ∈ lw_all := lw_g (lw_at lw_m4 74 rfl) rfl
theorem q873 : (Jvm.Cond.soleField "WarpMill$Machine" "over") ∈ lw_all := lw_g (lw_at lw_m4 75 rfl) rfl
theorem q874 : (Jvm.Cond.lays "WarpMill$Machine" "WarpMill$Machine" "cycle" "I") ∈ lw_all := lw_g (lw_at lw_m4 76 rfl) rfl
theorem q875 : (Jvm.Cond.soleField "WarpMill$Machine" "cycle") ∈ lw_all := lw_g (lw_at lw_m4 77 rfl) rfl
theorem q876 : (Jvm.Cond.lays "WarpMill$Machine" "WarpMill$Machine" "went" "I") ∈ lw_all := lw_g (lw_at lw_m4 78 rfl) rfl
theorem q877 : (Jvm.Cond.soleField "WarpMill$Machine" "went") ∈ lw_all := lw_g (lw_at lw_m4 79 rfl) rfl
theorem q878 : (Jvm.Cond.lays "WarpMill$Machine" "WarpMill$Machine" "did" "I") ∈ lw_all := lw_g (lw_at lw_m4 80 rfl) rfl
theorem q879 : (Jvm.Cond.soleField "WarpMill$Machine" "did") ∈ lw_all := lw_g (lw_at lw_m4 81 rfl) rfl
theorem q880 : (Jvm.Cond.lays "WarpMill$Machine" "WarpMill$Machine" "parts" "I") ∈ lw_all := lw_g (lw_at lw_m4 82 rfl) rfl
theorem q881 : (Jvm.Cond.soleField "WarpMill$Machine" "parts") ∈ lw_all := lw_g (lw_at lw_m4 83 rfl) rfl
theorem q882 : (Jvm.Cond.lays "WarpMill$Machine" "WarpMill$Machine" "all" "I") ∈ lw_all := lw_g (lw_at lw_m4 84 rfl) rfl
theorem q883 : (Jvm.Cond.soleField "WarpMill$Machine" "all") ∈ lw_all := lw_g (lw_at lw_m4 85 rfl) rfl
theorem q884 : (Jvm.Cond.lays "WarpMill$Machine" "WarpMill$Machine" "why" "I") ∈ lw_all := lw_g (lw_at lw_m4 86 rfl) rfl
theorem q885 : (Jvm.Cond.soleField "WarpMill$Machine" "why") ∈ lw_all := lw_g (lw_at lw_m4 87 rfl) rfl
theorem q886 : (Jvm.Cond.lays "WarpMill$Machine" "WarpMill$Machine" "trapBlock" "I") ∈ lw_all := lw_g (lw_at lw_m4 88 rfl) rfl
theorem q887 : (Jvm.Cond.soleField "WarpMill$Machine" "trapBlock") ∈ lw_all := lw_g (lw_at lw_m4 89 rfl) rfl
theorem q888 : (Jvm.Cond.lays "WarpMill$Machine" "WarpMill$Machine" "trapThread" "I") ∈ lw_all := lw_g (lw_at lw_m4 90 rfl) rfl
theorem q889 : (Jvm.Cond.soleField "WarpMill$Machine" "trapThread") ∈ lw_all := lw_g (lw_at lw_m4 91 rfl) rfl
theorem q890 : (Jvm.Cond.lays "WarpMill$Machine" "WarpMill$Machine" "trapPlace" "I") ∈ lw_all := lw_g (lw_at lw_m4 92 rfl) rfl
theorem q891 : (Jvm.Cond.soleField "WarpMill$Machine" "trapPlace") ∈ lw_all := lw_g (lw_at lw_m4 93 rfl) rfl
theorem q892 : (Jvm.Cond.superclass "WarpMill$Machine" "java/lang/Object") ∈ lw_all := lw_g (lw_at lw_m4 94 rfl) rfl
theorem q917 : (Jvm.Cond.instanceMethod ({ cls := "WarpMill$Machine", name := "isOn", desc := "()Z" } : Jvm.MethodName)) ∈ lw_all := lw_g (lw_at lw_m4 119 rfl) rfl
theorem q918 : (Jvm.Cond.selects "WarpMill$Machine" ({ cls := "WarpMill$Machine", name := "isOn", desc := "()Z" } : Jvm.MethodName) ({ cls := "WarpMill$Machine", name := "isOn", desc := "()Z" } : Jvm.MethodName)) ∈ lw_all := lw_g (lw_at lw_m4 120 rfl) rfl
theorem q919 : (Jvm.Cond.code ({ cls := "WarpMill$Machine", name := "isOn", desc := "()Z" } : Jvm.MethodName) prog_9_method_5_code (1 : Nat) (Option.some Jvm.ClassFile.FieldType.boolean)) ∈ lw_all := lw_g (lw_at lw_m4 121 rfl) rfl
theorem q924 : (Jvm.Cond.instanceMethod ({ cls := "WarpMill$Machine", name := "free", desc := "()V" } : Jvm.MethodName)) ∈ lw_all := lw_g (lw_at lw_m4 126 rfl) rfl
theorem q925 : (Jvm.Cond.selects "WarpMill$Machine" ({ cls := "WarpMill$Machine", name := "free", desc := "()V" } : Jvm.MethodName) ({ cls := "WarpMill$Machine", name := "free", desc := "()V" } : Jvm.MethodName)) ∈ lw_all := lw_g (lw_at lw_m4 127 rfl) rfl
theorem q926 : (Jvm.Cond.code ({ cls := "WarpMill$Machine", name := "free", desc := "()V" } : Jvm.MethodName) prog_9_method_6_code (2 : Nat) (Option.none : Option Jvm.ClassFile.FieldType)) ∈ lw_all := lw_g (lw_at lw_m4 128 rfl) rfl
theorem q927 : (Jvm.Cond.methodLink "WarpMill$Machine" (118 : Nat) ({ cls := "java/util/ArrayList", name := "size", desc := "()I" } : Jvm.MethodName)) ∈ lw_all := lw_g (lw_at lw_m4 129 rfl) rfl
theorem q928 : (Jvm.Cond.methodLink "WarpMill$Machine" (122 : Nat) ({ cls := "java/util/ArrayList", name := "get", desc := "(I)Ljava/lang/Object;" } : Jvm.MethodName)) ∈ lw_all := lw_g (lw_at lw_m4 130 rfl) rfl
theorem q929 : (Jvm.Cond.methodLink "WarpMill$Machine" (153 : Nat) ({ cls := "WarpMill$Unit", name := "clear", desc := "(LWarpMill$Pool;)V" } : Jvm.MethodName)) ∈ lw_all := lw_g (lw_at lw_m4 131 rfl) rfl
theorem q963 : (Jvm.Cond.instanceMethod ({ cls := "WarpMill$Machine", name := "begin", desc := "(II)V" } : Jvm.MethodName)) ∈ lw_all := lw_g (lw_at lw_m4 165 rfl) rfl
theorem q964 : (Jvm.Cond.selects "WarpMill$Machine" ({ cls := "WarpMill$Machine", name := "begin", desc := "(II)V" } : Jvm.MethodName) ({ cls := "WarpMill$Machine", name := "begin", desc := "(II)V" } : Jvm.MethodName)) ∈ lw_all := lw_g (lw_at lw_m4 166 rfl) rfl
theorem q965 : (Jvm.Cond.code ({ cls := "WarpMill$Machine", name := "begin", desc := "(II)V" } : Jvm.MethodName) prog_9_method_2_code (4 : Nat) (Option.none : Option Jvm.ClassFile.FieldType)) ∈ lw_all := lw_g (lw_at lw_m4 167 rfl) rfl
theorem q966 : (Jvm.Cond.classLink "WarpMill$Machine" (126 : Nat) "WarpMill$Gate") ∈ lw_all := lw_g (lw_at lw_m4 168 rfl) rfl
theorem q967 : (Jvm.Cond.methodLink "WarpMill$Machine" (131 : Nat) ({ cls := "WarpMill$Machine", name := "forget", desc := "()V" } : Jvm.MethodName)) ∈ lw_all := lw_g (lw_at lw_m4 169 rfl) rfl
theorem q968 : (Jvm.Cond.privateMethod ({ cls := "WarpMill$Machine", name := "forget", desc := "()V" } : Jvm.MethodName)) ∈ lw_tbl := lw_at lw_m4 170 rfl
theorem q969 : (Jvm.Cond.instanceMethod ({ cls := "WarpMill$Machine", name := "forget", desc := "()V" } : Jvm.MethodName)) ∈ lw_all := lw_g (lw_at lw_m4 171 rfl) rfl
theorem q970 : (Jvm.Cond.code ({ cls := "WarpMill$Machine", name := "forget", desc := "()V" } : Jvm.MethodName) prog_9_method_3_code (1 : Nat) (Option.none : Option Jvm.ClassFile.FieldType)) ∈ lw_all := lw_g (lw_at lw_m4 172 rfl) rfl
theorem q971 : (Jvm.Cond.methodLink "WarpMill$Machine" (134 : Nat) ({ cls := "WarpMill$Unit", name := "begin", desc := "(LWarpMill$Pool;)V" } : Jvm.MethodName)) ∈ lw_all := lw_g (lw_at lw_m4 173 rfl) rfl
theorem q981 : (Jvm.Cond.instanceMethod ({ cls := "WarpMill$Machine", name := "stop", desc := "()V" } : Jvm.MethodName)) ∈ lw_all := lw_g (lw_at lw_m4 183 rfl) rfl
theorem q982 : (Jvm.Cond.selects "WarpMill$Machine" ({ cls := "WarpMill$Machine", name := "stop", desc := "()V" } : Jvm.MethodName) ({ cls := "WarpMill$Machine", name := "stop", desc := "()V" } : Jvm.MethodName)) ∈ lw_all := lw_g (lw_at lw_m4 184 rfl) rfl
theorem q983 : (Jvm.Cond.code ({ cls := "WarpMill$Machine", name := "stop", desc := "()V" } : Jvm.MethodName) prog_9_method_4_code (1 : Nat) (Option.none : Option Jvm.ClassFile.FieldType)) ∈ lw_all := lw_g (lw_at lw_m4 185 rfl) rfl
theorem q984 : (Jvm.Cond.methodLink "WarpMill$Machine" (150 : Nat) ({ cls := "WarpMill$Machine", name := "free", desc := "()V" } : Jvm.MethodName)) ∈ lw_all := lw_g (lw_at lw_m4 186 rfl) rfl
theorem q1060 : (Jvm.Cond.instanceMethod ({ cls := "WarpMill$Machine", name := "cycle", desc := "()V" } : Jvm.MethodName)) ∈ lw_all := lw_g (lw_at lw_m5 22 rfl) rfl
theorem q1061 : (Jvm.Cond.selects "WarpMill$Machine" ({ cls := "WarpMill$Machine", name := "cycle", desc := "()V" } : Jvm.MethodName) ({ cls := "WarpMill$Machine", name := "cycle", desc := "()V" } : Jvm.MethodName)) ∈ lw_all := lw_g (lw_at lw_m5 23 rfl) rfl
theorem q1062 : (Jvm.Cond.code ({ cls := "WarpMill$Machine", name := "cycle", desc := "()V" } : Jvm.MethodName) prog_9_method_7_code (2 : Nat) (Option.none : Option Jvm.ClassFile.FieldType)) ∈ lw_all := lw_g (lw_at lw_m5 24 rfl) rfl
theorem q1063 : (Jvm.Cond.methodLink "WarpMill$Machine" (155 : Nat) ({ cls := "WarpMill$Heap", name := "isDue", desc := "(I)Z" } : Jvm.MethodName)) ∈ lw_all := lw_g (lw_at lw_m5 25 rfl) rfl
theorem q1071 : (Jvm.Cond.methodLink "WarpMill$Machine" (159 : Nat) ({ cls := "WarpMill$Heap", name := "take", desc := "()LWarpMill$Ask;" } : Jvm.MethodName)) ∈ lw_all := lw_g (lw_at lw_m5 33 rfl) rfl
theorem q1089 : (Jvm.Cond.methodLink "WarpMill$Machine" (163 : Nat) ({ cls := "WarpMill$Machine", name := "finish", desc := "(LWarpMill$Ask;)V" } : Jvm.MethodName)) ∈ lw_all := lw_g (lw_at lw_m5 51 rfl) rfl
theorem q1090 : (Jvm.Cond.privateMethod ({ cls := "WarpMill$Machine", name := "finish", desc := "(LWarpMill$Ask;)V" } : Jvm.MethodName)) ∈ lw_tbl := lw_at lw_m5 52 rfl
theorem q1091 : (Jvm.Cond.instanceMethod ({ cls := "WarpMill$Machine", name := "finish", desc := "(LWarpMill$Ask;)V" } : Jvm.MethodName)) ∈ lw_all := lw_g (lw_at lw_m5 53 rfl) rfl
theorem q1092 : (Jvm.Cond.code ({ cls := "WarpMill$Machine", name := "finish", desc := "(LWarpMill$Ask;)V" } : Jvm.MethodName) prog_9_method_8_code (3 : Nat) (Option.none : Option Jvm.ClassFile.FieldType)) ∈ lw_all := lw_g (lw_at lw_m5 54 rfl) rfl
theorem q1093 : (Jvm.Cond.methodLink "WarpMill$Machine" (195 : Nat) ({ cls := "WarpMill$Machine", name := "left", desc := "(IIII)I" } : Jvm.MethodName)) ∈ lw_all := lw_g (lw_at lw_m5 55 rfl) rfl
theorem q1094 : (Jvm.Cond.static ({ cls := "WarpMill$Machine", name := "left", desc := "(IIII)I" } : Jvm.MethodName)) ∈ lw_all := lw_g (lw_at lw_m5 56 rfl) rfl
theorem q1095 : (Jvm.Cond.code ({ cls := "WarpMill$Machine", name := "left", desc := "(IIII)I" } : Jvm.MethodName) prog_9_method_21_code (4 : Nat) (Option.some Jvm.ClassFile.FieldType.int)) ∈ lw_all := lw_g (lw_at lw_m5 57 rfl) rfl
theorem q1096 : (Jvm.Cond.methodLink "WarpMill$Machine" (373 : Nat) ({ cls := "java/lang/Math", name := "max", desc := "(II)I" } : Jvm.MethodName)) ∈ lw_all := lw_g (lw_at lw_m5 58 rfl) rfl
theorem q1097 : (Jvm.Cond.methodLink "WarpMill$Machine" (167 : Nat) ({ cls := "WarpMill$Machine", name := "dispatch", desc := "()V" } : Jvm.MethodName)) ∈ lw_all := lw_g (lw_at lw_m5 59 rfl) rfl
theorem q1098 : (Jvm.Cond.privateMethod ({ cls := "WarpMill$Machine", name := "dispatch", desc := "()V" } : Jvm.MethodName)) ∈ lw_tbl := lw_at lw_m5 60 rfl
theorem q1099 : (Jvm.Cond.instanceMethod ({ cls := "WarpMill$Machine", name := "dispatch", desc := "()V" } : Jvm.MethodName)) ∈ lw_all := lw_g (lw_at lw_m5 61 rfl) rfl
theorem q1100 : (Jvm.Cond.code ({ cls := "WarpMill$Machine", name := "dispatch", desc := "()V" } : Jvm.MethodName) prog_9_method_9_code (4 : Nat) (Option.none : Option Jvm.ClassFile.FieldType)) ∈ lw_all := lw_g (lw_at lw_m5 62 rfl) rfl
theorem q1101 : (Jvm.Cond.methodLink "WarpMill$Machine" (215 : Nat) ({ cls := "WarpMill$Unit", name := "free", desc := "()I" } : Jvm.MethodName)) ∈ lw_all := lw_g (lw_at lw_m5 63 rfl) rfl
theorem q1105 : (Jvm.Cond.methodLink "WarpMill$Machine" (217 : Nat) ({ cls := "WarpMill$Pool", name := "block", desc := "(III)LWarpMill$Block;" } : Jvm.MethodName)) ∈ lw_all := lw_g (lw_at lw_m5 67 rfl) rfl
theorem q1119 : (Jvm.Cond.fieldLinkNest "WarpMill$Machine" (271 : Nat) "WarpMill$Block" "number" "I" "WarpMill") ∈ lw_tbl := lw_at lw_m5 81 rfl
theorem q1122 : (Jvm.Cond.fieldLinkNest "WarpMill$Machine" (382 : Nat) "WarpMill$Block" "shared" "[I" "WarpMill") ∈ lw_tbl := lw_at lw_m5 84 rfl
theorem q1154 : (Jvm.Cond.fieldLinkNest "WarpMill$Machine" (268 : Nat) "WarpMill$Warp" "block" "LWarpMill$Block;" "WarpMill") ∈ lw_tbl := lw_at lw_m5 116 rfl
theorem q1157 : (Jvm.Cond.fieldLinkNest "WarpMill$Machine" (276 : Nat) "WarpMill$Warp" "number" "I" "WarpMill") ∈ lw_tbl := lw_at lw_m5 119 rfl
theorem q1162 : (Jvm.Cond.fieldLinkNest "WarpMill$Machine" (243 : Nat) "WarpMill$Warp" "lanes" "Ljava/util/ArrayList;" "WarpMill") ∈ lw_tbl := lw_at lw_m5 124 rfl
theorem q1198 : (Jvm.Cond.fieldLinkNest "WarpMill$Machine" (209 : Nat) "WarpMill$Lane" "registers" "[I" "WarpMill") ∈ lw_tbl := lw_at lw_m5 160 rfl
theorem q1202 : (Jvm.Cond.fieldLinkNest "WarpMill$Machine" (400 : Nat) "WarpMill$Lane" "predicates" "[Z" "WarpMill") ∈ lw_tbl := lw_at lw_m5 164 rfl
theorem q1205 : (Jvm.Cond.fieldLinkNest "WarpMill$Machine" (245 : Nat) "WarpMill$Lane" "place" "I" "WarpMill") ∈ lw_tbl := lw_at lw_m5 167 rfl
theorem q1209 : (Jvm.Cond.fieldLinkNest "WarpMill$Machine" (408 : Nat) "WarpMill$Lane" "ended" "Z" "WarpMill") ∈ lw_tbl := lw_at lw_m5 171 rfl
theorem q1212 : (Jvm.Cond.fieldLinkNest "WarpMill$Machine" (412 : Nat) "WarpMill$Lane" "waits" "Z" "WarpMill") ∈ lw_tbl := lw_at lw_m5 174 rfl
theorem q1214 : (Jvm.Cond.fieldLinkNest "WarpMill$Machine" (203 : Nat) "WarpMill$Lane" "life" "I" "WarpMill") ∈ lw_tbl := lw_at lw_m5 176 rfl
theorem q1233 : (Jvm.Cond.methodLink "WarpMill$Machine" (223 : Nat) ({ cls := "WarpMill$Unit", name := "take", desc := "(LWarpMill$Block;)V" } : Jvm.MethodName)) ∈ lw_all := lw_g (lw_at lw_m5 195 rfl) rfl
theorem q1239 : (Jvm.Cond.methodLink "WarpMill$Machine" (170 : Nat) ({ cls := "WarpMill$Machine", name := "issue", desc := "(LWarpMill$Unit;)V" } : Jvm.MethodName)) ∈ lw_all := lw_g (lw_at lw_m5 201 rfl) rfl
theorem q1240 : (Jvm.Cond.privateMethod ({ cls := "WarpMill$Machine", name := "issue", desc := "(LWarpMill$Unit;)V" } : Jvm.MethodName)) ∈ lw_tbl := lw_at lw_m5 202 rfl
theorem q1241 : (Jvm.Cond.instanceMethod ({ cls := "WarpMill$Machine", name := "issue", desc := "(LWarpMill$Unit;)V" } : Jvm.MethodName)) ∈ lw_all := lw_g (lw_at lw_m5 203 rfl) rfl
theorem q1242 : (Jvm.Cond.code ({ cls := "WarpMill$Machine", name := "issue", desc := "(LWarpMill$Unit;)V" } : Jvm.MethodName) prog_9_method_10_code (9 : Nat) (Option.none : Option Jvm.ClassFile.FieldType)) ∈ lw_all := lw_g (lw_at lw_m5 204 rfl) rfl
theorem q1243 : (Jvm.Cond.methodLink "WarpMill$Machine" (232 : Nat) ({ cls := "WarpMill$Warp", name := "group", desc := "()I" } : Jvm.MethodName)) ∈ lw_all := lw_g (lw_at lw_m5 205 rfl) rfl
theorem q1247 : (Jvm.Cond.methodLink "WarpMill$Machine" (237 : Nat) ({ cls := "java/lang/Integer", name := "numberOfTrailingZeros", desc := "(I)I" } : Jvm.MethodName)) ∈ lw_all := lw_g (lw_at lw_m5 209 rfl) rfl
theorem q1251 : (Jvm.Cond.classLink "WarpMill$Machine" (204 : Nat) "WarpMill$Lane") ∈ lw_all := lw_g (lw_at lw_m5 213 rfl) rfl
theorem q1252 : (Jvm.Cond.classLink "WarpMill$Machine" (248 : Nat) "WarpMill$Word") ∈ lw_all := lw_g (lw_at lw_m5 214 rfl) rfl
theorem q1253 : (Jvm.Cond.methodLink "WarpMill$Machine" (250 : Nat) ({ cls := "WarpMill$Warp", name := "isThere", desc := "(LWarpMill$Word;I)Z" } : Jvm.MethodName)) ∈ lw_all := lw_g (lw_at lw_m5 215 rfl) rfl
theorem q1296 : (Jvm.Cond.methodLink "WarpMill$Machine" (254 : Nat) ({ cls := "WarpMill$Unit", name := "isFree", desc := "(LWarpMill$Word;I)Z" } : Jvm.MethodName)) ∈ lw_all := lw_g (lw_at lw_m6 18 rfl) rfl
theorem q1302 : (Jvm.Cond.methodLink "WarpMill$Machine" (257 : Nat) ({ cls := "WarpMill$Machine", name := "trap", desc := "(LWarpMill$Warp;II)V" } : Jvm.MethodName)) ∈ lw_all := lw_g (lw_at lw_m6 24 rfl) rfl
theorem q1303 : (Jvm.Cond.privateMethod ({ cls := "WarpMill$Machine", name := "trap", desc := "(LWarpMill$Warp;II)V" } : Jvm.MethodName)) ∈ lw_tbl := lw_at lw_m6 25 rfl
theorem q1304 : (Jvm.Cond.instanceMethod ({ cls := "WarpMill$Machine", name := "trap", desc := "(LWarpMill$Warp;II)V" } : Jvm.MethodName)) ∈ lw_all := lw_g (lw_at lw_m6 26 rfl) rfl
theorem q1305 : (Jvm.Cond.code ({ cls := "WarpMill$Machine", name := "trap", desc := "(LWarpMill$Warp;II)V" } : Jvm.MethodName) prog_9_method_11_code (4 : Nat) (Option.none : Option Jvm.ClassFile.FieldType)) ∈ lw_all := lw_g (lw_at lw_m6 27 rfl) rfl
theorem q1306 : (Jvm.Cond.methodLink "WarpMill$Machine" (261 : Nat) ({ cls := "WarpMill$Word", name := "isKnown", desc := "()Z" } : Jvm.MethodName)) ∈ lw_all := lw_g (lw_at lw_m6 28 rfl) rfl
theorem q1307 : (Jvm.Cond.methodLink "WarpMill$Machine" (264 : Nat) ({ cls := "WarpMill$Machine", name := "go", desc := "(LWarpMill$Unit;LWarpMill$Warp;ILWarpMill$Word;)V" } : Jvm.MethodName)) ∈ lw_all := lw_g (lw_at lw_m6 29 rfl) rfl
theorem q1308 : (Jvm.Cond.privateMethod ({ cls := "WarpMill$Machine", name := "go", desc := "(LWarpMill$Unit;LWarpMill$Warp;ILWarpMill$Word;)V" } : Jvm.MethodName)) ∈ lw_tbl := lw_at lw_m6 30 rfl
theorem q1309 : (Jvm.Cond.instanceMethod ({ cls := "WarpMill$Machine", name := "go", desc := "(LWarpMill$Unit;LWarpMill$Warp;ILWarpMill$Word;)V" } : Jvm.MethodName)) ∈ lw_all := lw_g (lw_at lw_m6 31 rfl) rfl
theorem q1310 : (Jvm.Cond.code ({ cls := "WarpMill$Machine", name := "go", desc := "(LWarpMill$Unit;LWarpMill$Warp;ILWarpMill$Word;)V" } : Jvm.MethodName) prog_9_method_12_code (8 : Nat) (Option.none : Option Jvm.ClassFile.FieldType)) ∈ lw_all := lw_g (lw_at lw_m6 32 rfl) rfl
theorem q1311 : (Jvm.Cond.methodLink "WarpMill$Machine" (277 : Nat) ({ cls := "WarpMill$Warp", name := "doing", desc := "(ILWarpMill$Word;)I" } : Jvm.MethodName)) ∈ lw_all := lw_g (lw_at lw_m6 33 rfl) rfl
theorem q1320 : (Jvm.Cond.methodLink "WarpMill$Machine" (281 : Nat) ({ cls := "WarpMill$Machine", name := "trouble", desc := "(LWarpMill$Lane;LWarpMill$Word;)I" } : Jvm.MethodName)) ∈ lw_all := lw_g (lw_at lw_m6 42 rfl) rfl
theorem q1321 : (Jvm.Cond.privateMethod ({ cls := "WarpMill$Machine", name := "trouble", desc := "(LWarpMill$Lane;LWarpMill$Word;)I" } : Jvm.MethodName)) ∈ lw_tbl := lw_at lw_m6 43 rfl
theorem q1322 : (Jvm.Cond.instanceMethod ({ cls := "WarpMill$Machine", name := "trouble", desc := "(LWarpMill$Lane;LWarpMill$Word;)I" } : Jvm.MethodName)) ∈ lw_all := lw_g (lw_at lw_m6 44 rfl) rfl
theorem q1323 : (Jvm.Cond.code ({ cls := "WarpMill$Machine", name := "trouble", desc := "(LWarpMill$Lane;LWarpMill$Word;)I" } : Jvm.MethodName) prog_9_method_14_code (4 : Nat) (Option.some Jvm.ClassFile.FieldType.int)) ∈ lw_all := lw_g (lw_at lw_m6 45 rfl) rfl
theorem q1324 : (Jvm.Cond.fieldLink "WarpMill$Machine" (331 : Nat) "WarpMill$Sort" "DIVIDE" "LWarpMill$Sort;") ∈ lw_all := lw_g (lw_at lw_m6 46 rfl) rfl
theorem q1325 : (Jvm.Cond.methodLink "WarpMill$Machine" (337 : Nat) ({ cls := "WarpMill$Sort", name := "isMemory", desc := "()Z" } : Jvm.MethodName)) ∈ lw_all := lw_g (lw_at lw_m6 47 rfl) rfl
theorem q1326 : (Jvm.Cond.methodLink "WarpMill$Machine" (340 : Nat) ({ cls := "WarpMill$Machine", name := "address", desc := "(LWarpMill$Lane;LWarpMill$Word;)I" } : Jvm.MethodName)) ∈ lw_all := lw_g (lw_at lw_m6 48 rfl) rfl
theorem q1327 : (Jvm.Cond.static ({ cls := "WarpMill$Machine", name := "address", desc := "(LWarpMill$Lane;LWarpMill$Word;)I" } : Jvm.MethodName)) ∈ lw_all := lw_g (lw_at lw_m6 49 rfl) rfl
theorem q1328 : (Jvm.Cond.code ({ cls := "WarpMill$Machine", name := "address", desc := "(LWarpMill$Lane;LWarpMill$Word;)I" } : Jvm.MethodName) prog_9_method_13_code (2 : Nat) (Option.some Jvm.ClassFile.FieldType.int)) ∈ lw_all := lw_g (lw_at lw_m6 50 rfl) rfl
theorem q1329 : (Jvm.Cond.fieldLink "WarpMill$Machine" (343 : Nat) "WarpMill$Sort" "SHARED_MEMORY" "LWarpMill$Sort;") ∈ lw_all := lw_g (lw_at lw_m6 51 rfl) rfl
theorem q1330 : (Jvm.Cond.methodLink "WarpMill$Machine" (286 : Nat) ({ cls := "java/lang/Integer", name := "bitCount", desc := "(I)I" } : Jvm.MethodName)) ∈ lw_all := lw_g (lw_at lw_m6 52 rfl) rfl
theorem q1336 : (Jvm.Cond.methodLink "WarpMill$Machine" (289 : Nat) ({ cls := "WarpMill$Machine", name := "takes", desc := "(LWarpMill$Unit;LWarpMill$Warp;ILWarpMill$Word;)I" } : Jvm.MethodName)) ∈ lw_all := lw_g (lw_at lw_m6 58 rfl) rfl
theorem q1337 : (Jvm.Cond.privateMethod ({ cls := "WarpMill$Machine", name := "takes", desc := "(LWarpMill$Unit;LWarpMill$Warp;ILWarpMill$Word;)I" } : Jvm.MethodName)) ∈ lw_tbl := lw_at lw_m6 59 rfl
theorem q1338 : (Jvm.Cond.instanceMethod ({ cls := "WarpMill$Machine", name := "takes", desc := "(LWarpMill$Unit;LWarpMill$Warp;ILWarpMill$Word;)I" } : Jvm.MethodName)) ∈ lw_all := lw_g (lw_at lw_m6 60 rfl) rfl
theorem q1339 : (Jvm.Cond.code ({ cls := "WarpMill$Machine", name := "takes", desc := "(LWarpMill$Unit;LWarpMill$Warp;ILWarpMill$Word;)I" } : Jvm.MethodName) prog_9_method_15_code (8 : Nat) (Option.some Jvm.ClassFile.FieldType.int)) ∈ lw_all := lw_g (lw_at lw_m6 61 rfl) rfl
theorem q1340 : (Jvm.Cond.methodLink "WarpMill$Machine" (351 : Nat) ({ cls := "WarpMill$Coalescer", name := "begin", desc := "(I)V" } : Jvm.MethodName)) ∈ lw_all := lw_g (lw_at lw_m6 62 rfl) rfl
theorem q1348 : (Jvm.Cond.methodLink "WarpMill$Machine" (353 : Nat) ({ cls := "WarpMill$Word", name := "isAtomic", desc := "()Z" } : Jvm.MethodName)) ∈ lw_all := lw_g (lw_at lw_m6 70 rfl) rfl
theorem q1352 : (Jvm.Cond.methodLink "WarpMill$Machine" (356 : Nat) ({ cls := "WarpMill$Coalescer", name := "askShared", desc := "(IZ)V" } : Jvm.MethodName)) ∈ lw_all := lw_g (lw_at lw_m6 74 rfl) rfl
theorem q1388 : (Jvm.Cond.methodLink "WarpMill$Machine" (360 : Nat) ({ cls := "WarpMill$Coalescer", name := "askGlobal", desc := "(ILWarpMill$Cache;I)V" } : Jvm.MethodName)) ∈ lw_all := lw_g (lw_at lw_m6 110 rfl) rfl
theorem q1399 : (Jvm.Cond.fieldLink "WarpMill$Machine" (297 : Nat) "WarpMill$Sort" "VOTE" "LWarpMill$Sort;") ∈ lw_all := lw_g (lw_at lw_m6 121 rfl) rfl
theorem q1400 : (Jvm.Cond.methodLink "WarpMill$Machine" (302 : Nat) ({ cls := "WarpMill$Machine", name := "vote", desc := "(LWarpMill$Warp;ILWarpMill$Word;)V" } : Jvm.MethodName)) ∈ lw_all := lw_g (lw_at lw_m6 122 rfl) rfl
theorem q1401 : (Jvm.Cond.privateMethod ({ cls := "WarpMill$Machine", name := "vote", desc := "(LWarpMill$Warp;ILWarpMill$Word;)V" } : Jvm.MethodName)) ∈ lw_tbl := lw_at lw_m6 123 rfl
theorem q1402 : (Jvm.Cond.instanceMethod ({ cls := "WarpMill$Machine", name := "vote", desc := "(LWarpMill$Warp;ILWarpMill$Word;)V" } : Jvm.MethodName)) ∈ lw_all := lw_g (lw_at lw_m6 124 rfl) rfl
theorem q1403 : (Jvm.Cond.code ({ cls := "WarpMill$Machine", name := "vote", desc := "(LWarpMill$Warp;ILWarpMill$Word;)V" } : Jvm.MethodName) prog_9_method_22_code (10 : Nat) (Option.none : Option Jvm.ClassFile.FieldType)) ∈ lw_all := lw_g (lw_at lw_m6 125 rfl) rfl
theorem q1404 : (Jvm.Cond.methodLink "WarpMill$Machine" (306 : Nat) ({ cls := "WarpMill$Machine", name := "act", desc := "(LWarpMill$Warp;ILWarpMill$Word;)V" } : Jvm.MethodName)) ∈ lw_all := lw_g (lw_at lw_m6 126 rfl) rfl
theorem q1405 : (Jvm.Cond.privateMethod ({ cls := "WarpMill$Machine", name := "act", desc := "(LWarpMill$Warp;ILWarpMill$Word;)V" } : Jvm.MethodName)) ∈ lw_tbl := lw_at lw_m6 127 rfl
theorem q1406 : (Jvm.Cond.instanceMethod ({ cls := "WarpMill$Machine", name := "act", desc := "(LWarpMill$Warp;ILWarpMill$Word;)V" } : Jvm.MethodName)) ∈ lw_all := lw_g (lw_at lw_m6 128 rfl) rfl
theorem q1407 : (Jvm.Cond.code ({ cls := "WarpMill$Machine", name := "act", desc := "(LWarpMill$Warp;ILWarpMill$Word;)V" } : Jvm.MethodName) prog_9_method_16_code (8 : Nat) (Option.none : Option Jvm.ClassFile.FieldType)) ∈ lw_all := lw_g (lw_at lw_m6 129 rfl) rfl
theorem q1408 : (Jvm.Cond.methodLink "WarpMill$Machine" (384 : Nat) ({ cls := "WarpMill$Word", name := "writes", desc := "()Z" } : Jvm.MethodName)) ∈ lw_all := lw_g (lw_at lw_m6 130 rfl) rfl
theorem q1409 : (Jvm.Cond.fieldLink "WarpMill$Machine" (390 : Nat) "WarpMill$Sort" "GLOBAL_MEMORY" "LWarpMill$Sort;") ∈ lw_all := lw_g (lw_at lw_m6 131 rfl) rfl
theorem q1410 : (Jvm.Cond.methodLink "WarpMill$Machine" (393 : Nat) ({ cls := "WarpMill$Machine", name := "ask", desc := "(LWarpMill$Lane;LWarpMill$Word;)V" } : Jvm.MethodName)) ∈ lw_all := lw_g (lw_at lw_m6 132 rfl) rfl
theorem q1411 : (Jvm.Cond.privateMethod ({ cls := "WarpMill$Machine", name := "ask", desc := "(LWarpMill$Lane;LWarpMill$Word;)V" } : Jvm.MethodName)) ∈ lw_tbl := lw_at lw_m6 133 rfl
theorem q1412 : (Jvm.Cond.instanceMethod ({ cls := "WarpMill$Machine", name := "ask", desc := "(LWarpMill$Lane;LWarpMill$Word;)V" } : Jvm.MethodName)) ∈ lw_all := lw_g (lw_at lw_m6 134 rfl) rfl
theorem q1413 : (Jvm.Cond.code ({ cls := "WarpMill$Machine", name := "ask", desc := "(LWarpMill$Lane;LWarpMill$Word;)V" } : Jvm.MethodName) prog_9_method_20_code (4 : Nat) (Option.none : Option Jvm.ClassFile.FieldType)) ∈ lw_all := lw_g (lw_at lw_m6 135 rfl) rfl
theorem q1414 : (Jvm.Cond.methodLink "WarpMill$Machine" (426 : Nat) ({ cls := "WarpMill$Heap", name := "fresh", desc := "()LWarpMill$Ask;" } : Jvm.MethodName)) ∈ lw_all := lw_g (lw_at lw_m6 136 rfl) rfl
theorem q1425 : (Jvm.Cond.fieldLinkNest "WarpMill$Machine" (432 : Nat) "WarpMill$Ask" "time" "I" "WarpMill") ∈ lw_tbl := lw_at lw_m6 147 rfl
theorem q1428 : (Jvm.Cond.fieldLinkNest "WarpMill$Machine" (186 : Nat) "WarpMill$Ask" "op" "I" "WarpMill") ∈ lw_tbl := lw_at lw_m6 150 rfl
theorem q1429 : (Jvm.Cond.fieldLinkNest "WarpMill$Machine" (181 : Nat) "WarpMill$Ask" "at" "I" "WarpMill") ∈ lw_tbl := lw_at lw_m6 151 rfl
theorem q1430 : (Jvm.Cond.fieldLinkNest "WarpMill$Machine" (189 : Nat) "WarpMill$Ask" "value" "I" "WarpMill") ∈ lw_tbl := lw_at lw_m6 152 rfl
theorem q1431 : (Jvm.Cond.fieldLinkNest "WarpMill$Machine" (192 : Nat) "WarpMill$Ask" "compared" "I" "WarpMill") ∈ lw_tbl := lw_at lw_m6 153 rfl
theorem q1432 : (Jvm.Cond.fieldLinkNest "WarpMill$Machine" (212 : Nat) "WarpMill$Ask" "to" "I" "WarpMill") ∈ lw_tbl := lw_at lw_m6 154 rfl
theorem q1433 : (Jvm.Cond.fieldLinkNest "WarpMill$Machine" (208 : Nat) "WarpMill$Ask" "life" "I" "WarpMill") ∈ lw_tbl := lw_at lw_m6 155 rfl
theorem q1434 : (Jvm.Cond.fieldLinkNest "WarpMill$Machine" (199 : Nat) "WarpMill$Ask" "lane" "LWarpMill$Lane;" "WarpMill") ∈ lw_tbl := lw_at lw_m6 156 rfl
theorem q1454 : (Jvm.Cond.methodLink "WarpMill$Machine" (435 : Nat) ({ cls := "WarpMill$Heap", name := "add", desc := "(LWarpMill$Ask;)V" } : Jvm.MethodName)) ∈ lw_all := lw_g (lw_at lw_m6 176 rfl) rfl
theorem q1458 : (Jvm.Cond.methodLink "WarpMill$Machine" (397 : Nat) ({ cls := "WarpMill$Word", name := "decides", desc := "()Z" } : Jvm.MethodName)) ∈ lw_all := lw_g (lw_at lw_m6 180 rfl) rfl
theorem q1459 : (Jvm.Cond.methodLink "WarpMill$Machine" (404 : Nat) ({ cls := "WarpMill$Machine", name := "isSo", desc := "(LWarpMill$Lane;LWarpMill$Word;)Z" } : Jvm.MethodName)) ∈ lw_all := lw_g (lw_at lw_m6 181 rfl) rfl
theorem q1460 : (Jvm.Cond.static ({ cls := "WarpMill$Machine", name := "isSo", desc := "(LWarpMill$Lane;LWarpMill$Word;)Z" } : Jvm.MethodName)) ∈ lw_all := lw_g (lw_at lw_m6 182 rfl) rfl
theorem q1461 : (Jvm.Cond.code ({ cls := "WarpMill$Machine", name := "isSo", desc := "(LWarpMill$Lane;LWarpMill$Word;)Z" } : Jvm.MethodName) prog_9_method_17_code (4 : Nat) (Option.some Jvm.ClassFile.FieldType.boolean)) ∈ lw_all := lw_g (lw_at lw_m6 183 rfl) rfl
theorem q1462 : (Jvm.Cond.methodLink "WarpMill$Machine" (415 : Nat) ({ cls := "WarpMill$Machine", name := "special", desc := "(LWarpMill$Warp;II)I" } : Jvm.MethodName)) ∈ lw_all := lw_g (lw_at lw_m6 184 rfl) rfl
theorem q1463 : (Jvm.Cond.privateMethod ({ cls := "WarpMill$Machine", name := "special", desc := "(LWarpMill$Warp;II)I" } : Jvm.MethodName)) ∈ lw_tbl := lw_at lw_m6 185 rfl
theorem q1464 : (Jvm.Cond.instanceMethod ({ cls := "WarpMill$Machine", name := "special", desc := "(LWarpMill$Warp;II)I" } : Jvm.MethodName)) ∈ lw_all := lw_g (lw_at lw_m6 186 rfl) rfl
theorem q1465 : (Jvm.Cond.code ({ cls := "WarpMill$Machine", name := "special", desc := "(LWarpMill$Warp;II)I" } : Jvm.MethodName) prog_9_method_18_code (4 : Nat) (Option.some Jvm.ClassFile.FieldType.int)) ∈ lw_all := lw_g (lw_at lw_m6 187 rfl) rfl
theorem q1466 : (Jvm.Cond.methodLink "WarpMill$Machine" (419 : Nat) ({ cls := "WarpMill$Machine", name := "reckoned", desc := "(III)I" } : Jvm.MethodName)) ∈ lw_all := lw_g (lw_at lw_m6 188 rfl) rfl
theorem q1467 : (Jvm.Cond.static ({ cls := "WarpMill$Machine", name := "reckoned", desc := "(III)I" } : Jvm.MethodName)) ∈ lw_all := lw_g (lw_at lw_m6 189 rfl) rfl
theorem q1468 : (Jvm.Cond.code ({ cls := "WarpMill$Machine", name := "reckoned", desc := "(III)I" } : Jvm.MethodName) prog_9_method_19_code (3 : Nat) (Option.some Jvm.ClassFile.FieldType.int)) ∈ lw_all := lw_g (lw_at lw_m6 190 rfl) rfl
theorem q1469 : (Jvm.Cond.methodLink "WarpMill$Machine" (423 : Nat) ({ cls := "java/lang/Math", name := "min", desc := "(II)I" } : Jvm.MethodName)) ∈ lw_all := lw_g (lw_at lw_m6 191 rfl) rfl
theorem q1470 : (Jvm.Cond.methodLink "WarpMill$Machine" (309 : Nat) ({ cls := "WarpMill$Warp", name := "wrote", desc := "(LWarpMill$Word;I)V" } : Jvm.MethodName)) ∈ lw_all := lw_g (lw_at lw_m6 192 rfl) rfl
theorem q1474 : (Jvm.Cond.methodLink "WarpMill$Machine" (314 : Nat) ({ cls := "WarpMill$Block", name := "look", desc := "()V" } : Jvm.MethodName)) ∈ lw_all := lw_g (lw_at lw_m6 196 rfl) rfl
theorem q1487 : (Jvm.Cond.methodLink "WarpMill$Machine" (317 : Nat) ({ cls := "WarpMill$Block", name := "isOver", desc := "()Z" } : Jvm.MethodName)) ∈ lw_all := lw_g (lw_at lw_m6 209 rfl) rfl
theorem q1491 : (Jvm.Cond.methodLink "WarpMill$Machine" (320 : Nat) ({ cls := "WarpMill$Unit", name := "leave", desc := "(LWarpMill$Block;)V" } : Jvm.MethodName)) ∈ lw_all := lw_g (lw_at lw_m6 213 rfl) rfl
theorem q1492 : (Jvm.Cond.methodLink "WarpMill$Machine" (323 : Nat) ({ cls := "WarpMill$Pool", name := "free", desc := "(LWarpMill$Block;)V" } : Jvm.MethodName)) ∈ lw_all := lw_g (lw_at lw_m6 214 rfl) rfl
theorem q1493 : (Jvm.Cond.methodLink "WarpMill$Machine" (177 : Nat) ({ cls := "java/util/ArrayList", name := "isEmpty", desc := "()Z" } : Jvm.MethodName)) ∈ lw_all := lw_g (lw_at lw_m6 215 rfl) rfl
theorem q1533 : (Jvm.Cond.instanceMethod ({ cls := "WarpMill$Machine", name := "block", desc := "(I)LWarpMill$Block;" } : Jvm.MethodName)) ∈ lw_all := lw_g (lw_at lw_m7 15 rfl) rfl
theorem q1534 : (Jvm.Cond.selects "WarpMill$Machine" ({ cls := "WarpMill$Machine", name := "block", desc := "(I)LWarpMill$Block;" } : Jvm.MethodName) ({ cls := "WarpMill$Machine", name := "block", desc := "(I)LWarpMill$Block;" } : Jvm.MethodName)) ∈ lw_all := lw_g (lw_at lw_m7 16 rfl) rfl
theorem q1535 : (Jvm.Cond.code ({ cls := "WarpMill$Machine", name := "block", desc := "(I)LWarpMill$Block;" } : Jvm.MethodName) prog_9_method_23_code (4 : Nat) (Option.some (Jvm.ClassFile.FieldType.object "WarpMill$Block"))) ∈ lw_all := lw_g (lw_at lw_m7 17 rfl) rfl
theorem q2031 : (Jvm.Cond.castable "WarpMill$Machine" "java/lang/Object") ∈ lw_tbl := lw_at lw_m9 33 rfl
theorem q2050 : (Jvm.Cond.fieldLinkNest "WarpMill$Machine" (346 : Nat) "WarpMill$Sort" "takes" "I" "WarpMill") ∈ lw_tbl := lw_at lw_m9 52 rfl
theorem in_X7 : ∀ w ∈ wsX70, w ∈ lw_all := lw_in wsX70 [840, 842, 844, 846, 848, 850, 852, 854, 856, 858, 860, 862, 864, 866, 868, 870, 872, 874, 876, 878, 880, 882, 884, 886, 888, 890] (by decide +kernel) (by decide +kernel)

/-! J18 -/
set_option maxRecDepth 100000
def RJ18 : String := "java/util/Objects"
abbrev cJ18_checkIndex : ByteArray := prog_48_method_17_code
def yJ18_checkIndex : MethodName := ⟨RJ18, "checkIndex", "(II)I"⟩
theorem q107 : (Jvm.Cond.initialized "java/util/Objects") ∈ lw_all := lw_g (lw_at lw_m1 29 rfl) rfl
theorem q704 : (Jvm.Cond.static ({ cls := "java/util/Objects", name := "checkIndex", desc := "(II)I" } : Jvm.MethodName)) ∈ lw_all := lw_g (lw_at lw_m3 146 rfl) rfl
theorem q705 : (Jvm.Cond.code ({ cls := "java/util/Objects", name := "checkIndex", desc := "(II)I" } : Jvm.MethodName) prog_48_method_17_code (2 : Nat) (Option.some Jvm.ClassFile.FieldType.int)) ∈ lw_all := lw_g (lw_at lw_m3 147 rfl) rfl
theorem q706 : (Jvm.Cond.methodLink "java/util/Objects" (105 : Nat) ({ cls := "jdk/internal/util/Preconditions", name := "checkIndex", desc := "(IILjava/util/function/BiFunction;)I" } : Jvm.MethodName)) ∈ lw_all := lw_g (lw_at lw_m3 148 rfl) rfl

/-! X8 -/
set_option maxRecDepth 100000
def RX8 : String := "WarpMill$Unit"
def TX8 : u_T := fun k => match k with
  | 0 => ("WarpMill$Unit", "slots", "[LWarpMill$Warp;", true)
  | 1 => ("WarpMill$Unit", "last", "I", false)
  | 2 => ("WarpMill$Unit", "dividerTick", "I", false)
  | 3 => ("WarpMill$Unit", "sharedTick", "I", false)
  | _ => ("WarpMill$Unit", "went", "I", false)
def tyX8 : Nat → FieldType := fun k => match k with
  | 0 => .array (.object "WarpMill$Warp")
  | 1 => .int
  | 2 => .int
  | 3 => .int
  | _ => .int
abbrev wsX80 : List Cond := u_ws RX8 TX8 5
theorem nmX8 : ∀ a, a < 5 → ∀ b, b < 5 → a ≠ b → (TX8 a).2.1 ≠ (TX8 b).2.1 := by decide +kernel
theorem tyX8_ok : ∀ k, k < 5 → parseFieldDescriptor (TX8 k).2.2.1 = some (tyX8 k) := by decide +kernel
abbrev cX8_init : ByteArray := prog_12_method_1_code
def yX8_init : MethodName := ⟨RX8, "<init>", "(I)V"⟩
abbrev cX8_clear : ByteArray := prog_12_method_5_code
def yX8_clear : MethodName := ⟨RX8, "clear", "(LWarpMill$Pool;)V"⟩
abbrev cX8_leave : ByteArray := prog_12_method_4_code
def yX8_leave : MethodName := ⟨RX8, "leave", "(LWarpMill$Block;)V"⟩
abbrev cX8_begin : ByteArray := prog_12_method_6_code
def yX8_begin : MethodName := ⟨RX8, "begin", "(LWarpMill$Pool;)V"⟩
abbrev cX8_free : ByteArray := prog_12_method_2_code
def yX8_free : MethodName := ⟨RX8, "free", "()I"⟩
abbrev cX8_take : ByteArray := prog_12_method_3_code
def yX8_take : MethodName := ⟨RX8, "take", "(LWarpMill$Block;)V"⟩
abbrev cX8_isFree : ByteArray := prog_12_method_7_code
def yX8_isFree : MethodName := ⟨RX8, "isFree", "(LWarpMill$Word;I)Z"⟩
theorem q108 : (Jvm.Cond.initialized "WarpMill$Unit") ∈ lw_all := lw_g (lw_at lw_m1 30 rfl) rfl
theorem q613 : (Jvm.Cond.fieldLinkNest "WarpMill$Unit" (61 : Nat) "WarpMill$Word" "sort" "LWarpMill$Sort;" "WarpMill") ∈ lw_tbl := lw_at lw_m3 55 rfl
theorem q665 : (Jvm.Cond.selects "WarpMill$Unit" ({ cls := "java/lang/Object", name := "getClass", desc := "()Ljava/lang/Class;" } : Jvm.MethodName) ({ cls := "java/lang/Object", name := "getClass", desc := "()Ljava/lang/Class;" } : Jvm.MethodName)) ∈ lw_all := lw_g (lw_at lw_m3 107 rfl) rfl
theorem q720 : (Jvm.Cond.instantiable "WarpMill$Unit" (5 : Nat)) ∈ lw_all := lw_g (lw_at lw_m3 162 rfl) rfl
theorem q722 : (Jvm.Cond.instanceMethod ({ cls := "WarpMill$Unit", name := "<init>", desc := "(I)V" } : Jvm.MethodName)) ∈ lw_all := lw_g (lw_at lw_m3 164 rfl) rfl
theorem q723 : (Jvm.Cond.code ({ cls := "WarpMill$Unit", name := "<init>", desc := "(I)V" } : Jvm.MethodName) prog_12_method_1_code (2 : Nat) (Option.none : Option Jvm.ClassFile.FieldType)) ∈ lw_all := lw_g (lw_at lw_m3 165 rfl) rfl
theorem q724 : (Jvm.Cond.methodLink "WarpMill$Unit" (1 : Nat) ({ cls := "java/lang/Object", name := "<init>", desc := "()V" } : Jvm.MethodName)) ∈ lw_all := lw_g (lw_at lw_m3 166 rfl) rfl
theorem q725 : (Jvm.Cond.classLink "WarpMill$Unit" (7 : Nat) "WarpMill$Warp") ∈ lw_all := lw_g (lw_at lw_m3 167 rfl) rfl
theorem q727 : (Jvm.Cond.fieldLink "WarpMill$Unit" (9 : Nat) "WarpMill$Unit" "slots" "[LWarpMill$Warp;") ∈ lw_all := lw_g (lw_at lw_m3 169 rfl) rfl
theorem q730 : (Jvm.Cond.fieldLink "WarpMill$Unit" (15 : Nat) "WarpMill$Unit" "last" "I") ∈ lw_all := lw_g (lw_at lw_m3 172 rfl) rfl
theorem q733 : (Jvm.Cond.fieldLink "WarpMill$Unit" (52 : Nat) "WarpMill$Unit" "dividerTick" "I") ∈ lw_all := lw_g (lw_at lw_m3 175 rfl) rfl
theorem q736 : (Jvm.Cond.fieldLink "WarpMill$Unit" (55 : Nat) "WarpMill$Unit" "sharedTick" "I") ∈ lw_all := lw_g (lw_at lw_m3 178 rfl) rfl
theorem q739 : (Jvm.Cond.fieldLink "WarpMill$Unit" (58 : Nat) "WarpMill$Unit" "went" "I") ∈ lw_all := lw_g (lw_at lw_m3 181 rfl) rfl
theorem q742 : (Jvm.Cond.laysFinal "WarpMill$Unit" "WarpMill$Unit" "slots" "[LWarpMill$Warp;") ∈ lw_all := lw_g (lw_at lw_m3 184 rfl) rfl
theorem q743 : (Jvm.Cond.soleField "WarpMill$Unit" "slots") ∈ lw_all := lw_g (lw_at lw_m3 185 rfl) rfl
theorem q744 : (Jvm.Cond.lays "WarpMill$Unit" "WarpMill$Unit" "last" "I") ∈ lw_all := lw_g (lw_at lw_m3 186 rfl) rfl
theorem q745 : (Jvm.Cond.soleField "WarpMill$Unit" "last") ∈ lw_all := lw_g (lw_at lw_m3 187 rfl) rfl
theorem q746 : (Jvm.Cond.lays "WarpMill$Unit" "WarpMill$Unit" "dividerTick" "I") ∈ lw_all := lw_g (lw_at lw_m3 188 rfl) rfl
theorem q747 : (Jvm.Cond.soleField "WarpMill$Unit" "dividerTick") ∈ lw_all := lw_g (lw_at lw_m3 189 rfl) rfl
theorem q748 : (Jvm.Cond.lays "WarpMill$Unit" "WarpMill$Unit" "sharedTick" "I") ∈ lw_all := lw_g (lw_at lw_m3 190 rfl) rfl
theorem q749 : (Jvm.Cond.soleField "WarpMill$Unit" "sharedTick") ∈ lw_all := lw_g (lw_at lw_m3 191 rfl) rfl
theorem q750 : (Jvm.Cond.lays "WarpMill$Unit" "WarpMill$Unit" "went" "I") ∈ lw_all := lw_g (lw_at lw_m3 192 rfl) rfl
theorem q751 : (Jvm.Cond.soleField "WarpMill$Unit" "went") ∈ lw_all := lw_g (lw_at lw_m3 193 rfl) rfl
theorem q752 : (Jvm.Cond.superclass "WarpMill$Unit" "java/lang/Object") ∈ lw_all := lw_g (lw_at lw_m3 194 rfl) rfl
theorem q930 : (Jvm.Cond.instanceMethod ({ cls := "WarpMill$Unit", name := "clear", desc := "(LWarpMill$Pool;)V" } : Jvm.MethodName)) ∈ lw_all := lw_g (lw_at lw_m4 132 rfl) rfl
theorem q931 : (Jvm.Cond.selects "WarpMill$Unit" ({ cls := "WarpMill$Unit", name := "clear", desc := "(LWarpMill$Pool;)V" } : Jvm.MethodName) ({ cls := "WarpMill$Unit", name := "clear", desc := "(LWarpMill$Pool;)V" } : Jvm.MethodName)) ∈ lw_all := lw_g (lw_at lw_m4 133 rfl) rfl
theorem q932 : (Jvm.Cond.code ({ cls := "WarpMill$Unit", name := "clear", desc := "(LWarpMill$Pool;)V" } : Jvm.MethodName) prog_12_method_5_code (4 : Nat) (Option.none : Option Jvm.ClassFile.FieldType)) ∈ lw_all := lw_g (lw_at lw_m4 134 rfl) rfl
theorem q933 : (Jvm.Cond.methodLink "WarpMill$Unit" (39 : Nat) ({ cls := "WarpMill$Unit", name := "leave", desc := "(LWarpMill$Block;)V" } : Jvm.MethodName)) ∈ lw_all := lw_g (lw_at lw_m4 135 rfl) rfl
theorem q934 : (Jvm.Cond.instanceMethod ({ cls := "WarpMill$Unit", name := "leave", desc := "(LWarpMill$Block;)V" } : Jvm.MethodName)) ∈ lw_all := lw_g (lw_at lw_m4 136 rfl) rfl
theorem q935 : (Jvm.Cond.selects "WarpMill$Unit" ({ cls := "WarpMill$Unit", name := "leave", desc := "(LWarpMill$Block;)V" } : Jvm.MethodName) ({ cls := "WarpMill$Unit", name := "leave", desc := "(LWarpMill$Block;)V" } : Jvm.MethodName)) ∈ lw_all := lw_g (lw_at lw_m4 137 rfl) rfl
theorem q936 : (Jvm.Cond.code ({ cls := "WarpMill$Unit", name := "leave", desc := "(LWarpMill$Block;)V" } : Jvm.MethodName) prog_12_method_4_code (3 : Nat) (Option.none : Option Jvm.ClassFile.FieldType)) ∈ lw_all := lw_g (lw_at lw_m4 138 rfl) rfl
theorem q937 : (Jvm.Cond.methodLink "WarpMill$Unit" (43 : Nat) ({ cls := "WarpMill$Pool", name := "free", desc := "(LWarpMill$Block;)V" } : Jvm.MethodName)) ∈ lw_all := lw_g (lw_at lw_m4 139 rfl) rfl
theorem q972 : (Jvm.Cond.instanceMethod ({ cls := "WarpMill$Unit", name := "begin", desc := "(LWarpMill$Pool;)V" } : Jvm.MethodName)) ∈ lw_all := lw_g (lw_at lw_m4 174 rfl) rfl
theorem q973 : (Jvm.Cond.selects "WarpMill$Unit" ({ cls := "WarpMill$Unit", name := "begin", desc := "(LWarpMill$Pool;)V" } : Jvm.MethodName) ({ cls := "WarpMill$Unit", name := "begin", desc := "(LWarpMill$Pool;)V" } : Jvm.MethodName)) ∈ lw_all := lw_g (lw_at lw_m4 175 rfl) rfl
theorem q974 : (Jvm.Cond.code ({ cls := "WarpMill$Unit", name := "begin", desc := "(LWarpMill$Pool;)V" } : Jvm.MethodName) prog_12_method_6_code (2 : Nat) (Option.none : Option Jvm.ClassFile.FieldType)) ∈ lw_all := lw_g (lw_at lw_m4 176 rfl) rfl
theorem q975 : (Jvm.Cond.methodLink "WarpMill$Unit" (48 : Nat) ({ cls := "WarpMill$Unit", name := "clear", desc := "(LWarpMill$Pool;)V" } : Jvm.MethodName)) ∈ lw_all := lw_g (lw_at lw_m4 177 rfl) rfl
theorem q1102 : (Jvm.Cond.instanceMethod ({ cls := "WarpMill$Unit", name := "free", desc := "()I" } : Jvm.MethodName)) ∈ lw_all := lw_g (lw_at lw_m5 64 rfl) rfl
theorem q1103 : (Jvm.Cond.selects "WarpMill$Unit" ({ cls := "WarpMill$Unit", name := "free", desc := "()I" } : Jvm.MethodName) ({ cls := "WarpMill$Unit", name := "free", desc := "()I" } : Jvm.MethodName)) ∈ lw_all := lw_g (lw_at lw_m5 65 rfl) rfl
theorem q1104 : (Jvm.Cond.code ({ cls := "WarpMill$Unit", name := "free", desc := "()I" } : Jvm.MethodName) prog_12_method_2_code (3 : Nat) (Option.some Jvm.ClassFile.FieldType.int)) ∈ lw_all := lw_g (lw_at lw_m5 66 rfl) rfl
theorem q1125 : (Jvm.Cond.fieldLinkNest "WarpMill$Unit" (19 : Nat) "WarpMill$Block" "warps" "Ljava/util/ArrayList;" "WarpMill") ∈ lw_tbl := lw_at lw_m5 87 rfl
theorem q1153 : (Jvm.Cond.fieldLinkNest "WarpMill$Unit" (35 : Nat) "WarpMill$Warp" "block" "LWarpMill$Block;" "WarpMill") ∈ lw_tbl := lw_at lw_m5 115 rfl
theorem q1234 : (Jvm.Cond.instanceMethod ({ cls := "WarpMill$Unit", name := "take", desc := "(LWarpMill$Block;)V" } : Jvm.MethodName)) ∈ lw_all := lw_g (lw_at lw_m5 196 rfl) rfl
theorem q1235 : (Jvm.Cond.selects "WarpMill$Unit" ({ cls := "WarpMill$Unit", name := "take", desc := "(LWarpMill$Block;)V" } : Jvm.MethodName) ({ cls := "WarpMill$Unit", name := "take", desc := "(LWarpMill$Block;)V" } : Jvm.MethodName)) ∈ lw_all := lw_g (lw_at lw_m5 197 rfl) rfl
theorem q1236 : (Jvm.Cond.code ({ cls := "WarpMill$Unit", name := "take", desc := "(LWarpMill$Block;)V" } : Jvm.MethodName) prog_12_method_3_code (4 : Nat) (Option.none : Option Jvm.ClassFile.FieldType)) ∈ lw_all := lw_g (lw_at lw_m5 198 rfl) rfl
theorem q1237 : (Jvm.Cond.methodLink "WarpMill$Unit" (25 : Nat) ({ cls := "java/util/ArrayList", name := "size", desc := "()I" } : Jvm.MethodName)) ∈ lw_all := lw_g (lw_at lw_m5 199 rfl) rfl
theorem q1238 : (Jvm.Cond.methodLink "WarpMill$Unit" (31 : Nat) ({ cls := "java/util/ArrayList", name := "get", desc := "(I)Ljava/lang/Object;" } : Jvm.MethodName)) ∈ lw_all := lw_g (lw_at lw_m5 200 rfl) rfl
theorem q1297 : (Jvm.Cond.instanceMethod ({ cls := "WarpMill$Unit", name := "isFree", desc := "(LWarpMill$Word;I)Z" } : Jvm.MethodName)) ∈ lw_all := lw_g (lw_at lw_m6 19 rfl) rfl
theorem q1298 : (Jvm.Cond.selects "WarpMill$Unit" ({ cls := "WarpMill$Unit", name := "isFree", desc := "(LWarpMill$Word;I)Z" } : Jvm.MethodName) ({ cls := "WarpMill$Unit", name := "isFree", desc := "(LWarpMill$Word;I)Z" } : Jvm.MethodName)) ∈ lw_all := lw_g (lw_at lw_m6 20 rfl) rfl
theorem q1299 : (Jvm.Cond.code ({ cls := "WarpMill$Unit", name := "isFree", desc := "(LWarpMill$Word;I)Z" } : Jvm.MethodName) prog_12_method_7_code (3 : Nat) (Option.some Jvm.ClassFile.FieldType.boolean)) ∈ lw_all := lw_g (lw_at lw_m6 21 rfl) rfl
theorem q1300 : (Jvm.Cond.fieldLink "WarpMill$Unit" (67 : Nat) "WarpMill$Sort" "DIVIDE" "LWarpMill$Sort;") ∈ lw_all := lw_g (lw_at lw_m6 22 rfl) rfl
theorem q1301 : (Jvm.Cond.fieldLink "WarpMill$Unit" (72 : Nat) "WarpMill$Sort" "SHARED_MEMORY" "LWarpMill$Sort;") ∈ lw_all := lw_g (lw_at lw_m6 23 rfl) rfl
theorem q2012 : (Jvm.Cond.castable "WarpMill$Unit" "WarpMill$Unit") ∈ lw_tbl := lw_at lw_m9 14 rfl
theorem q2032 : (Jvm.Cond.castable "WarpMill$Unit" "java/lang/Object") ∈ lw_tbl := lw_at lw_m9 34 rfl
theorem in_X8 : ∀ w ∈ wsX80, w ∈ lw_all := lw_in wsX80 [742, 744, 746, 748, 750] (by decide +kernel) (by decide +kernel)

/-! X9 -/
set_option maxRecDepth 100000
def RX9 : String := "WarpMill$Cache"
def TX9 : u_T := fun k => match k with
  | 0 => ("WarpMill$Cache", "gates", "Ljava/util/ArrayList;", true)
  | 1 => ("WarpMill$Cache", "hits", "I", false)
  | _ => ("WarpMill$Cache", "misses", "I", false)
def tyX9 : Nat → FieldType := fun k => match k with
  | 0 => .object "java/util/ArrayList"
  | 1 => .int
  | _ => .int
abbrev wsX90 : List Cond := u_ws RX9 TX9 3
theorem nmX9 : ∀ a, a < 3 → ∀ b, b < 3 → a ≠ b → (TX9 a).2.1 ≠ (TX9 b).2.1 := by decide +kernel
theorem tyX9_ok : ∀ k, k < 3 → parseFieldDescriptor (TX9 k).2.2.1 = some (tyX9 k) := by decide +kernel
abbrev cX9_init : ByteArray := prog_4_method_1_code
def yX9_init : MethodName := ⟨RX9, "<init>", "(I)V"⟩
abbrev cX9_ask : ByteArray := prog_4_method_2_code
def yX9_ask : MethodName := ⟨RX9, "ask", "(II)I"⟩
theorem q109 : (Jvm.Cond.initialized "WarpMill$Cache") ∈ lw_all := lw_g (lw_at lw_m1 31 rfl) rfl
theorem q657 : (Jvm.Cond.selects "WarpMill$Cache" ({ cls := "java/lang/Object", name := "getClass", desc := "()Ljava/lang/Class;" } : Jvm.MethodName) ({ cls := "java/lang/Object", name := "getClass", desc := "()Ljava/lang/Class;" } : Jvm.MethodName)) ∈ lw_all := lw_g (lw_at lw_m3 99 rfl) rfl
theorem q755 : (Jvm.Cond.instantiable "WarpMill$Cache" (3 : Nat)) ∈ lw_all := lw_g (lw_at lw_m3 197 rfl) rfl
theorem q757 : (Jvm.Cond.instanceMethod ({ cls := "WarpMill$Cache", name := "<init>", desc := "(I)V" } : Jvm.MethodName)) ∈ lw_all := lw_g (lw_at lw_m3 199 rfl) rfl
theorem q758 : (Jvm.Cond.code ({ cls := "WarpMill$Cache", name := "<init>", desc := "(I)V" } : Jvm.MethodName) prog_4_method_1_code (3 : Nat) (Option.none : Option Jvm.ClassFile.FieldType)) ∈ lw_all := lw_g (lw_at lw_m3 200 rfl) rfl
theorem q759 : (Jvm.Cond.methodLink "WarpMill$Cache" (3 : Nat) ({ cls := "java/lang/Object", name := "<init>", desc := "()V" } : Jvm.MethodName)) ∈ lw_all := lw_g (lw_at lw_m3 201 rfl) rfl
theorem q760 : (Jvm.Cond.classLink "WarpMill$Cache" (9 : Nat) "java/util/ArrayList") ∈ lw_all := lw_g (lw_at lw_m3 202 rfl) rfl
theorem q761 : (Jvm.Cond.methodLink "WarpMill$Cache" (11 : Nat) ({ cls := "java/util/ArrayList", name := "<init>", desc := "(I)V" } : Jvm.MethodName)) ∈ lw_all := lw_g (lw_at lw_m3 203 rfl) rfl
theorem q762 : (Jvm.Cond.classLink "WarpMill$Cache" (20 : Nat) "WarpMill$Gate") ∈ lw_all := lw_g (lw_at lw_m3 204 rfl) rfl
theorem q764 : (Jvm.Cond.methodLink "WarpMill$Cache" (22 : Nat) ({ cls := "WarpMill$Gate", name := "<init>", desc := "()V" } : Jvm.MethodName)) ∈ lw_all := lw_g (lw_at lw_m3 206 rfl) rfl
theorem q769 : (Jvm.Cond.fieldLinkNest "WarpMill$Cache" (45 : Nat) "WarpMill$Gate" "lines" "[I" "WarpMill") ∈ lw_tbl := lw_at lw_m3 211 rfl
theorem q771 : (Jvm.Cond.fieldLinkNest "WarpMill$Cache" (35 : Nat) "WarpMill$Gate" "tick" "I" "WarpMill") ∈ lw_tbl := lw_at lw_m3 213 rfl
theorem q779 : (Jvm.Cond.methodLink "WarpMill$Cache" (23 : Nat) ({ cls := "java/util/ArrayList", name := "add", desc := "(Ljava/lang/Object;)Z" } : Jvm.MethodName)) ∈ lw_all := lw_g (lw_at lw_m3 221 rfl) rfl
theorem q780 : (Jvm.Cond.fieldLink "WarpMill$Cache" (14 : Nat) "WarpMill$Cache" "gates" "Ljava/util/ArrayList;") ∈ lw_all := lw_g (lw_at lw_m3 222 rfl) rfl
theorem q784 : (Jvm.Cond.fieldLink "WarpMill$Cache" (49 : Nat) "WarpMill$Cache" "hits" "I") ∈ lw_all := lw_g (lw_at lw_m3 226 rfl) rfl
theorem q787 : (Jvm.Cond.fieldLink "WarpMill$Cache" (52 : Nat) "WarpMill$Cache" "misses" "I") ∈ lw_all := lw_g (lw_at lw_m3 229 rfl) rfl
theorem q789 : (Jvm.Cond.laysFinal "WarpMill$Cache" "WarpMill$Cache" "gates" "Ljava/util/ArrayList;") ∈ lw_all := lw_g (lw_at lw_m3 231 rfl) rfl
theorem q790 : (Jvm.Cond.soleField "WarpMill$Cache" "gates") ∈ lw_all := lw_g (lw_at lw_m3 232 rfl) rfl
theorem q791 : (Jvm.Cond.lays "WarpMill$Cache" "WarpMill$Cache" "hits" "I") ∈ lw_all := lw_g (lw_at lw_m3 233 rfl) rfl
theorem q792 : (Jvm.Cond.soleField "WarpMill$Cache" "hits") ∈ lw_all := lw_g (lw_at lw_m3 234 rfl) rfl
theorem q793 : (Jvm.Cond.lays "WarpMill$Cache" "WarpMill$Cache" "misses" "I") ∈ lw_all := lw_g (lw_at lw_m3 235 rfl) rfl
theorem q794 : (Jvm.Cond.soleField "WarpMill$Cache" "misses") ∈ lw_all := lw_g (lw_at lw_m3 236 rfl) rfl
theorem q795 : (Jvm.Cond.superclass "WarpMill$Cache" "java/lang/Object") ∈ lw_all := lw_g (lw_at lw_m3 237 rfl) rfl
theorem q1393 : (Jvm.Cond.instanceMethod ({ cls := "WarpMill$Cache", name := "ask", desc := "(II)I" } : Jvm.MethodName)) ∈ lw_all := lw_g (lw_at lw_m6 115 rfl) rfl
theorem q1394 : (Jvm.Cond.selects "WarpMill$Cache" ({ cls := "WarpMill$Cache", name := "ask", desc := "(II)I" } : Jvm.MethodName) ({ cls := "WarpMill$Cache", name := "ask", desc := "(II)I" } : Jvm.MethodName)) ∈ lw_all := lw_g (lw_at lw_m6 116 rfl) rfl
theorem q1395 : (Jvm.Cond.code ({ cls := "WarpMill$Cache", name := "ask", desc := "(II)I" } : Jvm.MethodName) prog_4_method_2_code (7 : Nat) (Option.some Jvm.ClassFile.FieldType.int)) ∈ lw_all := lw_g (lw_at lw_m6 117 rfl) rfl
theorem q1396 : (Jvm.Cond.methodLink "WarpMill$Cache" (27 : Nat) ({ cls := "java/util/ArrayList", name := "size", desc := "()I" } : Jvm.MethodName)) ∈ lw_all := lw_g (lw_at lw_m6 118 rfl) rfl
theorem q1397 : (Jvm.Cond.methodLink "WarpMill$Cache" (31 : Nat) ({ cls := "java/util/ArrayList", name := "get", desc := "(I)Ljava/lang/Object;" } : Jvm.MethodName)) ∈ lw_all := lw_g (lw_at lw_m6 119 rfl) rfl
theorem q1398 : (Jvm.Cond.methodLink "WarpMill$Cache" (39 : Nat) ({ cls := "java/lang/Math", name := "max", desc := "(II)I" } : Jvm.MethodName)) ∈ lw_all := lw_g (lw_at lw_m6 120 rfl) rfl
theorem q2033 : (Jvm.Cond.castable "WarpMill$Cache" "java/lang/Object") ∈ lw_tbl := lw_at lw_m9 35 rfl
theorem in_X9 : ∀ w ∈ wsX90, w ∈ lw_all := lw_in wsX90 [789, 791, 793] (by decide +kernel) (by decide +kernel)

/-! X10 -/
set_option maxRecDepth 100000
def RX10 : String := "WarpMill$Gate"
def TX10 : u_T := fun k => match k with
  | 0 => ("WarpMill$Gate", "lines", "[I", true)
  | _ => ("WarpMill$Gate", "tick", "I", false)
def tyX10 : Nat → FieldType := fun k => match k with
  | 0 => .array .int
  | _ => .int
abbrev wsX100 : List Cond := u_ws RX10 TX10 2
theorem nmX10 : ∀ a, a < 2 → ∀ b, b < 2 → a ≠ b → (TX10 a).2.1 ≠ (TX10 b).2.1 := by decide +kernel
theorem tyX10_ok : ∀ k, k < 2 → parseFieldDescriptor (TX10 k).2.2.1 = some (tyX10 k) := by decide +kernel
abbrev cX10_init : ByteArray := prog_6_method_1_code
def yX10_init : MethodName := ⟨RX10, "<init>", "()V"⟩
theorem q110 : (Jvm.Cond.initialized "WarpMill$Gate") ∈ lw_all := lw_g (lw_at lw_m1 32 rfl) rfl
theorem q659 : (Jvm.Cond.selects "WarpMill$Gate" ({ cls := "java/lang/Object", name := "getClass", desc := "()Ljava/lang/Class;" } : Jvm.MethodName) ({ cls := "java/lang/Object", name := "getClass", desc := "()Ljava/lang/Class;" } : Jvm.MethodName)) ∈ lw_all := lw_g (lw_at lw_m3 101 rfl) rfl
theorem q763 : (Jvm.Cond.instantiable "WarpMill$Gate" (2 : Nat)) ∈ lw_all := lw_g (lw_at lw_m3 205 rfl) rfl
theorem q765 : (Jvm.Cond.instanceMethod ({ cls := "WarpMill$Gate", name := "<init>", desc := "()V" } : Jvm.MethodName)) ∈ lw_all := lw_g (lw_at lw_m3 207 rfl) rfl
theorem q766 : (Jvm.Cond.code ({ cls := "WarpMill$Gate", name := "<init>", desc := "()V" } : Jvm.MethodName) prog_6_method_1_code (2 : Nat) (Option.none : Option Jvm.ClassFile.FieldType)) ∈ lw_all := lw_g (lw_at lw_m3 208 rfl) rfl
theorem q767 : (Jvm.Cond.methodLink "WarpMill$Gate" (3 : Nat) ({ cls := "java/lang/Object", name := "<init>", desc := "()V" } : Jvm.MethodName)) ∈ lw_all := lw_g (lw_at lw_m3 209 rfl) rfl
theorem q768 : (Jvm.Cond.fieldLink "WarpMill$Gate" (9 : Nat) "WarpMill$Gate" "lines" "[I") ∈ lw_all := lw_g (lw_at lw_m3 210 rfl) rfl
theorem q774 : (Jvm.Cond.laysFinal "WarpMill$Gate" "WarpMill$Gate" "lines" "[I") ∈ lw_all := lw_g (lw_at lw_m3 216 rfl) rfl
theorem q775 : (Jvm.Cond.soleField "WarpMill$Gate" "lines") ∈ lw_all := lw_g (lw_at lw_m3 217 rfl) rfl
theorem q776 : (Jvm.Cond.lays "WarpMill$Gate" "WarpMill$Gate" "tick" "I") ∈ lw_all := lw_g (lw_at lw_m3 218 rfl) rfl
theorem q777 : (Jvm.Cond.soleField "WarpMill$Gate" "tick") ∈ lw_all := lw_g (lw_at lw_m3 219 rfl) rfl
theorem q778 : (Jvm.Cond.superclass "WarpMill$Gate" "java/lang/Object") ∈ lw_all := lw_g (lw_at lw_m3 220 rfl) rfl
theorem q2015 : (Jvm.Cond.castable "WarpMill$Gate" "WarpMill$Gate") ∈ lw_tbl := lw_at lw_m9 17 rfl
theorem q2034 : (Jvm.Cond.castable "WarpMill$Gate" "java/lang/Object") ∈ lw_tbl := lw_at lw_m9 36 rfl
theorem in_X10 : ∀ w ∈ wsX100, w ∈ lw_all := lw_in wsX100 [774, 776] (by decide +kernel) (by decide +kernel)

/-! X11 -/
set_option maxRecDepth 100000
def RX11 : String := "WarpMillModel"
def TX11 : u_T := fun k => match k with
  | 0 => ("WarpMillModel", "thrown", "I", false)
  | 1 => ("WarpMillModel", "lanes", "I", false)
  | 2 => ("WarpMillModel", "slots", "I", false)
  | 3 => ("WarpMillModel", "units", "I", false)
  | 4 => ("WarpMillModel", "banks", "I", false)
  | 5 => ("WarpMillModel", "gates", "I", false)
  | 6 => ("WarpMillModel", "ints", "I", false)
  | 7 => ("WarpMillModel", "kernel", "[J", true)
  | 8 => ("WarpMillModel", "memory", "[I", true)
  | 9 => ("WarpMillModel", "cache", "[I", true)
  | 10 => ("WarpMillModel", "gateTick", "[I", true)
  | 11 => ("WarpMillModel", "status", "I", false)
  | 12 => ("WarpMillModel", "blocks", "I", false)
  | 13 => ("WarpMillModel", "threads", "I", false)
  | 14 => ("WarpMillModel", "next", "I", false)
  | 15 => ("WarpMillModel", "cycle", "I", false)
  | 16 => ("WarpMillModel", "went", "I", false)
  | 17 => ("WarpMillModel", "did", "I", false)
  | 18 => ("WarpMillModel", "partly", "I", false)
  | 19 => ("WarpMillModel", "hits", "I", false)
  | 20 => ("WarpMillModel", "others", "I", false)
  | 21 => ("WarpMillModel", "ended", "I", false)
  | 22 => ("WarpMillModel", "inAll", "I", false)
  | 23 => ("WarpMillModel", "why", "I", false)
  | 24 => ("WarpMillModel", "whyBlock", "I", false)
  | 25 => ("WarpMillModel", "whyThread", "I", false)
  | 26 => ("WarpMillModel", "whyPlace", "I", false)
  | 27 => ("WarpMillModel", "divider", "[I", true)
  | 28 => ("WarpMillModel", "sharedTick", "[I", true)
  | 29 => ("WarpMillModel", "latest", "[I", true)
  | 30 => ("WarpMillModel", "unitWords", "[I", true)
  | 31 => ("WarpMillModel", "slotBlock", "[I", true)
  | 32 => ("WarpMillModel", "slotWarp", "[I", true)
  | 33 => ("WarpMillModel", "memoryTick", "[I", true)
  | 34 => ("WarpMillModel", "ticks", "[I", true)
  | 35 => ("WarpMillModel", "register", "[I", true)
  | 36 => ("WarpMillModel", "predicate", "[I", true)
  | 37 => ("WarpMillModel", "place", "[I", true)
  | 38 => ("WarpMillModel", "isEnded", "[Z", true)
  | 39 => ("WarpMillModel", "waits", "[Z", true)
  | 40 => ("WarpMillModel", "shared", "[I", true)
  | 41 => ("WarpMillModel", "pending", "I", false)
  | 42 => ("WarpMillModel", "soonest", "I", false)
  | 43 => ("WarpMillModel", "when", "[I", true)
  | 44 => ("WarpMillModel", "who", "[I", true)
  | 45 => ("WarpMillModel", "what", "[I", true)
  | 46 => ("WarpMillModel", "where", "[I", true)
  | 47 => ("WarpMillModel", "with", "[I", true)
  | 48 => ("WarpMillModel", "old", "[I", true)
  | 49 => ("WarpMillModel", "doneAt", "[I", true)
  | 50 => ("WarpMillModel", "inGroup", "[Z", true)
  | 51 => ("WarpMillModel", "does", "[Z", true)
  | 52 => ("WarpMillModel", "op", "I", false)
  | 53 => ("WarpMillModel", "d", "I", false)
  | 54 => ("WarpMillModel", "a", "I", false)
  | 55 => ("WarpMillModel", "b", "I", false)
  | 56 => ("WarpMillModel", "g", "I", false)
  | 57 => ("WarpMillModel", "n", "I", false)
  | 58 => ("WarpMillModel", "votes", "I", false)
  | _ => ("WarpMillModel", "had", "[I", true)
def tyX11 : Nat → FieldType := fun k => match k with
  | 0 => .int
  | 1 => .int
  | 2 => .int
  | 3 => .int
  | 4 => .int
  | 5 => .int
  | 6 => .int
  | 7 => .array .long
  | 8 => .array .int
  | 9 => .array .int
  | 10 => .array .int
  | 11 => .int
  | 12 => .int
  | 13 => .int
  | 14 => .int
  | 15 => .int
  | 16 => .int
  | 17 => .int
  | 18 => .int
  | 19 => .int
  | 20 => .int
  | 21 => .int
  | 22 => .int
  | 23 => .int
  | 24 => .int
  | 25 => .int
  | 26 => .int
  | 27 => .array .int
  | 28 => .array .int
  | 29 => .array .int
  | 30 => .array .int
  | 31 => .array .int
  | 32 => .array .int
  | 33 => .array .int
  | 34 => .array .int
  | 35 => .array .int
  | 36 => .array .int
  | 37 => .array .int
  | 38 => .array .boolean
  | 39 => .array .boolean
  | 40 => .array .int
  | 41 => .int
  | 42 => .int
  | 43 => .array .int
  | 44 => .array .int
  | 45 => .array .int
  | 46 => .array .int
  | 47 => .array .int
  | 48 => .array .int
  | 49 => .array .int
  | 50 => .array .boolean
  | 51 => .array .boolean
  | 52 => .int
  | 53 => .int
  | 54 => .int
  | 55 => .int
  | 56 => .int
  | 57 => .int
  | 58 => .int
  | _ => .array .int
abbrev wsX110 : List Cond := u_ws RX11 TX11 60
set_option maxRecDepth 100000 in
theorem nmX11 : ∀ a, a < 60 → ∀ b, b < 60 → a ≠ b → (TX11 a).2.1 ≠ (TX11 b).2.1 := by decide +kernel
set_option maxRecDepth 100000 in
theorem tyX11_ok : ∀ k, k < 60 → parseFieldDescriptor (TX11 k).2.2.1 = some (tyX11 k) := by decide +kernel
abbrev cX11_init : ByteArray := prog_16_method_1_code
def yX11_init : MethodName := ⟨RX11, "<init>", "()V"⟩
abbrev cX11_clearHouse : ByteArray := prog_16_method_5_code
def yX11_clearHouse : MethodName := ⟨RX11, "clearHouse", "()V"⟩
abbrev cX11_clearUnits : ByteArray := prog_16_method_4_code
def yX11_clearUnits : MethodName := ⟨RX11, "clearUnits", "()V"⟩
abbrev cX11_freeAll : ByteArray := prog_16_method_6_code
def yX11_freeAll : MethodName := ⟨RX11, "freeAll", "()V"⟩
abbrev cX11_thrown : ByteArray := prog_16_method_2_code
def yX11_thrown : MethodName := ⟨RX11, "thrown", "()I"⟩
abbrev cX11_sizes : ByteArray := prog_16_method_9_code
def yX11_sizes : MethodName := ⟨RX11, "sizes", "(IIIIII)Z"⟩
abbrev cX11_isPower : ByteArray := prog_16_method_8_code
def yX11_isPower : MethodName := ⟨RX11, "isPower", "(II)Z"⟩
abbrev cX11_isUnder : ByteArray := prog_16_method_7_code
def yX11_isUnder : MethodName := ⟨RX11, "isUnder", "()Z"⟩
abbrev cX11_clearCounts : ByteArray := prog_16_method_13_code
def yX11_clearCounts : MethodName := ⟨RX11, "clearCounts", "()V"⟩
abbrev cX11_word : ByteArray := prog_16_method_10_code
def yX11_word : MethodName := ⟨RX11, "word", "(IJ)Z"⟩
abbrev cX11_set : ByteArray := prog_16_method_11_code
def yX11_set : MethodName := ⟨RX11, "set", "(II)Z"⟩
abbrev cX11_launch : ByteArray := prog_16_method_12_code
def yX11_launch : MethodName := ⟨RX11, "launch", "(II)Z"⟩
abbrev cX11_run : ByteArray := prog_16_method_61_code
def yX11_run : MethodName := ⟨RX11, "run", "(I)I"⟩
abbrev cX11_raise : ByteArray := prog_16_method_3_code
def yX11_raise : MethodName := ⟨RX11, "raise", "(I)I"⟩
abbrev cX11_oneCycle : ByteArray := prog_16_method_60_code
def yX11_oneCycle : MethodName := ⟨RX11, "oneCycle", "()V"⟩
abbrev cX11_doPending : ByteArray := prog_16_method_57_code
def yX11_doPending : MethodName := ⟨RX11, "doPending", "()V"⟩
abbrev cX11_doOne : ByteArray := prog_16_method_58_code
def yX11_doOne : MethodName := ⟨RX11, "doOne", "(I)V"⟩
abbrev cX11_left : ByteArray := prog_16_method_54_code
def yX11_left : MethodName := ⟨RX11, "left", "(IIII)I"⟩
abbrev cX11_thread : ByteArray := prog_16_method_19_code
def yX11_thread : MethodName := ⟨RX11, "thread", "(II)I"⟩
abbrev cX11_dispatch : ByteArray := prog_16_method_16_code
def yX11_dispatch : MethodName := ⟨RX11, "dispatch", "()V"⟩
abbrev cX11_freeSlots : ByteArray := prog_16_method_15_code
def yX11_freeSlots : MethodName := ⟨RX11, "freeSlots", "(I)I"⟩
abbrev cX11_warps : ByteArray := prog_16_method_14_code
def yX11_warps : MethodName := ⟨RX11, "warps", "()I"⟩
abbrev cX11_begin : ByteArray := prog_16_method_17_code
def yX11_begin : MethodName := ⟨RX11, "begin", "(II)V"⟩
abbrev cX11_beginWarp : ByteArray := prog_16_method_18_code
def yX11_beginWarp : MethodName := ⟨RX11, "beginWarp", "(I)V"⟩
abbrev cX11_unitGoes : ByteArray := prog_16_method_35_code
def yX11_unitGoes : MethodName := ⟨RX11, "unitGoes", "(I)V"⟩
abbrev cX11_isReady : ByteArray := prog_16_method_34_code
def yX11_isReady : MethodName := ⟨RX11, "isReady", "(II)Z"⟩
abbrev cX11_group : ByteArray := prog_16_method_22_code
def yX11_group : MethodName := ⟨RX11, "group", "(I)Z"⟩
abbrev cX11_isAwake : ByteArray := prog_16_method_21_code
def yX11_isAwake : MethodName := ⟨RX11, "isAwake", "(II)Z"⟩
abbrev cX11_isLane : ByteArray := prog_16_method_20_code
def yX11_isLane : MethodName := ⟨RX11, "isLane", "(II)Z"⟩
abbrev cX11_firstOfGroup : ByteArray := prog_16_method_23_code
def yX11_firstOfGroup : MethodName := ⟨RX11, "firstOfGroup", "()I"⟩
abbrev cX11_take : ByteArray := prog_16_method_24_code
def yX11_take : MethodName := ⟨RX11, "take", "(J)V"⟩
abbrev cX11_isWord : ByteArray := prog_16_method_25_code
def yX11_isWord : MethodName := ⟨RX11, "isWord", "()Z"⟩
abbrev cX11_isPredicateThere : ByteArray := prog_16_method_33_code
def yX11_isPredicateThere : MethodName := ⟨RX11, "isPredicateThere", "(II)Z"⟩
abbrev cX11_isThere : ByteArray := prog_16_method_32_code
def yX11_isThere : MethodName := ⟨RX11, "isThere", "(II)Z"⟩
abbrev cX11_readsA : ByteArray := prog_16_method_28_code
def yX11_readsA : MethodName := ⟨RX11, "readsA", "()Z"⟩
abbrev cX11_isMemory : ByteArray := prog_16_method_26_code
def yX11_isMemory : MethodName := ⟨RX11, "isMemory", "()Z"⟩
abbrev cX11_readsB : ByteArray := prog_16_method_29_code
def yX11_readsB : MethodName := ⟨RX11, "readsB", "()Z"⟩
abbrev cX11_writesD : ByteArray := prog_16_method_30_code
def yX11_writesD : MethodName := ⟨RX11, "writesD", "()Z"⟩
abbrev cX11_writesPredicate : ByteArray := prog_16_method_31_code
def yX11_writesPredicate : MethodName := ⟨RX11, "writesPredicate", "()Z"⟩
abbrev cX11_isShared : ByteArray := prog_16_method_27_code
def yX11_isShared : MethodName := ⟨RX11, "isShared", "()Z"⟩
abbrev cX11_go : ByteArray := prog_16_method_40_code
def yX11_go : MethodName := ⟨RX11, "go", "(II)V"⟩
abbrev cX11_trap : ByteArray := prog_16_method_39_code
def yX11_trap : MethodName := ⟨RX11, "trap", "(III)V"⟩
abbrev cX11_has : ByteArray := prog_16_method_37_code
def yX11_has : MethodName := ⟨RX11, "has", "(II)Z"⟩
abbrev cX11_whyNot : ByteArray := prog_16_method_38_code
def yX11_whyNot : MethodName := ⟨RX11, "whyNot", "(I)I"⟩
abbrev cX11_reg : ByteArray := prog_16_method_36_code
def yX11_reg : MethodName := ⟨RX11, "reg", "(II)I"⟩
abbrev cX11_time : ByteArray := prog_16_method_41_code
def yX11_time : MethodName := ⟨RX11, "time", "(II)I"⟩
abbrev cX11_timeOfShared : ByteArray := prog_16_method_44_code
def yX11_timeOfShared : MethodName := ⟨RX11, "timeOfShared", "(II)I"⟩
abbrev cX11_asked : ByteArray := prog_16_method_42_code
def yX11_asked : MethodName := ⟨RX11, "asked", "(II)I"⟩
abbrev cX11_isAgain : ByteArray := prog_16_method_43_code
def yX11_isAgain : MethodName := ⟨RX11, "isAgain", "(II)Z"⟩
abbrev cX11_timeOfGlobal : ByteArray := prog_16_method_46_code
def yX11_timeOfGlobal : MethodName := ⟨RX11, "timeOfGlobal", "(I)I"⟩
abbrev cX11_isLineAgain : ByteArray := prog_16_method_45_code
def yX11_isLineAgain : MethodName := ⟨RX11, "isLineAgain", "(II)Z"⟩
abbrev cX11_together : ByteArray := prog_16_method_47_code
def yX11_together : MethodName := ⟨RX11, "together", "(I)V"⟩
abbrev cX11_act : ByteArray := prog_16_method_51_code
def yX11_act : MethodName := ⟨RX11, "act", "(IIII)V"⟩
abbrev cX11_told : ByteArray := prog_16_method_50_code
def yX11_told : MethodName := ⟨RX11, "told", "(II)I"⟩
abbrev cX11_reckon : ByteArray := prog_16_method_49_code
def yX11_reckon : MethodName := ⟨RX11, "reckon", "(III)I"⟩
abbrev cX11_say : ByteArray := prog_16_method_48_code
def yX11_say : MethodName := ⟨RX11, "say", "(IZ)V"⟩
abbrev cX11_jump : ByteArray := prog_16_method_52_code
def yX11_jump : MethodName := ⟨RX11, "jump", "(IIII)V"⟩
abbrev cX11_ask : ByteArray := prog_16_method_56_code
def yX11_ask : MethodName := ⟨RX11, "ask", "(IIIII)V"⟩
abbrev cX11_touch : ByteArray := prog_16_method_55_code
def yX11_touch : MethodName := ⟨RX11, "touch", "(IIII)V"⟩
abbrev cX11_from : ByteArray := prog_16_method_53_code
def yX11_from : MethodName := ⟨RX11, "from", "(I)I"⟩
abbrev cX11_settle : ByteArray := prog_16_method_59_code
def yX11_settle : MethodName := ⟨RX11, "settle", "(I)V"⟩
abbrev cX11_stop : ByteArray := prog_16_method_62_code
def yX11_stop : MethodName := ⟨RX11, "stop", "()Z"⟩
abbrev cX11_global : ByteArray := prog_16_method_63_code
def yX11_global : MethodName := ⟨RX11, "global", "(I)I"⟩
abbrev cX11_state : ByteArray := prog_16_method_64_code
def yX11_state : MethodName := ⟨RX11, "state", "(I)I"⟩
abbrev cX11_unit : ByteArray := prog_16_method_65_code
def yX11_unit : MethodName := ⟨RX11, "unit", "(II)I"⟩
abbrev cX11_cached : ByteArray := prog_16_method_66_code
def yX11_cached : MethodName := ⟨RX11, "cached", "(II)I"⟩
abbrev cX11_slot : ByteArray := prog_16_method_68_code
def yX11_slot : MethodName := ⟨RX11, "slot", "(III)I"⟩
abbrev cX11_isSlot : ByteArray := prog_16_method_67_code
def yX11_isSlot : MethodName := ⟨RX11, "isSlot", "(II)Z"⟩
abbrev cX11_lane : ByteArray := prog_16_method_69_code
def yX11_lane : MethodName := ⟨RX11, "lane", "(IIII)I"⟩
abbrev cX11_shared : ByteArray := prog_16_method_70_code
def yX11_shared : MethodName := ⟨RX11, "shared", "(II)I"⟩
theorem q111 : (Jvm.Cond.initialized "WarpMillModel") ∈ lw_all := lw_g (lw_at lw_m1 33 rfl) rfl
theorem q668 : (Jvm.Cond.selects "WarpMillModel" ({ cls := "java/lang/Object", name := "getClass", desc := "()Ljava/lang/Class;" } : Jvm.MethodName) ({ cls := "java/lang/Object", name := "getClass", desc := "()Ljava/lang/Class;" } : Jvm.MethodName)) ∈ lw_all := lw_g (lw_at lw_m3 110 rfl) rfl
theorem q1537 : (Jvm.Cond.instantiable "WarpMillModel" (60 : Nat)) ∈ lw_all := lw_g (lw_at lw_m7 19 rfl) rfl
theorem q1539 : (Jvm.Cond.instanceMethod ({ cls := "WarpMillModel", name := "<init>", desc := "()V" } : Jvm.MethodName)) ∈ lw_all := lw_g (lw_at lw_m7 21 rfl) rfl
theorem q1540 : (Jvm.Cond.code ({ cls := "WarpMillModel", name := "<init>", desc := "()V" } : Jvm.MethodName) prog_16_method_1_code (1 : Nat) (Option.none : Option Jvm.ClassFile.FieldType)) ∈ lw_all := lw_g (lw_at lw_m7 22 rfl) rfl
theorem q1541 : (Jvm.Cond.methodLink "WarpMillModel" (1 : Nat) ({ cls := "java/lang/Object", name := "<init>", desc := "()V" } : Jvm.MethodName)) ∈ lw_all := lw_g (lw_at lw_m7 23 rfl) rfl
theorem q1542 : (Jvm.Cond.constant "WarpMillModel" (66 : Nat) (65536 : Int32)) ∈ lw_all := lw_g (lw_at lw_m7 24 rfl) rfl
theorem q1543 : (Jvm.Cond.constant "WarpMillModel" (86 : Nat) (32768 : Int32)) ∈ lw_all := lw_g (lw_at lw_m7 25 rfl) rfl
theorem q1544 : (Jvm.Cond.methodLink "WarpMillModel" (117 : Nat) ({ cls := "WarpMillModel", name := "clearHouse", desc := "()V" } : Jvm.MethodName)) ∈ lw_all := lw_g (lw_at lw_m7 26 rfl) rfl
theorem q1545 : (Jvm.Cond.privateMethod ({ cls := "WarpMillModel", name := "clearHouse", desc := "()V" } : Jvm.MethodName)) ∈ lw_tbl := lw_at lw_m7 27 rfl
theorem q1546 : (Jvm.Cond.instanceMethod ({ cls := "WarpMillModel", name := "clearHouse", desc := "()V" } : Jvm.MethodName)) ∈ lw_all := lw_g (lw_at lw_m7 28 rfl) rfl
theorem q1547 : (Jvm.Cond.code ({ cls := "WarpMillModel", name := "clearHouse", desc := "()V" } : Jvm.MethodName) prog_16_method_5_code (2 : Nat) (Option.none : Option Jvm.ClassFile.FieldType)) ∈ lw_all := lw_g (lw_at lw_m7 29 rfl) rfl
theorem q1548 : (Jvm.Cond.methodLink "WarpMillModel" (126 : Nat) ({ cls := "WarpMillModel", name := "clearUnits", desc := "()V" } : Jvm.MethodName)) ∈ lw_all := lw_g (lw_at lw_m7 30 rfl) rfl
theorem q1549 : (Jvm.Cond.privateMethod ({ cls := "WarpMillModel", name := "clearUnits", desc := "()V" } : Jvm.MethodName)) ∈ lw_tbl := lw_at lw_m7 31 rfl
theorem q1550 : (Jvm.Cond.instanceMethod ({ cls := "WarpMillModel", name := "clearUnits", desc := "()V" } : Jvm.MethodName)) ∈ lw_all := lw_g (lw_at lw_m7 32 rfl) rfl
theorem q1551 : (Jvm.Cond.code ({ cls := "WarpMillModel", name := "clearUnits", desc := "()V" } : Jvm.MethodName) prog_16_method_4_code (2 : Nat) (Option.none : Option Jvm.ClassFile.FieldType)) ∈ lw_all := lw_g (lw_at lw_m7 33 rfl) rfl
theorem q1552 : (Jvm.Cond.methodLink "WarpMillModel" (123 : Nat) ({ cls := "WarpMillModel", name := "freeAll", desc := "()V" } : Jvm.MethodName)) ∈ lw_all := lw_g (lw_at lw_m7 34 rfl) rfl
theorem q1553 : (Jvm.Cond.privateMethod ({ cls := "WarpMillModel", name := "freeAll", desc := "()V" } : Jvm.MethodName)) ∈ lw_tbl := lw_at lw_m7 35 rfl
theorem q1554 : (Jvm.Cond.instanceMethod ({ cls := "WarpMillModel", name := "freeAll", desc := "()V" } : Jvm.MethodName)) ∈ lw_all := lw_g (lw_at lw_m7 36 rfl) rfl
theorem q1555 : (Jvm.Cond.code ({ cls := "WarpMillModel", name := "freeAll", desc := "()V" } : Jvm.MethodName) prog_16_method_6_code (2 : Nat) (Option.none : Option Jvm.ClassFile.FieldType)) ∈ lw_all := lw_g (lw_at lw_m7 37 rfl) rfl
theorem q1556 : (Jvm.Cond.constant "WarpMillModel" (132 : Nat) (2147483647 : Int32)) ∈ lw_all := lw_g (lw_at lw_m7 38 rfl) rfl
theorem q1557 : (Jvm.Cond.fieldLink "WarpMillModel" (120 : Nat) "WarpMillModel" "thrown" "I") ∈ lw_all := lw_g (lw_at lw_m7 39 rfl) rfl
theorem q1558 : (Jvm.Cond.fieldLink "WarpMillModel" (7 : Nat) "WarpMillModel" "lanes" "I") ∈ lw_all := lw_g (lw_at lw_m7 40 rfl) rfl
theorem q1559 : (Jvm.Cond.fieldLink "WarpMillModel" (13 : Nat) "WarpMillModel" "slots" "I") ∈ lw_all := lw_g (lw_at lw_m7 41 rfl) rfl
theorem q1560 : (Jvm.Cond.fieldLink "WarpMillModel" (16 : Nat) "WarpMillModel" "units" "I") ∈ lw_all := lw_g (lw_at lw_m7 42 rfl) rfl
theorem q1561 : (Jvm.Cond.fieldLink "WarpMillModel" (19 : Nat) "WarpMillModel" "banks" "I") ∈ lw_all := lw_g (lw_at lw_m7 43 rfl) rfl
theorem q1562 : (Jvm.Cond.fieldLink "WarpMillModel" (22 : Nat) "WarpMillModel" "gates" "I") ∈ lw_all := lw_g (lw_at lw_m7 44 rfl) rfl
theorem q1563 : (Jvm.Cond.fieldLink "WarpMillModel" (25 : Nat) "WarpMillModel" "ints" "I") ∈ lw_all := lw_g (lw_at lw_m7 45 rfl) rfl
theorem q1564 : (Jvm.Cond.fieldLink "WarpMillModel" (28 : Nat) "WarpMillModel" "kernel" "[J") ∈ lw_all := lw_g (lw_at lw_m7 46 rfl) rfl
theorem q1565 : (Jvm.Cond.fieldLink "WarpMillModel" (32 : Nat) "WarpMillModel" "memory" "[I") ∈ lw_all := lw_g (lw_at lw_m7 47 rfl) rfl
theorem q1566 : (Jvm.Cond.fieldLink "WarpMillModel" (36 : Nat) "WarpMillModel" "cache" "[I") ∈ lw_all := lw_g (lw_at lw_m7 48 rfl) rfl
theorem q1567 : (Jvm.Cond.fieldLink "WarpMillModel" (39 : Nat) "WarpMillModel" "gateTick" "[I") ∈ lw_all := lw_g (lw_at lw_m7 49 rfl) rfl
theorem q1568 : (Jvm.Cond.fieldLink "WarpMillModel" (136 : Nat) "WarpMillModel" "status" "I") ∈ lw_all := lw_g (lw_at lw_m7 50 rfl) rfl
theorem q1569 : (Jvm.Cond.fieldLink "WarpMillModel" (150 : Nat) "WarpMillModel" "blocks" "I") ∈ lw_all := lw_g (lw_at lw_m7 51 rfl) rfl
theorem q1570 : (Jvm.Cond.fieldLink "WarpMillModel" (153 : Nat) "WarpMillModel" "threads" "I") ∈ lw_all := lw_g (lw_at lw_m7 52 rfl) rfl
theorem q1571 : (Jvm.Cond.fieldLink "WarpMillModel" (156 : Nat) "WarpMillModel" "next" "I") ∈ lw_all := lw_g (lw_at lw_m7 53 rfl) rfl
theorem q1572 : (Jvm.Cond.fieldLink "WarpMillModel" (159 : Nat) "WarpMillModel" "cycle" "I") ∈ lw_all := lw_g (lw_at lw_m7 54 rfl) rfl
theorem q1573 : (Jvm.Cond.fieldLink "WarpMillModel" (162 : Nat) "WarpMillModel" "went" "I") ∈ lw_all := lw_g (lw_at lw_m7 55 rfl) rfl
theorem q1574 : (Jvm.Cond.fieldLink "WarpMillModel" (165 : Nat) "WarpMillModel" "did" "I") ∈ lw_all := lw_g (lw_at lw_m7 56 rfl) rfl
theorem q1575 : (Jvm.Cond.fieldLink "WarpMillModel" (168 : Nat) "WarpMillModel" "partly" "I") ∈ lw_all := lw_g (lw_at lw_m7 57 rfl) rfl
theorem q1576 : (Jvm.Cond.fieldLink "WarpMillModel" (171 : Nat) "WarpMillModel" "hits" "I") ∈ lw_all := lw_g (lw_at lw_m7 58 rfl) rfl
theorem q1577 : (Jvm.Cond.fieldLink "WarpMillModel" (174 : Nat) "WarpMillModel" "others" "I") ∈ lw_all := lw_g (lw_at lw_m7 59 rfl) rfl
theorem q1578 : (Jvm.Cond.fieldLink "WarpMillModel" (177 : Nat) "WarpMillModel" "ended" "I") ∈ lw_all := lw_g (lw_at lw_m7 60 rfl) rfl
theorem q1579 : (Jvm.Cond.fieldLink "WarpMillModel" (368 : Nat) "WarpMillModel" "inAll" "I") ∈ lw_all := lw_g (lw_at lw_m7 61 rfl) rfl
theorem q1580 : (Jvm.Cond.fieldLink "WarpMillModel" (180 : Nat) "WarpMillModel" "why" "I") ∈ lw_all := lw_g (lw_at lw_m7 62 rfl) rfl
theorem q1581 : (Jvm.Cond.fieldLink "WarpMillModel" (183 : Nat) "WarpMillModel" "whyBlock" "I") ∈ lw_all := lw_g (lw_at lw_m7 63 rfl) rfl
theorem q1582 : (Jvm.Cond.fieldLink "WarpMillModel" (186 : Nat) "WarpMillModel" "whyThread" "I") ∈ lw_all := lw_g (lw_at lw_m7 64 rfl) rfl
theorem q1583 : (Jvm.Cond.fieldLink "WarpMillModel" (189 : Nat) "WarpMillModel" "whyPlace" "I") ∈ lw_all := lw_g (lw_at lw_m7 65 rfl) rfl
theorem q1584 : (Jvm.Cond.fieldLink "WarpMillModel" (42 : Nat) "WarpMillModel" "divider" "[I") ∈ lw_all := lw_g (lw_at lw_m7 66 rfl) rfl
theorem q1585 : (Jvm.Cond.fieldLink "WarpMillModel" (45 : Nat) "WarpMillModel" "sharedTick" "[I") ∈ lw_all := lw_g (lw_at lw_m7 67 rfl) rfl
theorem q1586 : (Jvm.Cond.fieldLink "WarpMillModel" (48 : Nat) "WarpMillModel" "latest" "[I") ∈ lw_all := lw_g (lw_at lw_m7 68 rfl) rfl
theorem q1587 : (Jvm.Cond.fieldLink "WarpMillModel" (51 : Nat) "WarpMillModel" "unitWords" "[I") ∈ lw_all := lw_g (lw_at lw_m7 69 rfl) rfl
theorem q1588 : (Jvm.Cond.fieldLink "WarpMillModel" (54 : Nat) "WarpMillModel" "slotBlock" "[I") ∈ lw_all := lw_g (lw_at lw_m7 70 rfl) rfl
theorem q1589 : (Jvm.Cond.fieldLink "WarpMillModel" (57 : Nat) "WarpMillModel" "slotWarp" "[I") ∈ lw_all := lw_g (lw_at lw_m7 71 rfl) rfl
theorem q1590 : (Jvm.Cond.fieldLink "WarpMillModel" (60 : Nat) "WarpMillModel" "memoryTick" "[I") ∈ lw_all := lw_g (lw_at lw_m7 72 rfl) rfl
theorem q1591 : (Jvm.Cond.fieldLink "WarpMillModel" (63 : Nat) "WarpMillModel" "ticks" "[I") ∈ lw_all := lw_g (lw_at lw_m7 73 rfl) rfl
theorem q1592 : (Jvm.Cond.fieldLink "WarpMillModel" (67 : Nat) "WarpMillModel" "register" "[I") ∈ lw_all := lw_g (lw_at lw_m7 74 rfl) rfl
theorem q1593 : (Jvm.Cond.fieldLink "WarpMillModel" (70 : Nat) "WarpMillModel" "predicate" "[I") ∈ lw_all := lw_g (lw_at lw_m7 75 rfl) rfl
theorem q1594 : (Jvm.Cond.fieldLink "WarpMillModel" (73 : Nat) "WarpMillModel" "place" "[I") ∈ lw_all := lw_g (lw_at lw_m7 76 rfl) rfl
theorem q1595 : (Jvm.Cond.fieldLink "WarpMillModel" (76 : Nat) "WarpMillModel" "isEnded" "[Z") ∈ lw_all := lw_g (lw_at lw_m7 77 rfl) rfl
theorem q1596 : (Jvm.Cond.fieldLink "WarpMillModel" (80 : Nat) "WarpMillModel" "waits" "[Z") ∈ lw_all := lw_g (lw_at lw_m7 78 rfl) rfl
theorem q1597 : (Jvm.Cond.fieldLink "WarpMillModel" (83 : Nat) "WarpMillModel" "shared" "[I") ∈ lw_all := lw_g (lw_at lw_m7 79 rfl) rfl
theorem q1598 : (Jvm.Cond.fieldLink "WarpMillModel" (129 : Nat) "WarpMillModel" "pending" "I") ∈ lw_all := lw_g (lw_at lw_m7 80 rfl) rfl
theorem q1599 : (Jvm.Cond.fieldLink "WarpMillModel" (133 : Nat) "WarpMillModel" "soonest" "I") ∈ lw_all := lw_g (lw_at lw_m7 81 rfl) rfl
theorem q1600 : (Jvm.Cond.fieldLink "WarpMillModel" (87 : Nat) "WarpMillModel" "when" "[I") ∈ lw_all := lw_g (lw_at lw_m7 82 rfl) rfl
theorem q1601 : (Jvm.Cond.fieldLink "WarpMillModel" (90 : Nat) "WarpMillModel" "who" "[I") ∈ lw_all := lw_g (lw_at lw_m7 83 rfl) rfl
theorem q1602 : (Jvm.Cond.fieldLink "WarpMillModel" (93 : Nat) "WarpMillModel" "what" "[I") ∈ lw_all := lw_g (lw_at lw_m7 84 rfl) rfl
theorem q1603 : (Jvm.Cond.fieldLink "WarpMillModel" (96 : Nat) "WarpMillModel" "where" "[I") ∈ lw_all := lw_g (lw_at lw_m7 85 rfl) rfl
theorem q1604 : (Jvm.Cond.fieldLink "WarpMillModel" (99 : Nat) "WarpMillModel" "with" "[I") ∈ lw_all := lw_g (lw_at lw_m7 86 rfl) rfl
theorem q1605 : (Jvm.Cond.fieldLink "WarpMillModel" (102 : Nat) "WarpMillModel" "old" "[I") ∈ lw_all := lw_g (lw_at lw_m7 87 rfl) rfl
theorem q1606 : (Jvm.Cond.fieldLink "WarpMillModel" (105 : Nat) "WarpMillModel" "doneAt" "[I") ∈ lw_all := lw_g (lw_at lw_m7 88 rfl) rfl
theorem q1607 : (Jvm.Cond.fieldLink "WarpMillModel" (108 : Nat) "WarpMillModel" "inGroup" "[Z") ∈ lw_all := lw_g (lw_at lw_m7 89 rfl) rfl
theorem q1608 : (Jvm.Cond.fieldLink "WarpMillModel" (111 : Nat) "WarpMillModel" "does" "[Z") ∈ lw_all := lw_g (lw_at lw_m7 90 rfl) rfl
theorem q1609 : (Jvm.Cond.fieldLink "WarpMillModel" (220 : Nat) "WarpMillModel" "op" "I") ∈ lw_all := lw_g (lw_at lw_m7 91 rfl) rfl
theorem q1610 : (Jvm.Cond.fieldLink "WarpMillModel" (225 : Nat) "WarpMillModel" "d" "I") ∈ lw_all := lw_g (lw_at lw_m7 92 rfl) rfl
theorem q1611 : (Jvm.Cond.fieldLink "WarpMillModel" (228 : Nat) "WarpMillModel" "a" "I") ∈ lw_all := lw_g (lw_at lw_m7 93 rfl) rfl
theorem q1612 : (Jvm.Cond.fieldLink "WarpMillModel" (231 : Nat) "WarpMillModel" "b" "I") ∈ lw_all := lw_g (lw_at lw_m7 94 rfl) rfl
theorem q1613 : (Jvm.Cond.fieldLink "WarpMillModel" (234 : Nat) "WarpMillModel" "g" "I") ∈ lw_all := lw_g (lw_at lw_m7 95 rfl) rfl
theorem q1614 : (Jvm.Cond.fieldLink "WarpMillModel" (237 : Nat) "WarpMillModel" "n" "I") ∈ lw_all := lw_g (lw_at lw_m7 96 rfl) rfl
theorem q1615 : (Jvm.Cond.fieldLink "WarpMillModel" (325 : Nat) "WarpMillModel" "votes" "I") ∈ lw_all := lw_g (lw_at lw_m7 97 rfl) rfl
theorem q1616 : (Jvm.Cond.fieldLink "WarpMillModel" (114 : Nat) "WarpMillModel" "had" "[I") ∈ lw_all := lw_g (lw_at lw_m7 98 rfl) rfl
theorem q1617 : (Jvm.Cond.lays "WarpMillModel" "WarpMillModel" "thrown" "I") ∈ lw_all := lw_g (lw_at lw_m7 99 rfl) rfl
theorem q1618 : (Jvm.Cond.soleField "WarpMillModel" "thrown") ∈ lw_all := lw_g (lw_at lw_m7 100 rfl) rfl
theorem q1619 : (Jvm.Cond.lays "WarpMillModel" "WarpMillModel" "lanes" "I") ∈ lw_all := lw_g (lw_at lw_m7 101 rfl) rfl
theorem q1620 : (Jvm.Cond.soleField "WarpMillModel" "lanes") ∈ lw_all := lw_g (lw_at lw_m7 102 rfl) rfl
theorem q1621 : (Jvm.Cond.lays "WarpMillModel" "WarpMillModel" "slots" "I") ∈ lw_all := lw_g (lw_at lw_m7 103 rfl) rfl
theorem q1622 : (Jvm.Cond.soleField "WarpMillModel" "slots") ∈ lw_all := lw_g (lw_at lw_m7 104 rfl) rfl
theorem q1623 : (Jvm.Cond.lays "WarpMillModel" "WarpMillModel" "units" "I") ∈ lw_all := lw_g (lw_at lw_m7 105 rfl) rfl
theorem q1624 : (Jvm.Cond.soleField "WarpMillModel" "units") ∈ lw_all := lw_g (lw_at lw_m7 106 rfl) rfl
theorem q1625 : (Jvm.Cond.lays "WarpMillModel" "WarpMillModel" "banks" "I") ∈ lw_all := lw_g (lw_at lw_m7 107 rfl) rfl
theorem q1626 : (Jvm.Cond.soleField "WarpMillModel" "banks") ∈ lw_all := lw_g (lw_at lw_m7 108 rfl) rfl
theorem q1627 : (Jvm.Cond.lays "WarpMillModel" "WarpMillModel" "gates" "I") ∈ lw_all := lw_g (lw_at lw_m7 109 rfl) rfl
theorem q1628 : (Jvm.Cond.soleField "WarpMillModel" "gates") ∈ lw_all := lw_g (lw_at lw_m7 110 rfl) rfl
theorem q1629 : (Jvm.Cond.lays "WarpMillModel" "WarpMillModel" "ints" "I") ∈ lw_all := lw_g (lw_at lw_m7 111 rfl) rfl
theorem q1630 : (Jvm.Cond.soleField "WarpMillModel" "ints") ∈ lw_all := lw_g (lw_at lw_m7 112 rfl) rfl
theorem q1631 : (Jvm.Cond.laysFinal "WarpMillModel" "WarpMillModel" "kernel" "[J") ∈ lw_all := lw_g (lw_at lw_m7 113 rfl) rfl
theorem q1632 : (Jvm.Cond.soleField "WarpMillModel" "kernel") ∈ lw_all := lw_g (lw_at lw_m7 114 rfl) rfl
theorem q1633 : (Jvm.Cond.laysFinal "WarpMillModel" "WarpMillModel" "memory" "[I") ∈ lw_all := lw_g (lw_at lw_m7 115 rfl) rfl
theorem q1634 : (Jvm.Cond.soleField "WarpMillModel" "memory") ∈ lw_all := lw_g (lw_at lw_m7 116 rfl) rfl
theorem q1635 : (Jvm.Cond.laysFinal "WarpMillModel" "WarpMillModel" "cache" "[I") ∈ lw_all := lw_g (lw_at lw_m7 117 rfl) rfl
theorem q1636 : (Jvm.Cond.soleField "WarpMillModel" "cache") ∈ lw_all := lw_g (lw_at lw_m7 118 rfl) rfl
theorem q1637 : (Jvm.Cond.laysFinal "WarpMillModel" "WarpMillModel" "gateTick" "[I") ∈ lw_all := lw_g (lw_at lw_m7 119 rfl) rfl
theorem q1638 : (Jvm.Cond.soleField "WarpMillModel" "gateTick") ∈ lw_all := lw_g (lw_at lw_m7 120 rfl) rfl
theorem q1639 : (Jvm.Cond.lays "WarpMillModel" "WarpMillModel" "status" "I") ∈ lw_all := lw_g (lw_at lw_m7 121 rfl) rfl
theorem q1640 : (Jvm.Cond.soleField "WarpMillModel" "status") ∈ lw_all := lw_g (lw_at lw_m7 122 rfl) rfl
theorem q1641 : (Jvm.Cond.lays "WarpMillModel" "WarpMillModel" "blocks" "I") ∈ lw_all := lw_g (lw_at lw_m7 123 rfl) rfl
theorem q1642 : (Jvm.Cond.soleField "WarpMillModel" "blocks") ∈ lw_all := lw_g (lw_at lw_m7 124 rfl) rfl
theorem q1643 : (Jvm.Cond.lays "WarpMillModel" "WarpMillModel" "threads" "I") ∈ lw_all := lw_g (lw_at lw_m7 125 rfl) rfl
theorem q1644 : (Jvm.Cond.soleField "WarpMillModel" "threads") ∈ lw_all := lw_g (lw_at lw_m7 126 rfl) rfl
theorem q1645 : (Jvm.Cond.lays "WarpMillModel" "WarpMillModel" "next" "I") ∈ lw_all := lw_g (lw_at lw_m7 127 rfl) rfl
theorem q1646 : (Jvm.Cond.soleField "WarpMillModel" "next") ∈ lw_all := lw_g (lw_at lw_m7 128 rfl) rfl
theorem q1647 : (Jvm.Cond.lays "WarpMillModel" "WarpMillModel" "cycle" "I") ∈ lw_all := lw_g (lw_at lw_m7 129 rfl) rfl
theorem q1648 : (Jvm.Cond.soleField "WarpMillModel" "cycle") ∈ lw_all := lw_g (lw_at lw_m7 130 rfl) rfl
theorem q1649 : (Jvm.Cond.lays "WarpMillModel" "WarpMillModel" "went" "I") ∈ lw_all := lw_g (lw_at lw_m7 131 rfl) rfl
theorem q1650 : (Jvm.Cond.soleField "WarpMillModel" "went") ∈ lw_all := lw_g (lw_at lw_m7 132 rfl) rfl
theorem q1651 : (Jvm.Cond.lays "WarpMillModel" "WarpMillModel" "did" "I") ∈ lw_all := lw_g (lw_at lw_m7 133 rfl) rfl
theorem q1652 : (Jvm.Cond.soleField "WarpMillModel" "did") ∈ lw_all := lw_g (lw_at lw_m7 134 rfl) rfl
theorem q1653 : (Jvm.Cond.lays "WarpMillModel" "WarpMillModel" "partly" "I") ∈ lw_all := lw_g (lw_at lw_m7 135 rfl) rfl
theorem q1654 : (Jvm.Cond.soleField "WarpMillModel" "partly") ∈ lw_all := lw_g (lw_at lw_m7 136 rfl) rfl
theorem q1655 : (Jvm.Cond.lays "WarpMillModel" "WarpMillModel" "hits" "I") ∈ lw_all := lw_g (lw_at lw_m7 137 rfl) rfl
theorem q1656 : (Jvm.Cond.soleField "WarpMillModel" "hits") ∈ lw_all := lw_g (lw_at lw_m7 138 rfl) rfl
theorem q1657 : (Jvm.Cond.lays "WarpMillModel" "WarpMillModel" "others" "I") ∈ lw_all := lw_g (lw_at lw_m7 139 rfl) rfl
theorem q1658 : (Jvm.Cond.soleField "WarpMillModel" "others") ∈ lw_all := lw_g (lw_at lw_m7 140 rfl) rfl
theorem q1659 : (Jvm.Cond.lays "WarpMillModel" "WarpMillModel" "ended" "I") ∈ lw_all := lw_g (lw_at lw_m7 141 rfl) rfl
theorem q1660 : (Jvm.Cond.soleField "WarpMillModel" "ended") ∈ lw_all := lw_g (lw_at lw_m7 142 rfl) rfl
theorem q1661 : (Jvm.Cond.lays "WarpMillModel" "WarpMillModel" "inAll" "I") ∈ lw_all := lw_g (lw_at lw_m7 143 rfl) rfl
theorem q1662 : (Jvm.Cond.soleField "WarpMillModel" "inAll") ∈ lw_all := lw_g (lw_at lw_m7 144 rfl) rfl
theorem q1663 : (Jvm.Cond.lays "WarpMillModel" "WarpMillModel" "why" "I") ∈ lw_all := lw_g (lw_at lw_m7 145 rfl) rfl
theorem q1664 : (Jvm.Cond.soleField "WarpMillModel" "why") ∈ lw_all := lw_g (lw_at lw_m7 146 rfl) rfl
theorem q1665 : (Jvm.Cond.lays "WarpMillModel" "WarpMillModel" "whyBlock" "I") ∈ lw_all := lw_g (lw_at lw_m7 147 rfl) rfl
theorem q1666 : (Jvm.Cond.soleField "WarpMillModel" "whyBlock") ∈ lw_all := lw_g (lw_at lw_m7 148 rfl) rfl
theorem q1667 : (Jvm.Cond.lays "WarpMillModel" "WarpMillModel" "whyThread" "I") ∈ lw_all := lw_g (lw_at lw_m7 149 rfl) rfl
theorem q1668 : (Jvm.Cond.soleField "WarpMillModel" "whyThread") ∈ lw_all := lw_g (lw_at lw_m7 150 rfl) rfl
theorem q1669 : (Jvm.Cond.lays "WarpMillModel" "WarpMillModel" "whyPlace" "I") ∈ lw_all := lw_g (lw_at lw_m7 151 rfl) rfl
theorem q1670 : (Jvm.Cond.soleField "WarpMillModel" "whyPlace") ∈ lw_all := lw_g (lw_at lw_m7 152 rfl) rfl
theorem q1671 : (Jvm.Cond.laysFinal "WarpMillModel" "WarpMillModel" "divider" "[I") ∈ lw_all := lw_g (lw_at lw_m7 153 rfl) rfl
theorem q1672 : (Jvm.Cond.soleField "WarpMillModel" "divider") ∈ lw_all := lw_g (lw_at lw_m7 154 rfl) rfl
theorem q1673 : (Jvm.Cond.laysFinal "WarpMillModel" "WarpMillModel" "sharedTick" "[I") ∈ lw_all := lw_g (lw_at lw_m7 155 rfl) rfl
theorem q1674 : (Jvm.Cond.soleField "WarpMillModel" "sharedTick") ∈ lw_all := lw_g (lw_at lw_m7 156 rfl) rfl
theorem q1675 : (Jvm.Cond.laysFinal "WarpMillModel" "WarpMillModel" "latest" "[I") ∈ lw_all := lw_g (lw_at lw_m7 157 rfl) rfl
theorem q1676 : (Jvm.Cond.soleField "WarpMillModel" "latest") ∈ lw_all := lw_g (lw_at lw_m7 158 rfl) rfl
theorem q1677 : (Jvm.Cond.laysFinal "WarpMillModel" "WarpMillModel" "unitWords" "[I") ∈ lw_all := lw_g (lw_at lw_m7 159 rfl) rfl
theorem q1678 : (Jvm.Cond.soleField "WarpMillModel" "unitWords") ∈ lw_all := lw_g (lw_at lw_m7 160 rfl) rfl
theorem q1679 : (Jvm.Cond.laysFinal "WarpMillModel" "WarpMillModel" "slotBlock" "[I") ∈ lw_all := lw_g (lw_at lw_m7 161 rfl) rfl
theorem q1680 : (Jvm.Cond.soleField "WarpMillModel" "slotBlock") ∈ lw_all := lw_g (lw_at lw_m7 162 rfl) rfl
theorem q1681 : (Jvm.Cond.laysFinal "WarpMillModel" "WarpMillModel" "slotWarp" "[I") ∈ lw_all := lw_g (lw_at lw_m7 163 rfl) rfl
theorem q1682 : (Jvm.Cond.soleField "WarpMillModel" "slotWarp") ∈ lw_all := lw_g (lw_at lw_m7 164 rfl) rfl
theorem q1683 : (Jvm.Cond.laysFinal "WarpMillModel" "WarpMillModel" "memoryTick" "[I") ∈ lw_all := lw_g (lw_at lw_m7 165 rfl) rfl
theorem q1684 : (Jvm.Cond.soleField "WarpMillModel" "memoryTick") ∈ lw_all := lw_g (lw_at lw_m7 166 rfl) rfl
theorem q1685 : (Jvm.Cond.laysFinal "WarpMillModel" "WarpMillModel" "ticks" "[I") ∈ lw_all := lw_g (lw_at lw_m7 167 rfl) rfl
theorem q1686 : (Jvm.Cond.soleField "WarpMillModel" "ticks") ∈ lw_all := lw_g (lw_at lw_m7 168 rfl) rfl
theorem q1687 : (Jvm.Cond.laysFinal "WarpMillModel" "WarpMillModel" "register" "[I") ∈ lw_all := lw_g (lw_at lw_m7 169 rfl) rfl
theorem q1688 : (Jvm.Cond.soleField "WarpMillModel" "register") ∈ lw_all := lw_g (lw_at lw_m7 170 rfl) rfl
theorem q1689 : (Jvm.Cond.laysFinal "WarpMillModel" "WarpMillModel" "predicate" "[I") ∈ lw_all := lw_g (lw_at lw_m7 171 rfl) rfl
theorem q1690 : (Jvm.Cond.soleField "WarpMillModel" "predicate") ∈ lw_all := lw_g (lw_at lw_m7 172 rfl) rfl
theorem q1691 : (Jvm.Cond.laysFinal "WarpMillModel" "WarpMillModel" "place" "[I") ∈ lw_all := lw_g (lw_at lw_m7 173 rfl) rfl
theorem q1692 : (Jvm.Cond.soleField "WarpMillModel" "place") ∈ lw_all := lw_g (lw_at lw_m7 174 rfl) rfl
theorem q1693 : (Jvm.Cond.laysFinal "WarpMillModel" "WarpMillModel" "isEnded" "[Z") ∈ lw_all := lw_g (lw_at lw_m7 175 rfl) rfl
theorem q1694 : (Jvm.Cond.soleField "WarpMillModel" "isEnded") ∈ lw_all := lw_g (lw_at lw_m7 176 rfl) rfl
theorem q1695 : (Jvm.Cond.laysFinal "WarpMillModel" "WarpMillModel" "waits" "[Z") ∈ lw_all := lw_g (lw_at lw_m7 177 rfl) rfl
theorem q1696 : (Jvm.Cond.soleField "WarpMillModel" "waits") ∈ lw_all := lw_g (lw_at lw_m7 178 rfl) rfl
theorem q1697 : (Jvm.Cond.laysFinal "WarpMillModel" "WarpMillModel" "shared" "[I") ∈ lw_all := lw_g (lw_at lw_m7 179 rfl) rfl
theorem q1698 : (Jvm.Cond.soleField "WarpMillModel" "shared") ∈ lw_all := lw_g (lw_at lw_m7 180 rfl) rfl
theorem q1699 : (Jvm.Cond.lays "WarpMillModel" "WarpMillModel" "pending" "I") ∈ lw_all := lw_g (lw_at lw_m7 181 rfl) rfl
theorem q1700 : (Jvm.Cond.soleField "WarpMillModel" "pending") ∈ lw_all := lw_g (lw_at lw_m7 182 rfl) rfl
theorem q1701 : (Jvm.Cond.lays "WarpMillModel" "WarpMillModel" "soonest" "I") ∈ lw_all := lw_g (lw_at lw_m7 183 rfl) rfl
theorem q1702 : (Jvm.Cond.soleField "WarpMillModel" "soonest") ∈ lw_all := lw_g (lw_at lw_m7 184 rfl) rfl
theorem q1703 : (Jvm.Cond.laysFinal "WarpMillModel" "WarpMillModel" "when" "[I") ∈ lw_all := lw_g (lw_at lw_m7 185 rfl) rfl
theorem q1704 : (Jvm.Cond.soleField "WarpMillModel" "when") ∈ lw_all := lw_g (lw_at lw_m7 186 rfl) rfl
theorem q1705 : (Jvm.Cond.laysFinal "WarpMillModel" "WarpMillModel" "who" "[I") ∈ lw_all := lw_g (lw_at lw_m7 187 rfl) rfl
theorem q1706 : (Jvm.Cond.soleField "WarpMillModel" "who") ∈ lw_all := lw_g (lw_at lw_m7 188 rfl) rfl
theorem q1707 : (Jvm.Cond.laysFinal "WarpMillModel" "WarpMillModel" "what" "[I") ∈ lw_all := lw_g (lw_at lw_m7 189 rfl) rfl
theorem q1708 : (Jvm.Cond.soleField "WarpMillModel" "what") ∈ lw_all := lw_g (lw_at lw_m7 190 rfl) rfl
theorem q1709 : (Jvm.Cond.laysFinal "WarpMillModel" "WarpMillModel" "where" "[I") ∈ lw_all := lw_g (lw_at lw_m7 191 rfl) rfl
theorem q1710 : (Jvm.Cond.soleField "WarpMillModel" "where") ∈ lw_all := lw_g (lw_at lw_m7 192 rfl) rfl
theorem q1711 : (Jvm.Cond.laysFinal "WarpMillModel" "WarpMillModel" "with" "[I") ∈ lw_all := lw_g (lw_at lw_m7 193 rfl) rfl
theorem q1712 : (Jvm.Cond.soleField "WarpMillModel" "with") ∈ lw_all := lw_g (lw_at lw_m7 194 rfl) rfl
theorem q1713 : (Jvm.Cond.laysFinal "WarpMillModel" "WarpMillModel" "old" "[I") ∈ lw_all := lw_g (lw_at lw_m7 195 rfl) rfl
theorem q1714 : (Jvm.Cond.soleField "WarpMillModel" "old") ∈ lw_all := lw_g (lw_at lw_m7 196 rfl) rfl
theorem q1715 : (Jvm.Cond.laysFinal "WarpMillModel" "WarpMillModel" "doneAt" "[I") ∈ lw_all := lw_g (lw_at lw_m7 197 rfl) rfl
theorem q1716 : (Jvm.Cond.soleField "WarpMillModel" "doneAt") ∈ lw_all := lw_g (lw_at lw_m7 198 rfl) rfl
theorem q1717 : (Jvm.Cond.laysFinal "WarpMillModel" "WarpMillModel" "inGroup" "[Z") ∈ lw_all := lw_g (lw_at lw_m7 199 rfl) rfl
theorem q1718 : (Jvm.Cond.soleField "WarpMillModel" "inGroup") ∈ lw_all := lw_g (lw_at lw_m7 200 rfl) rfl
theorem q1719 : (Jvm.Cond.laysFinal "WarpMillModel" "WarpMillModel" "does" "[Z") ∈ lw_all := lw_g (lw_at lw_m7 201 rfl) rfl
theorem q1720 : (Jvm.Cond.soleField "WarpMillModel" "does") ∈ lw_all := lw_g (lw_at lw_m7 202 rfl) rfl
theorem q1721 : (Jvm.Cond.lays "WarpMillModel" "WarpMillModel" "op" "I") ∈ lw_all := lw_g (lw_at lw_m7 203 rfl) rfl
theorem q1722 : (Jvm.Cond.soleField "WarpMillModel" "op") ∈ lw_all := lw_g (lw_at lw_m7 204 rfl) rfl
theorem q1723 : (Jvm.Cond.lays "WarpMillModel" "WarpMillModel" "d" "I") ∈ lw_all := lw_g (lw_at lw_m7 205 rfl) rfl
theorem q1724 : (Jvm.Cond.soleField "WarpMillModel" "d") ∈ lw_all := lw_g (lw_at lw_m7 206 rfl) rfl
theorem q1725 : (Jvm.Cond.lays "WarpMillModel" "WarpMillModel" "a" "I") ∈ lw_all := lw_g (lw_at lw_m7 207 rfl) rfl
theorem q1726 : (Jvm.Cond.soleField "WarpMillModel" "a") ∈ lw_all := lw_g (lw_at lw_m7 208 rfl) rfl
theorem q1727 : (Jvm.Cond.lays "WarpMillModel" "WarpMillModel" "b" "I") ∈ lw_all := lw_g (lw_at lw_m7 209 rfl) rfl
theorem q1728 : (Jvm.Cond.soleField "WarpMillModel" "b") ∈ lw_all := lw_g (lw_at lw_m7 210 rfl) rfl
theorem q1729 : (Jvm.Cond.lays "WarpMillModel" "WarpMillModel" "g" "I") ∈ lw_all := lw_g (lw_at lw_m7 211 rfl) rfl
theorem q1730 : (Jvm.Cond.soleField "WarpMillModel" "g") ∈ lw_all := lw_g (lw_at lw_m7 212 rfl) rfl
theorem q1731 : (Jvm.Cond.lays "WarpMillModel" "WarpMillModel" "n" "I") ∈ lw_all := lw_g (lw_at lw_m7 213 rfl) rfl
theorem q1732 : (Jvm.Cond.soleField "WarpMillModel" "n") ∈ lw_all := lw_g (lw_at lw_m7 214 rfl) rfl
theorem q1733 : (Jvm.Cond.lays "WarpMillModel" "WarpMillModel" "votes" "I") ∈ lw_all := lw_g (lw_at lw_m7 215 rfl) rfl
theorem q1734 : (Jvm.Cond.soleField "WarpMillModel" "votes") ∈ lw_all := lw_g (lw_at lw_m7 216 rfl) rfl
theorem q1735 : (Jvm.Cond.laysFinal "WarpMillModel" "WarpMillModel" "had" "[I") ∈ lw_all := lw_g (lw_at lw_m7 217 rfl) rfl
theorem q1736 : (Jvm.Cond.soleField "WarpMillModel" "had") ∈ lw_all := lw_g (lw_at lw_m7 218 rfl) rfl
theorem q1737 : (Jvm.Cond.superclass "WarpMillModel" "java/lang/Object") ∈ lw_all := lw_g (lw_at lw_m7 219 rfl) rfl
theorem q1739 : (Jvm.Cond.instanceMethod ({ cls := "WarpMillModel", name := "thrown", desc := "()I" } : Jvm.MethodName)) ∈ lw_all := lw_g (lw_at lw_m7 221 rfl) rfl
theorem q1740 : (Jvm.Cond.selects "WarpMillModel" ({ cls := "WarpMillModel", name := "thrown", desc := "()I" } : Jvm.MethodName) ({ cls := "WarpMillModel", name := "thrown", desc := "()I" } : Jvm.MethodName)) ∈ lw_all := lw_g (lw_at lw_m7 222 rfl) rfl
theorem q1741 : (Jvm.Cond.code ({ cls := "WarpMillModel", name := "thrown", desc := "()I" } : Jvm.MethodName) prog_16_method_2_code (1 : Nat) (Option.some Jvm.ClassFile.FieldType.int)) ∈ lw_all := lw_g (lw_at lw_m7 223 rfl) rfl
theorem q1743 : (Jvm.Cond.instanceMethod ({ cls := "WarpMillModel", name := "sizes", desc := "(IIIIII)Z" } : Jvm.MethodName)) ∈ lw_all := lw_g (lw_at lw_m7 225 rfl) rfl
theorem q1744 : (Jvm.Cond.selects "WarpMillModel" ({ cls := "WarpMillModel", name := "sizes", desc := "(IIIIII)Z" } : Jvm.MethodName) ({ cls := "WarpMillModel", name := "sizes", desc := "(IIIIII)Z" } : Jvm.MethodName)) ∈ lw_all := lw_g (lw_at lw_m7 226 rfl) rfl
theorem q1745 : (Jvm.Cond.code ({ cls := "WarpMillModel", name := "sizes", desc := "(IIIIII)Z" } : Jvm.MethodName) prog_16_method_9_code (9 : Nat) (Option.some Jvm.ClassFile.FieldType.boolean)) ∈ lw_all := lw_g (lw_at lw_m7 227 rfl) rfl
theorem q1746 : (Jvm.Cond.methodLink "WarpMillModel" (139 : Nat) ({ cls := "WarpMillModel", name := "isPower", desc := "(II)Z" } : Jvm.MethodName)) ∈ lw_all := lw_g (lw_at lw_m7 228 rfl) rfl
theorem q1747 : (Jvm.Cond.static ({ cls := "WarpMillModel", name := "isPower", desc := "(II)Z" } : Jvm.MethodName)) ∈ lw_all := lw_g (lw_at lw_m7 229 rfl) rfl
theorem q1748 : (Jvm.Cond.code ({ cls := "WarpMillModel", name := "isPower", desc := "(II)Z" } : Jvm.MethodName) prog_16_method_8_code (2 : Nat) (Option.some Jvm.ClassFile.FieldType.boolean)) ∈ lw_all := lw_g (lw_at lw_m7 230 rfl) rfl
theorem q1749 : (Jvm.Cond.methodLink "WarpMillModel" (143 : Nat) ({ cls := "WarpMillModel", name := "isUnder", desc := "()Z" } : Jvm.MethodName)) ∈ lw_all := lw_g (lw_at lw_m7 231 rfl) rfl
theorem q1750 : (Jvm.Cond.privateMethod ({ cls := "WarpMillModel", name := "isUnder", desc := "()Z" } : Jvm.MethodName)) ∈ lw_tbl := lw_at lw_m7 232 rfl
theorem q1751 : (Jvm.Cond.instanceMethod ({ cls := "WarpMillModel", name := "isUnder", desc := "()Z" } : Jvm.MethodName)) ∈ lw_all := lw_g (lw_at lw_m7 233 rfl) rfl
theorem q1752 : (Jvm.Cond.code ({ cls := "WarpMillModel", name := "isUnder", desc := "()Z" } : Jvm.MethodName) prog_16_method_7_code (1 : Nat) (Option.some Jvm.ClassFile.FieldType.boolean)) ∈ lw_all := lw_g (lw_at lw_m7 234 rfl) rfl
theorem q1753 : (Jvm.Cond.methodLink "WarpMillModel" (147 : Nat) ({ cls := "WarpMillModel", name := "clearCounts", desc := "()V" } : Jvm.MethodName)) ∈ lw_all := lw_g (lw_at lw_m7 235 rfl) rfl
theorem q1754 : (Jvm.Cond.privateMethod ({ cls := "WarpMillModel", name := "clearCounts", desc := "()V" } : Jvm.MethodName)) ∈ lw_tbl := lw_at lw_m7 236 rfl
theorem q1755 : (Jvm.Cond.instanceMethod ({ cls := "WarpMillModel", name := "clearCounts", desc := "()V" } : Jvm.MethodName)) ∈ lw_all := lw_g (lw_at lw_m7 237 rfl) rfl
theorem q1756 : (Jvm.Cond.code ({ cls := "WarpMillModel", name := "clearCounts", desc := "()V" } : Jvm.MethodName) prog_16_method_13_code (1 : Nat) (Option.none : Option Jvm.ClassFile.FieldType)) ∈ lw_all := lw_g (lw_at lw_m7 238 rfl) rfl
theorem q1758 : (Jvm.Cond.instanceMethod ({ cls := "WarpMillModel", name := "word", desc := "(IJ)Z" } : Jvm.MethodName)) ∈ lw_all := lw_g (lw_at lw_m8 0 rfl) rfl
theorem q1759 : (Jvm.Cond.selects "WarpMillModel" ({ cls := "WarpMillModel", name := "word", desc := "(IJ)Z" } : Jvm.MethodName) ({ cls := "WarpMillModel", name := "word", desc := "(IJ)Z" } : Jvm.MethodName)) ∈ lw_all := lw_g (lw_at lw_m8 1 rfl) rfl
theorem q1760 : (Jvm.Cond.code ({ cls := "WarpMillModel", name := "word", desc := "(IJ)Z" } : Jvm.MethodName) prog_16_method_10_code (4 : Nat) (Option.some Jvm.ClassFile.FieldType.boolean)) ∈ lw_all := lw_g (lw_at lw_m8 2 rfl) rfl
theorem q1762 : (Jvm.Cond.instanceMethod ({ cls := "WarpMillModel", name := "set", desc := "(II)Z" } : Jvm.MethodName)) ∈ lw_all := lw_g (lw_at lw_m8 4 rfl) rfl
theorem q1763 : (Jvm.Cond.selects "WarpMillModel" ({ cls := "WarpMillModel", name := "set", desc := "(II)Z" } : Jvm.MethodName) ({ cls := "WarpMillModel", name := "set", desc := "(II)Z" } : Jvm.MethodName)) ∈ lw_all := lw_g (lw_at lw_m8 5 rfl) rfl
theorem q1764 : (Jvm.Cond.code ({ cls := "WarpMillModel", name := "set", desc := "(II)Z" } : Jvm.MethodName) prog_16_method_11_code (3 : Nat) (Option.some Jvm.ClassFile.FieldType.boolean)) ∈ lw_all := lw_g (lw_at lw_m8 6 rfl) rfl
theorem q1766 : (Jvm.Cond.instanceMethod ({ cls := "WarpMillModel", name := "launch", desc := "(II)Z" } : Jvm.MethodName)) ∈ lw_all := lw_g (lw_at lw_m8 8 rfl) rfl
theorem q1767 : (Jvm.Cond.selects "WarpMillModel" ({ cls := "WarpMillModel", name := "launch", desc := "(II)Z" } : Jvm.MethodName) ({ cls := "WarpMillModel", name := "launch", desc := "(II)Z" } : Jvm.MethodName)) ∈ lw_all := lw_g (lw_at lw_m8 9 rfl) rfl
theorem q1768 : (Jvm.Cond.code ({ cls := "WarpMillModel", name := "launch", desc := "(II)Z" } : Jvm.MethodName) prog_16_method_12_code (3 : Nat) (Option.some Jvm.ClassFile.FieldType.boolean)) ∈ lw_all := lw_g (lw_at lw_m8 10 rfl) rfl
theorem q1770 : (Jvm.Cond.instanceMethod ({ cls := "WarpMillModel", name := "run", desc := "(I)I" } : Jvm.MethodName)) ∈ lw_all := lw_g (lw_at lw_m8 12 rfl) rfl
theorem q1771 : (Jvm.Cond.selects "WarpMillModel" ({ cls := "WarpMillModel", name := "run", desc := "(I)I" } : Jvm.MethodName) ({ cls := "WarpMillModel", name := "run", desc := "(I)I" } : Jvm.MethodName)) ∈ lw_all := lw_g (lw_at lw_m8 13 rfl) rfl
theorem q1772 : (Jvm.Cond.code ({ cls := "WarpMillModel", name := "run", desc := "(I)I" } : Jvm.MethodName) prog_16_method_61_code (3 : Nat) (Option.some Jvm.ClassFile.FieldType.int)) ∈ lw_all := lw_g (lw_at lw_m8 14 rfl) rfl
theorem q1773 : (Jvm.Cond.methodLink "WarpMillModel" (371 : Nat) ({ cls := "WarpMillModel", name := "raise", desc := "(I)I" } : Jvm.MethodName)) ∈ lw_all := lw_g (lw_at lw_m8 15 rfl) rfl
theorem q1774 : (Jvm.Cond.privateMethod ({ cls := "WarpMillModel", name := "raise", desc := "(I)I" } : Jvm.MethodName)) ∈ lw_tbl := lw_at lw_m8 16 rfl
theorem q1775 : (Jvm.Cond.instanceMethod ({ cls := "WarpMillModel", name := "raise", desc := "(I)I" } : Jvm.MethodName)) ∈ lw_all := lw_g (lw_at lw_m8 17 rfl) rfl
theorem q1776 : (Jvm.Cond.code ({ cls := "WarpMillModel", name := "raise", desc := "(I)I" } : Jvm.MethodName) prog_16_method_3_code (2 : Nat) (Option.some Jvm.ClassFile.FieldType.int)) ∈ lw_all := lw_g (lw_at lw_m8 18 rfl) rfl
theorem q1777 : (Jvm.Cond.methodLink "WarpMillModel" (374 : Nat) ({ cls := "WarpMillModel", name := "oneCycle", desc := "()V" } : Jvm.MethodName)) ∈ lw_all := lw_g (lw_at lw_m8 19 rfl) rfl
theorem q1778 : (Jvm.Cond.privateMethod ({ cls := "WarpMillModel", name := "oneCycle", desc := "()V" } : Jvm.MethodName)) ∈ lw_tbl := lw_at lw_m8 20 rfl
theorem q1779 : (Jvm.Cond.instanceMethod ({ cls := "WarpMillModel", name := "oneCycle", desc := "()V" } : Jvm.MethodName)) ∈ lw_all := lw_g (lw_at lw_m8 21 rfl) rfl
theorem q1780 : (Jvm.Cond.code ({ cls := "WarpMillModel", name := "oneCycle", desc := "()V" } : Jvm.MethodName) prog_16_method_60_code (2 : Nat) (Option.none : Option Jvm.ClassFile.FieldType)) ∈ lw_all := lw_g (lw_at lw_m8 22 rfl) rfl
theorem q1781 : (Jvm.Cond.methodLink "WarpMillModel" (359 : Nat) ({ cls := "WarpMillModel", name := "doPending", desc := "()V" } : Jvm.MethodName)) ∈ lw_all := lw_g (lw_at lw_m8 23 rfl) rfl
theorem q1782 : (Jvm.Cond.privateMethod ({ cls := "WarpMillModel", name := "doPending", desc := "()V" } : Jvm.MethodName)) ∈ lw_tbl := lw_at lw_m8 24 rfl
theorem q1783 : (Jvm.Cond.instanceMethod ({ cls := "WarpMillModel", name := "doPending", desc := "()V" } : Jvm.MethodName)) ∈ lw_all := lw_g (lw_at lw_m8 25 rfl) rfl
theorem q1784 : (Jvm.Cond.code ({ cls := "WarpMillModel", name := "doPending", desc := "()V" } : Jvm.MethodName) prog_16_method_57_code (3 : Nat) (Option.none : Option Jvm.ClassFile.FieldType)) ∈ lw_all := lw_g (lw_at lw_m8 26 rfl) rfl
theorem q1785 : (Jvm.Cond.methodLink "WarpMillModel" (356 : Nat) ({ cls := "WarpMillModel", name := "doOne", desc := "(I)V" } : Jvm.MethodName)) ∈ lw_all := lw_g (lw_at lw_m8 27 rfl) rfl
theorem q1786 : (Jvm.Cond.privateMethod ({ cls := "WarpMillModel", name := "doOne", desc := "(I)V" } : Jvm.MethodName)) ∈ lw_tbl := lw_at lw_m8 28 rfl
theorem q1787 : (Jvm.Cond.instanceMethod ({ cls := "WarpMillModel", name := "doOne", desc := "(I)V" } : Jvm.MethodName)) ∈ lw_all := lw_g (lw_at lw_m8 29 rfl) rfl
theorem q1788 : (Jvm.Cond.code ({ cls := "WarpMillModel", name := "doOne", desc := "(I)V" } : Jvm.MethodName) prog_16_method_58_code (5 : Nat) (Option.none : Option Jvm.ClassFile.FieldType)) ∈ lw_all := lw_g (lw_at lw_m8 30 rfl) rfl
theorem q1789 : (Jvm.Cond.methodLink "WarpMillModel" (352 : Nat) ({ cls := "WarpMillModel", name := "left", desc := "(IIII)I" } : Jvm.MethodName)) ∈ lw_all := lw_g (lw_at lw_m8 31 rfl) rfl
theorem q1790 : (Jvm.Cond.static ({ cls := "WarpMillModel", name := "left", desc := "(IIII)I" } : Jvm.MethodName)) ∈ lw_all := lw_g (lw_at lw_m8 32 rfl) rfl
theorem q1791 : (Jvm.Cond.code ({ cls := "WarpMillModel", name := "left", desc := "(IIII)I" } : Jvm.MethodName) prog_16_method_54_code (4 : Nat) (Option.some Jvm.ClassFile.FieldType.int)) ∈ lw_all := lw_g (lw_at lw_m8 33 rfl) rfl
theorem q1792 : (Jvm.Cond.methodLink "WarpMillModel" (211 : Nat) ({ cls := "WarpMillModel", name := "thread", desc := "(II)I" } : Jvm.MethodName)) ∈ lw_all := lw_g (lw_at lw_m8 34 rfl) rfl
theorem q1793 : (Jvm.Cond.static ({ cls := "WarpMillModel", name := "thread", desc := "(II)I" } : Jvm.MethodName)) ∈ lw_all := lw_g (lw_at lw_m8 35 rfl) rfl
theorem q1794 : (Jvm.Cond.code ({ cls := "WarpMillModel", name := "thread", desc := "(II)I" } : Jvm.MethodName) prog_16_method_19_code (2 : Nat) (Option.some Jvm.ClassFile.FieldType.int)) ∈ lw_all := lw_g (lw_at lw_m8 36 rfl) rfl
theorem q1795 : (Jvm.Cond.methodLink "WarpMillModel" (362 : Nat) ({ cls := "WarpMillModel", name := "dispatch", desc := "()V" } : Jvm.MethodName)) ∈ lw_all := lw_g (lw_at lw_m8 37 rfl) rfl
theorem q1796 : (Jvm.Cond.privateMethod ({ cls := "WarpMillModel", name := "dispatch", desc := "()V" } : Jvm.MethodName)) ∈ lw_tbl := lw_at lw_m8 38 rfl
theorem q1797 : (Jvm.Cond.instanceMethod ({ cls := "WarpMillModel", name := "dispatch", desc := "()V" } : Jvm.MethodName)) ∈ lw_all := lw_g (lw_at lw_m8 39 rfl) rfl
theorem q1798 : (Jvm.Cond.code ({ cls := "WarpMillModel", name := "dispatch", desc := "()V" } : Jvm.MethodName) prog_16_method_16_code (3 : Nat) (Option.none : Option Jvm.ClassFile.FieldType)) ∈ lw_all := lw_g (lw_at lw_m8 40 rfl) rfl
theorem q1799 : (Jvm.Cond.methodLink "WarpMillModel" (192 : Nat) ({ cls := "WarpMillModel", name := "freeSlots", desc := "(I)I" } : Jvm.MethodName)) ∈ lw_all := lw_g (lw_at lw_m8 41 rfl) rfl
theorem q1800 : (Jvm.Cond.privateMethod ({ cls := "WarpMillModel", name := "freeSlots", desc := "(I)I" } : Jvm.MethodName)) ∈ lw_tbl := lw_at lw_m8 42 rfl
theorem q1801 : (Jvm.Cond.instanceMethod ({ cls := "WarpMillModel", name := "freeSlots", desc := "(I)I" } : Jvm.MethodName)) ∈ lw_all := lw_g (lw_at lw_m8 43 rfl) rfl
theorem q1802 : (Jvm.Cond.code ({ cls := "WarpMillModel", name := "freeSlots", desc := "(I)I" } : Jvm.MethodName) prog_16_method_15_code (4 : Nat) (Option.some Jvm.ClassFile.FieldType.int)) ∈ lw_all := lw_g (lw_at lw_m8 44 rfl) rfl
theorem q1803 : (Jvm.Cond.methodLink "WarpMillModel" (196 : Nat) ({ cls := "WarpMillModel", name := "warps", desc := "()I" } : Jvm.MethodName)) ∈ lw_all := lw_g (lw_at lw_m8 45 rfl) rfl
theorem q1804 : (Jvm.Cond.privateMethod ({ cls := "WarpMillModel", name := "warps", desc := "()I" } : Jvm.MethodName)) ∈ lw_tbl := lw_at lw_m8 46 rfl
theorem q1805 : (Jvm.Cond.instanceMethod ({ cls := "WarpMillModel", name := "warps", desc := "()I" } : Jvm.MethodName)) ∈ lw_all := lw_g (lw_at lw_m8 47 rfl) rfl
theorem q1806 : (Jvm.Cond.code ({ cls := "WarpMillModel", name := "warps", desc := "()I" } : Jvm.MethodName) prog_16_method_14_code (1 : Nat) (Option.some Jvm.ClassFile.FieldType.int)) ∈ lw_all := lw_g (lw_at lw_m8 48 rfl) rfl
theorem q1807 : (Jvm.Cond.methodLink "WarpMillModel" (200 : Nat) ({ cls := "WarpMillModel", name := "begin", desc := "(II)V" } : Jvm.MethodName)) ∈ lw_all := lw_g (lw_at lw_m8 49 rfl) rfl
theorem q1808 : (Jvm.Cond.privateMethod ({ cls := "WarpMillModel", name := "begin", desc := "(II)V" } : Jvm.MethodName)) ∈ lw_tbl := lw_at lw_m8 50 rfl
theorem q1809 : (Jvm.Cond.instanceMethod ({ cls := "WarpMillModel", name := "begin", desc := "(II)V" } : Jvm.MethodName)) ∈ lw_all := lw_g (lw_at lw_m8 51 rfl) rfl
theorem q1810 : (Jvm.Cond.code ({ cls := "WarpMillModel", name := "begin", desc := "(II)V" } : Jvm.MethodName) prog_16_method_17_code (6 : Nat) (Option.none : Option Jvm.ClassFile.FieldType)) ∈ lw_all := lw_g (lw_at lw_m8 52 rfl) rfl
theorem q1811 : (Jvm.Cond.methodLink "WarpMillModel" (204 : Nat) ({ cls := "WarpMillModel", name := "beginWarp", desc := "(I)V" } : Jvm.MethodName)) ∈ lw_all := lw_g (lw_at lw_m8 53 rfl) rfl
theorem q1812 : (Jvm.Cond.privateMethod ({ cls := "WarpMillModel", name := "beginWarp", desc := "(I)V" } : Jvm.MethodName)) ∈ lw_tbl := lw_at lw_m8 54 rfl
theorem q1813 : (Jvm.Cond.instanceMethod ({ cls := "WarpMillModel", name := "beginWarp", desc := "(I)V" } : Jvm.MethodName)) ∈ lw_all := lw_g (lw_at lw_m8 55 rfl) rfl
theorem q1814 : (Jvm.Cond.code ({ cls := "WarpMillModel", name := "beginWarp", desc := "(I)V" } : Jvm.MethodName) prog_16_method_18_code (4 : Nat) (Option.none : Option Jvm.ClassFile.FieldType)) ∈ lw_all := lw_g (lw_at lw_m8 56 rfl) rfl
theorem q1815 : (Jvm.Cond.methodLink "WarpMillModel" (365 : Nat) ({ cls := "WarpMillModel", name := "unitGoes", desc := "(I)V" } : Jvm.MethodName)) ∈ lw_all := lw_g (lw_at lw_m8 57 rfl) rfl
theorem q1816 : (Jvm.Cond.privateMethod ({ cls := "WarpMillModel", name := "unitGoes", desc := "(I)V" } : Jvm.MethodName)) ∈ lw_tbl := lw_at lw_m8 58 rfl
theorem q1817 : (Jvm.Cond.instanceMethod ({ cls := "WarpMillModel", name := "unitGoes", desc := "(I)V" } : Jvm.MethodName)) ∈ lw_all := lw_g (lw_at lw_m8 59 rfl) rfl
theorem q1818 : (Jvm.Cond.code ({ cls := "WarpMillModel", name := "unitGoes", desc := "(I)V" } : Jvm.MethodName) prog_16_method_35_code (4 : Nat) (Option.none : Option Jvm.ClassFile.FieldType)) ∈ lw_all := lw_g (lw_at lw_m8 60 rfl) rfl
theorem q1819 : (Jvm.Cond.methodLink "WarpMillModel" (278 : Nat) ({ cls := "WarpMillModel", name := "isReady", desc := "(II)Z" } : Jvm.MethodName)) ∈ lw_all := lw_g (lw_at lw_m8 61 rfl) rfl
theorem q1820 : (Jvm.Cond.privateMethod ({ cls := "WarpMillModel", name := "isReady", desc := "(II)Z" } : Jvm.MethodName)) ∈ lw_tbl := lw_at lw_m8 62 rfl
theorem q1821 : (Jvm.Cond.instanceMethod ({ cls := "WarpMillModel", name := "isReady", desc := "(II)Z" } : Jvm.MethodName)) ∈ lw_all := lw_g (lw_at lw_m8 63 rfl) rfl
theorem q1822 : (Jvm.Cond.code ({ cls := "WarpMillModel", name := "isReady", desc := "(II)Z" } : Jvm.MethodName) prog_16_method_34_code (5 : Nat) (Option.some Jvm.ClassFile.FieldType.boolean)) ∈ lw_all := lw_g (lw_at lw_m8 64 rfl) rfl
theorem q1823 : (Jvm.Cond.methodLink "WarpMillModel" (246 : Nat) ({ cls := "WarpMillModel", name := "group", desc := "(I)Z" } : Jvm.MethodName)) ∈ lw_all := lw_g (lw_at lw_m8 65 rfl) rfl
theorem q1824 : (Jvm.Cond.privateMethod ({ cls := "WarpMillModel", name := "group", desc := "(I)Z" } : Jvm.MethodName)) ∈ lw_tbl := lw_at lw_m8 66 rfl
theorem q1825 : (Jvm.Cond.instanceMethod ({ cls := "WarpMillModel", name := "group", desc := "(I)Z" } : Jvm.MethodName)) ∈ lw_all := lw_g (lw_at lw_m8 67 rfl) rfl
theorem q1826 : (Jvm.Cond.code ({ cls := "WarpMillModel", name := "group", desc := "(I)Z" } : Jvm.MethodName) prog_16_method_22_code (6 : Nat) (Option.some Jvm.ClassFile.FieldType.boolean)) ∈ lw_all := lw_g (lw_at lw_m8 68 rfl) rfl
theorem q1827 : (Jvm.Cond.methodLink "WarpMillModel" (215 : Nat) ({ cls := "WarpMillModel", name := "isAwake", desc := "(II)Z" } : Jvm.MethodName)) ∈ lw_all := lw_g (lw_at lw_m8 69 rfl) rfl
theorem q1828 : (Jvm.Cond.privateMethod ({ cls := "WarpMillModel", name := "isAwake", desc := "(II)Z" } : Jvm.MethodName)) ∈ lw_tbl := lw_at lw_m8 70 rfl
theorem q1829 : (Jvm.Cond.instanceMethod ({ cls := "WarpMillModel", name := "isAwake", desc := "(II)Z" } : Jvm.MethodName)) ∈ lw_all := lw_g (lw_at lw_m8 71 rfl) rfl
theorem q1830 : (Jvm.Cond.code ({ cls := "WarpMillModel", name := "isAwake", desc := "(II)Z" } : Jvm.MethodName) prog_16_method_21_code (3 : Nat) (Option.some Jvm.ClassFile.FieldType.boolean)) ∈ lw_all := lw_g (lw_at lw_m8 72 rfl) rfl
theorem q1831 : (Jvm.Cond.methodLink "WarpMillModel" (208 : Nat) ({ cls := "WarpMillModel", name := "isLane", desc := "(II)Z" } : Jvm.MethodName)) ∈ lw_all := lw_g (lw_at lw_m8 73 rfl) rfl
theorem q1832 : (Jvm.Cond.privateMethod ({ cls := "WarpMillModel", name := "isLane", desc := "(II)Z" } : Jvm.MethodName)) ∈ lw_tbl := lw_at lw_m8 74 rfl
theorem q1833 : (Jvm.Cond.instanceMethod ({ cls := "WarpMillModel", name := "isLane", desc := "(II)Z" } : Jvm.MethodName)) ∈ lw_all := lw_g (lw_at lw_m8 75 rfl) rfl
theorem q1834 : (Jvm.Cond.code ({ cls := "WarpMillModel", name := "isLane", desc := "(II)Z" } : Jvm.MethodName) prog_16_method_20_code (3 : Nat) (Option.some Jvm.ClassFile.FieldType.boolean)) ∈ lw_all := lw_g (lw_at lw_m8 76 rfl) rfl
theorem q1835 : (Jvm.Cond.methodLink "WarpMillModel" (250 : Nat) ({ cls := "WarpMillModel", name := "firstOfGroup", desc := "()I" } : Jvm.MethodName)) ∈ lw_all := lw_g (lw_at lw_m8 77 rfl) rfl
theorem q1836 : (Jvm.Cond.privateMethod ({ cls := "WarpMillModel", name := "firstOfGroup", desc := "()I" } : Jvm.MethodName)) ∈ lw_tbl := lw_at lw_m8 78 rfl
theorem q1837 : (Jvm.Cond.instanceMethod ({ cls := "WarpMillModel", name := "firstOfGroup", desc := "()I" } : Jvm.MethodName)) ∈ lw_all := lw_g (lw_at lw_m8 79 rfl) rfl
theorem q1838 : (Jvm.Cond.code ({ cls := "WarpMillModel", name := "firstOfGroup", desc := "()I" } : Jvm.MethodName) prog_16_method_23_code (2 : Nat) (Option.some Jvm.ClassFile.FieldType.int)) ∈ lw_all := lw_g (lw_at lw_m8 80 rfl) rfl
theorem q1839 : (Jvm.Cond.methodLink "WarpMillModel" (253 : Nat) ({ cls := "WarpMillModel", name := "take", desc := "(J)V" } : Jvm.MethodName)) ∈ lw_all := lw_g (lw_at lw_m8 81 rfl) rfl
theorem q1840 : (Jvm.Cond.privateMethod ({ cls := "WarpMillModel", name := "take", desc := "(J)V" } : Jvm.MethodName)) ∈ lw_tbl := lw_at lw_m8 82 rfl
theorem q1841 : (Jvm.Cond.instanceMethod ({ cls := "WarpMillModel", name := "take", desc := "(J)V" } : Jvm.MethodName)) ∈ lw_all := lw_g (lw_at lw_m8 83 rfl) rfl
theorem q1842 : (Jvm.Cond.code ({ cls := "WarpMillModel", name := "take", desc := "(J)V" } : Jvm.MethodName) prog_16_method_24_code (3 : Nat) (Option.none : Option Jvm.ClassFile.FieldType)) ∈ lw_all := lw_g (lw_at lw_m8 84 rfl) rfl
theorem q1843 : (Jvm.Cond.constantLong "WarpMillModel" (218 : Nat) (255 : Int64)) ∈ lw_all := lw_g (lw_at lw_m8 85 rfl) rfl
theorem q1844 : (Jvm.Cond.constantLong "WarpMillModel" (223 : Nat) (15 : Int64)) ∈ lw_all := lw_g (lw_at lw_m8 86 rfl) rfl
theorem q1845 : (Jvm.Cond.methodLink "WarpMillModel" (257 : Nat) ({ cls := "WarpMillModel", name := "isWord", desc := "()Z" } : Jvm.MethodName)) ∈ lw_all := lw_g (lw_at lw_m8 87 rfl) rfl
theorem q1846 : (Jvm.Cond.privateMethod ({ cls := "WarpMillModel", name := "isWord", desc := "()Z" } : Jvm.MethodName)) ∈ lw_tbl := lw_at lw_m8 88 rfl
theorem q1847 : (Jvm.Cond.instanceMethod ({ cls := "WarpMillModel", name := "isWord", desc := "()Z" } : Jvm.MethodName)) ∈ lw_all := lw_g (lw_at lw_m8 89 rfl) rfl
theorem q1848 : (Jvm.Cond.code ({ cls := "WarpMillModel", name := "isWord", desc := "()Z" } : Jvm.MethodName) prog_16_method_25_code (1 : Nat) (Option.some Jvm.ClassFile.FieldType.boolean)) ∈ lw_all := lw_g (lw_at lw_m8 90 rfl) rfl
theorem q1849 : (Jvm.Cond.methodLink "WarpMillModel" (260 : Nat) ({ cls := "WarpMillModel", name := "isPredicateThere", desc := "(II)Z" } : Jvm.MethodName)) ∈ lw_all := lw_g (lw_at lw_m8 91 rfl) rfl
theorem q1850 : (Jvm.Cond.privateMethod ({ cls := "WarpMillModel", name := "isPredicateThere", desc := "(II)Z" } : Jvm.MethodName)) ∈ lw_tbl := lw_at lw_m8 92 rfl
theorem q1851 : (Jvm.Cond.instanceMethod ({ cls := "WarpMillModel", name := "isPredicateThere", desc := "(II)Z" } : Jvm.MethodName)) ∈ lw_all := lw_g (lw_at lw_m8 93 rfl) rfl
theorem q1852 : (Jvm.Cond.code ({ cls := "WarpMillModel", name := "isPredicateThere", desc := "(II)Z" } : Jvm.MethodName) prog_16_method_33_code (3 : Nat) (Option.some Jvm.ClassFile.FieldType.boolean)) ∈ lw_all := lw_g (lw_at lw_m8 94 rfl) rfl
theorem q1853 : (Jvm.Cond.methodLink "WarpMillModel" (243 : Nat) ({ cls := "WarpMillModel", name := "isThere", desc := "(II)Z" } : Jvm.MethodName)) ∈ lw_all := lw_g (lw_at lw_m8 95 rfl) rfl
theorem q1854 : (Jvm.Cond.privateMethod ({ cls := "WarpMillModel", name := "isThere", desc := "(II)Z" } : Jvm.MethodName)) ∈ lw_tbl := lw_at lw_m8 96 rfl
theorem q1855 : (Jvm.Cond.instanceMethod ({ cls := "WarpMillModel", name := "isThere", desc := "(II)Z" } : Jvm.MethodName)) ∈ lw_all := lw_g (lw_at lw_m8 97 rfl) rfl
theorem q1856 : (Jvm.Cond.code ({ cls := "WarpMillModel", name := "isThere", desc := "(II)Z" } : Jvm.MethodName) prog_16_method_32_code (3 : Nat) (Option.some Jvm.ClassFile.FieldType.boolean)) ∈ lw_all := lw_g (lw_at lw_m8 98 rfl) rfl
theorem q1857 : (Jvm.Cond.methodLink "WarpMillModel" (263 : Nat) ({ cls := "WarpMillModel", name := "readsA", desc := "()Z" } : Jvm.MethodName)) ∈ lw_all := lw_g (lw_at lw_m8 99 rfl) rfl
theorem q1858 : (Jvm.Cond.privateMethod ({ cls := "WarpMillModel", name := "readsA", desc := "()Z" } : Jvm.MethodName)) ∈ lw_tbl := lw_at lw_m8 100 rfl
theorem q1859 : (Jvm.Cond.instanceMethod ({ cls := "WarpMillModel", name := "readsA", desc := "()Z" } : Jvm.MethodName)) ∈ lw_all := lw_g (lw_at lw_m8 101 rfl) rfl
theorem q1860 : (Jvm.Cond.code ({ cls := "WarpMillModel", name := "readsA", desc := "()Z" } : Jvm.MethodName) prog_16_method_28_code (1 : Nat) (Option.some Jvm.ClassFile.FieldType.boolean)) ∈ lw_all := lw_g (lw_at lw_m8 102 rfl) rfl
theorem q1861 : (Jvm.Cond.methodLink "WarpMillModel" (240 : Nat) ({ cls := "WarpMillModel", name := "isMemory", desc := "()Z" } : Jvm.MethodName)) ∈ lw_all := lw_g (lw_at lw_m8 103 rfl) rfl
theorem q1862 : (Jvm.Cond.privateMethod ({ cls := "WarpMillModel", name := "isMemory", desc := "()Z" } : Jvm.MethodName)) ∈ lw_tbl := lw_at lw_m8 104 rfl
theorem q1863 : (Jvm.Cond.instanceMethod ({ cls := "WarpMillModel", name := "isMemory", desc := "()Z" } : Jvm.MethodName)) ∈ lw_all := lw_g (lw_at lw_m8 105 rfl) rfl
theorem q1864 : (Jvm.Cond.code ({ cls := "WarpMillModel", name := "isMemory", desc := "()Z" } : Jvm.MethodName) prog_16_method_26_code (1 : Nat) (Option.some Jvm.ClassFile.FieldType.boolean)) ∈ lw_all := lw_g (lw_at lw_m8 106 rfl) rfl
theorem q1865 : (Jvm.Cond.methodLink "WarpMillModel" (266 : Nat) ({ cls := "WarpMillModel", name := "readsB", desc := "()Z" } : Jvm.MethodName)) ∈ lw_all := lw_g (lw_at lw_m8 107 rfl) rfl
theorem q1866 : (Jvm.Cond.privateMethod ({ cls := "WarpMillModel", name := "readsB", desc := "()Z" } : Jvm.MethodName)) ∈ lw_tbl := lw_at lw_m8 108 rfl
theorem q1867 : (Jvm.Cond.instanceMethod ({ cls := "WarpMillModel", name := "readsB", desc := "()Z" } : Jvm.MethodName)) ∈ lw_all := lw_g (lw_at lw_m8 109 rfl) rfl
theorem q1868 : (Jvm.Cond.code ({ cls := "WarpMillModel", name := "readsB", desc := "()Z" } : Jvm.MethodName) prog_16_method_29_code (1 : Nat) (Option.some Jvm.ClassFile.FieldType.boolean)) ∈ lw_all := lw_g (lw_at lw_m8 110 rfl) rfl
theorem q1869 : (Jvm.Cond.methodLink "WarpMillModel" (269 : Nat) ({ cls := "WarpMillModel", name := "writesD", desc := "()Z" } : Jvm.MethodName)) ∈ lw_all := lw_g (lw_at lw_m8 111 rfl) rfl
theorem q1870 : (Jvm.Cond.privateMethod ({ cls := "WarpMillModel", name := "writesD", desc := "()Z" } : Jvm.MethodName)) ∈ lw_tbl := lw_at lw_m8 112 rfl
theorem q1871 : (Jvm.Cond.instanceMethod ({ cls := "WarpMillModel", name := "writesD", desc := "()Z" } : Jvm.MethodName)) ∈ lw_all := lw_g (lw_at lw_m8 113 rfl) rfl
theorem q1872 : (Jvm.Cond.code ({ cls := "WarpMillModel", name := "writesD", desc := "()Z" } : Jvm.MethodName) prog_16_method_30_code (1 : Nat) (Option.some Jvm.ClassFile.FieldType.boolean)) ∈ lw_all := lw_g (lw_at lw_m8 114 rfl) rfl
theorem q1873 : (Jvm.Cond.methodLink "WarpMillModel" (272 : Nat) ({ cls := "WarpMillModel", name := "writesPredicate", desc := "()Z" } : Jvm.MethodName)) ∈ lw_all := lw_g (lw_at lw_m8 115 rfl) rfl
theorem q1874 : (Jvm.Cond.privateMethod ({ cls := "WarpMillModel", name := "writesPredicate", desc := "()Z" } : Jvm.MethodName)) ∈ lw_tbl := lw_at lw_m8 116 rfl
theorem q1875 : (Jvm.Cond.instanceMethod ({ cls := "WarpMillModel", name := "writesPredicate", desc := "()Z" } : Jvm.MethodName)) ∈ lw_all := lw_g (lw_at lw_m8 117 rfl) rfl
theorem q1876 : (Jvm.Cond.code ({ cls := "WarpMillModel", name := "writesPredicate", desc := "()Z" } : Jvm.MethodName) prog_16_method_31_code (1 : Nat) (Option.some Jvm.ClassFile.FieldType.boolean)) ∈ lw_all := lw_g (lw_at lw_m8 118 rfl) rfl
theorem q1877 : (Jvm.Cond.methodLink "WarpMillModel" (275 : Nat) ({ cls := "WarpMillModel", name := "isShared", desc := "()Z" } : Jvm.MethodName)) ∈ lw_all := lw_g (lw_at lw_m8 119 rfl) rfl
theorem q1878 : (Jvm.Cond.privateMethod ({ cls := "WarpMillModel", name := "isShared", desc := "()Z" } : Jvm.MethodName)) ∈ lw_tbl := lw_at lw_m8 120 rfl
theorem q1879 : (Jvm.Cond.instanceMethod ({ cls := "WarpMillModel", name := "isShared", desc := "()Z" } : Jvm.MethodName)) ∈ lw_all := lw_g (lw_at lw_m8 121 rfl) rfl
theorem q1880 : (Jvm.Cond.code ({ cls := "WarpMillModel", name := "isShared", desc := "()Z" } : Jvm.MethodName) prog_16_method_27_code (1 : Nat) (Option.some Jvm.ClassFile.FieldType.boolean)) ∈ lw_all := lw_g (lw_at lw_m8 122 rfl) rfl
theorem q1881 : (Jvm.Cond.methodLink "WarpMillModel" (281 : Nat) ({ cls := "WarpMillModel", name := "go", desc := "(II)V" } : Jvm.MethodName)) ∈ lw_all := lw_g (lw_at lw_m8 123 rfl) rfl
theorem q1882 : (Jvm.Cond.privateMethod ({ cls := "WarpMillModel", name := "go", desc := "(II)V" } : Jvm.MethodName)) ∈ lw_tbl := lw_at lw_m8 124 rfl
theorem q1883 : (Jvm.Cond.instanceMethod ({ cls := "WarpMillModel", name := "go", desc := "(II)V" } : Jvm.MethodName)) ∈ lw_all := lw_g (lw_at lw_m8 125 rfl) rfl
theorem q1884 : (Jvm.Cond.code ({ cls := "WarpMillModel", name := "go", desc := "(II)V" } : Jvm.MethodName) prog_16_method_40_code (11 : Nat) (Option.none : Option Jvm.ClassFile.FieldType)) ∈ lw_all := lw_g (lw_at lw_m8 126 rfl) rfl
theorem q1885 : (Jvm.Cond.methodLink "WarpMillModel" (287 : Nat) ({ cls := "WarpMillModel", name := "trap", desc := "(III)V" } : Jvm.MethodName)) ∈ lw_all := lw_g (lw_at lw_m8 127 rfl) rfl
theorem q1886 : (Jvm.Cond.privateMethod ({ cls := "WarpMillModel", name := "trap", desc := "(III)V" } : Jvm.MethodName)) ∈ lw_tbl := lw_at lw_m8 128 rfl
theorem q1887 : (Jvm.Cond.instanceMethod ({ cls := "WarpMillModel", name := "trap", desc := "(III)V" } : Jvm.MethodName)) ∈ lw_all := lw_g (lw_at lw_m8 129 rfl) rfl
theorem q1888 : (Jvm.Cond.code ({ cls := "WarpMillModel", name := "trap", desc := "(III)V" } : Jvm.MethodName) prog_16_method_39_code (4 : Nat) (Option.none : Option Jvm.ClassFile.FieldType)) ∈ lw_all := lw_g (lw_at lw_m8 130 rfl) rfl
theorem q1889 : (Jvm.Cond.methodLink "WarpMillModel" (291 : Nat) ({ cls := "WarpMillModel", name := "has", desc := "(II)Z" } : Jvm.MethodName)) ∈ lw_all := lw_g (lw_at lw_m8 131 rfl) rfl
theorem q1890 : (Jvm.Cond.privateMethod ({ cls := "WarpMillModel", name := "has", desc := "(II)Z" } : Jvm.MethodName)) ∈ lw_tbl := lw_at lw_m8 132 rfl
theorem q1891 : (Jvm.Cond.instanceMethod ({ cls := "WarpMillModel", name := "has", desc := "(II)Z" } : Jvm.MethodName)) ∈ lw_all := lw_g (lw_at lw_m8 133 rfl) rfl
theorem q1892 : (Jvm.Cond.code ({ cls := "WarpMillModel", name := "has", desc := "(II)Z" } : Jvm.MethodName) prog_16_method_37_code (3 : Nat) (Option.some Jvm.ClassFile.FieldType.boolean)) ∈ lw_all := lw_g (lw_at lw_m8 134 rfl) rfl
theorem q1893 : (Jvm.Cond.methodLink "WarpMillModel" (294 : Nat) ({ cls := "WarpMillModel", name := "whyNot", desc := "(I)I" } : Jvm.MethodName)) ∈ lw_all := lw_g (lw_at lw_m8 135 rfl) rfl
theorem q1894 : (Jvm.Cond.privateMethod ({ cls := "WarpMillModel", name := "whyNot", desc := "(I)I" } : Jvm.MethodName)) ∈ lw_tbl := lw_at lw_m8 136 rfl
theorem q1895 : (Jvm.Cond.instanceMethod ({ cls := "WarpMillModel", name := "whyNot", desc := "(I)I" } : Jvm.MethodName)) ∈ lw_all := lw_g (lw_at lw_m8 137 rfl) rfl
theorem q1896 : (Jvm.Cond.code ({ cls := "WarpMillModel", name := "whyNot", desc := "(I)I" } : Jvm.MethodName) prog_16_method_38_code (3 : Nat) (Option.some Jvm.ClassFile.FieldType.int)) ∈ lw_all := lw_g (lw_at lw_m8 138 rfl) rfl
theorem q1897 : (Jvm.Cond.methodLink "WarpMillModel" (284 : Nat) ({ cls := "WarpMillModel", name := "reg", desc := "(II)I" } : Jvm.MethodName)) ∈ lw_all := lw_g (lw_at lw_m8 139 rfl) rfl
theorem q1898 : (Jvm.Cond.privateMethod ({ cls := "WarpMillModel", name := "reg", desc := "(II)I" } : Jvm.MethodName)) ∈ lw_tbl := lw_at lw_m8 140 rfl
theorem q1899 : (Jvm.Cond.instanceMethod ({ cls := "WarpMillModel", name := "reg", desc := "(II)I" } : Jvm.MethodName)) ∈ lw_all := lw_g (lw_at lw_m8 141 rfl) rfl
theorem q1900 : (Jvm.Cond.code ({ cls := "WarpMillModel", name := "reg", desc := "(II)I" } : Jvm.MethodName) prog_16_method_36_code (3 : Nat) (Option.some Jvm.ClassFile.FieldType.int)) ∈ lw_all := lw_g (lw_at lw_m8 142 rfl) rfl
theorem q1901 : (Jvm.Cond.methodLink "WarpMillModel" (297 : Nat) ({ cls := "WarpMillModel", name := "time", desc := "(II)I" } : Jvm.MethodName)) ∈ lw_all := lw_g (lw_at lw_m8 143 rfl) rfl
theorem q1902 : (Jvm.Cond.privateMethod ({ cls := "WarpMillModel", name := "time", desc := "(II)I" } : Jvm.MethodName)) ∈ lw_tbl := lw_at lw_m8 144 rfl
theorem q1903 : (Jvm.Cond.instanceMethod ({ cls := "WarpMillModel", name := "time", desc := "(II)I" } : Jvm.MethodName)) ∈ lw_all := lw_g (lw_at lw_m8 145 rfl) rfl
theorem q1904 : (Jvm.Cond.code ({ cls := "WarpMillModel", name := "time", desc := "(II)I" } : Jvm.MethodName) prog_16_method_41_code (3 : Nat) (Option.some Jvm.ClassFile.FieldType.int)) ∈ lw_all := lw_g (lw_at lw_m8 146 rfl) rfl
theorem q1905 : (Jvm.Cond.methodLink "WarpMillModel" (310 : Nat) ({ cls := "WarpMillModel", name := "timeOfShared", desc := "(II)I" } : Jvm.MethodName)) ∈ lw_all := lw_g (lw_at lw_m8 147 rfl) rfl
theorem q1906 : (Jvm.Cond.privateMethod ({ cls := "WarpMillModel", name := "timeOfShared", desc := "(II)I" } : Jvm.MethodName)) ∈ lw_tbl := lw_at lw_m8 148 rfl
theorem q1907 : (Jvm.Cond.instanceMethod ({ cls := "WarpMillModel", name := "timeOfShared", desc := "(II)I" } : Jvm.MethodName)) ∈ lw_all := lw_g (lw_at lw_m8 149 rfl) rfl
theorem q1908 : (Jvm.Cond.code ({ cls := "WarpMillModel", name := "timeOfShared", desc := "(II)I" } : Jvm.MethodName) prog_16_method_44_code (7 : Nat) (Option.some Jvm.ClassFile.FieldType.int)) ∈ lw_all := lw_g (lw_at lw_m8 150 rfl) rfl
theorem q1909 : (Jvm.Cond.methodLink "WarpMillModel" (316 : Nat) ({ cls := "WarpMillModel", name := "asked", desc := "(II)I" } : Jvm.MethodName)) ∈ lw_all := lw_g (lw_at lw_m8 151 rfl) rfl
theorem q1910 : (Jvm.Cond.privateMethod ({ cls := "WarpMillModel", name := "asked", desc := "(II)I" } : Jvm.MethodName)) ∈ lw_tbl := lw_at lw_m8 152 rfl
theorem q1911 : (Jvm.Cond.instanceMethod ({ cls := "WarpMillModel", name := "asked", desc := "(II)I" } : Jvm.MethodName)) ∈ lw_all := lw_g (lw_at lw_m8 153 rfl) rfl
theorem q1912 : (Jvm.Cond.code ({ cls := "WarpMillModel", name := "asked", desc := "(II)I" } : Jvm.MethodName) prog_16_method_42_code (3 : Nat) (Option.some Jvm.ClassFile.FieldType.int)) ∈ lw_all := lw_g (lw_at lw_m8 154 rfl) rfl
theorem q1913 : (Jvm.Cond.methodLink "WarpMillModel" (319 : Nat) ({ cls := "WarpMillModel", name := "isAgain", desc := "(II)Z" } : Jvm.MethodName)) ∈ lw_all := lw_g (lw_at lw_m8 155 rfl) rfl
theorem q1914 : (Jvm.Cond.privateMethod ({ cls := "WarpMillModel", name := "isAgain", desc := "(II)Z" } : Jvm.MethodName)) ∈ lw_tbl := lw_at lw_m8 156 rfl
theorem q1915 : (Jvm.Cond.instanceMethod ({ cls := "WarpMillModel", name := "isAgain", desc := "(II)Z" } : Jvm.MethodName)) ∈ lw_all := lw_g (lw_at lw_m8 157 rfl) rfl
theorem q1916 : (Jvm.Cond.code ({ cls := "WarpMillModel", name := "isAgain", desc := "(II)Z" } : Jvm.MethodName) prog_16_method_43_code (4 : Nat) (Option.some Jvm.ClassFile.FieldType.boolean)) ∈ lw_all := lw_g (lw_at lw_m8 158 rfl) rfl
theorem q1917 : (Jvm.Cond.methodLink "WarpMillModel" (313 : Nat) ({ cls := "WarpMillModel", name := "timeOfGlobal", desc := "(I)I" } : Jvm.MethodName)) ∈ lw_all := lw_g (lw_at lw_m8 159 rfl) rfl
theorem q1918 : (Jvm.Cond.privateMethod ({ cls := "WarpMillModel", name := "timeOfGlobal", desc := "(I)I" } : Jvm.MethodName)) ∈ lw_tbl := lw_at lw_m8 160 rfl
theorem q1919 : (Jvm.Cond.instanceMethod ({ cls := "WarpMillModel", name := "timeOfGlobal", desc := "(I)I" } : Jvm.MethodName)) ∈ lw_all := lw_g (lw_at lw_m8 161 rfl) rfl
theorem q1920 : (Jvm.Cond.code ({ cls := "WarpMillModel", name := "timeOfGlobal", desc := "(I)I" } : Jvm.MethodName) prog_16_method_46_code (10 : Nat) (Option.some Jvm.ClassFile.FieldType.int)) ∈ lw_all := lw_g (lw_at lw_m8 162 rfl) rfl
theorem q1921 : (Jvm.Cond.methodLink "WarpMillModel" (322 : Nat) ({ cls := "WarpMillModel", name := "isLineAgain", desc := "(II)Z" } : Jvm.MethodName)) ∈ lw_all := lw_g (lw_at lw_m8 163 rfl) rfl
theorem q1922 : (Jvm.Cond.privateMethod ({ cls := "WarpMillModel", name := "isLineAgain", desc := "(II)Z" } : Jvm.MethodName)) ∈ lw_tbl := lw_at lw_m8 164 rfl
theorem q1923 : (Jvm.Cond.instanceMethod ({ cls := "WarpMillModel", name := "isLineAgain", desc := "(II)Z" } : Jvm.MethodName)) ∈ lw_all := lw_g (lw_at lw_m8 165 rfl) rfl
theorem q1924 : (Jvm.Cond.code ({ cls := "WarpMillModel", name := "isLineAgain", desc := "(II)Z" } : Jvm.MethodName) prog_16_method_45_code (4 : Nat) (Option.some Jvm.ClassFile.FieldType.boolean)) ∈ lw_all := lw_g (lw_at lw_m8 166 rfl) rfl
theorem q1925 : (Jvm.Cond.methodLink "WarpMillModel" (300 : Nat) ({ cls := "WarpMillModel", name := "together", desc := "(I)V" } : Jvm.MethodName)) ∈ lw_all := lw_g (lw_at lw_m8 167 rfl) rfl
theorem q1926 : (Jvm.Cond.privateMethod ({ cls := "WarpMillModel", name := "together", desc := "(I)V" } : Jvm.MethodName)) ∈ lw_tbl := lw_at lw_m8 168 rfl
theorem q1927 : (Jvm.Cond.instanceMethod ({ cls := "WarpMillModel", name := "together", desc := "(I)V" } : Jvm.MethodName)) ∈ lw_all := lw_g (lw_at lw_m8 169 rfl) rfl
theorem q1928 : (Jvm.Cond.code ({ cls := "WarpMillModel", name := "together", desc := "(I)V" } : Jvm.MethodName) prog_16_method_47_code (4 : Nat) (Option.none : Option Jvm.ClassFile.FieldType)) ∈ lw_all := lw_g (lw_at lw_m8 170 rfl) rfl
theorem q1929 : (Jvm.Cond.methodLink "WarpMillModel" (303 : Nat) ({ cls := "WarpMillModel", name := "act", desc := "(IIII)V" } : Jvm.MethodName)) ∈ lw_all := lw_g (lw_at lw_m8 171 rfl) rfl
theorem q1930 : (Jvm.Cond.privateMethod ({ cls := "WarpMillModel", name := "act", desc := "(IIII)V" } : Jvm.MethodName)) ∈ lw_tbl := lw_at lw_m8 172 rfl
theorem q1931 : (Jvm.Cond.instanceMethod ({ cls := "WarpMillModel", name := "act", desc := "(IIII)V" } : Jvm.MethodName)) ∈ lw_all := lw_g (lw_at lw_m8 173 rfl) rfl
theorem q1932 : (Jvm.Cond.code ({ cls := "WarpMillModel", name := "act", desc := "(IIII)V" } : Jvm.MethodName) prog_16_method_51_code (8 : Nat) (Option.none : Option Jvm.ClassFile.FieldType)) ∈ lw_all := lw_g (lw_at lw_m8 174 rfl) rfl
theorem q1933 : (Jvm.Cond.methodLink "WarpMillModel" (328 : Nat) ({ cls := "WarpMillModel", name := "told", desc := "(II)I" } : Jvm.MethodName)) ∈ lw_all := lw_g (lw_at lw_m8 175 rfl) rfl
theorem q1934 : (Jvm.Cond.privateMethod ({ cls := "WarpMillModel", name := "told", desc := "(II)I" } : Jvm.MethodName)) ∈ lw_tbl := lw_at lw_m8 176 rfl
theorem q1935 : (Jvm.Cond.instanceMethod ({ cls := "WarpMillModel", name := "told", desc := "(II)I" } : Jvm.MethodName)) ∈ lw_all := lw_g (lw_at lw_m8 177 rfl) rfl
theorem q1936 : (Jvm.Cond.code ({ cls := "WarpMillModel", name := "told", desc := "(II)I" } : Jvm.MethodName) prog_16_method_50_code (3 : Nat) (Option.some Jvm.ClassFile.FieldType.int)) ∈ lw_all := lw_g (lw_at lw_m8 178 rfl) rfl
theorem q1937 : (Jvm.Cond.methodLink "WarpMillModel" (331 : Nat) ({ cls := "WarpMillModel", name := "reckon", desc := "(III)I" } : Jvm.MethodName)) ∈ lw_all := lw_g (lw_at lw_m8 179 rfl) rfl
theorem q1938 : (Jvm.Cond.privateMethod ({ cls := "WarpMillModel", name := "reckon", desc := "(III)I" } : Jvm.MethodName)) ∈ lw_tbl := lw_at lw_m8 180 rfl
theorem q1939 : (Jvm.Cond.instanceMethod ({ cls := "WarpMillModel", name := "reckon", desc := "(III)I" } : Jvm.MethodName)) ∈ lw_all := lw_g (lw_at lw_m8 181 rfl) rfl
theorem q1940 : (Jvm.Cond.code ({ cls := "WarpMillModel", name := "reckon", desc := "(III)I" } : Jvm.MethodName) prog_16_method_49_code (4 : Nat) (Option.some Jvm.ClassFile.FieldType.int)) ∈ lw_all := lw_g (lw_at lw_m8 182 rfl) rfl
theorem q1941 : (Jvm.Cond.methodLink "WarpMillModel" (335 : Nat) ({ cls := "WarpMillModel", name := "say", desc := "(IZ)V" } : Jvm.MethodName)) ∈ lw_all := lw_g (lw_at lw_m8 183 rfl) rfl
theorem q1942 : (Jvm.Cond.privateMethod ({ cls := "WarpMillModel", name := "say", desc := "(IZ)V" } : Jvm.MethodName)) ∈ lw_tbl := lw_at lw_m8 184 rfl
theorem q1943 : (Jvm.Cond.instanceMethod ({ cls := "WarpMillModel", name := "say", desc := "(IZ)V" } : Jvm.MethodName)) ∈ lw_all := lw_g (lw_at lw_m8 185 rfl) rfl
theorem q1944 : (Jvm.Cond.code ({ cls := "WarpMillModel", name := "say", desc := "(IZ)V" } : Jvm.MethodName) prog_16_method_48_code (4 : Nat) (Option.none : Option Jvm.ClassFile.FieldType)) ∈ lw_all := lw_g (lw_at lw_m8 186 rfl) rfl
theorem q1945 : (Jvm.Cond.methodLink "WarpMillModel" (339 : Nat) ({ cls := "WarpMillModel", name := "jump", desc := "(IIII)V" } : Jvm.MethodName)) ∈ lw_all := lw_g (lw_at lw_m8 187 rfl) rfl
theorem q1946 : (Jvm.Cond.privateMethod ({ cls := "WarpMillModel", name := "jump", desc := "(IIII)V" } : Jvm.MethodName)) ∈ lw_tbl := lw_at lw_m8 188 rfl
theorem q1947 : (Jvm.Cond.instanceMethod ({ cls := "WarpMillModel", name := "jump", desc := "(IIII)V" } : Jvm.MethodName)) ∈ lw_all := lw_g (lw_at lw_m8 189 rfl) rfl
theorem q1948 : (Jvm.Cond.code ({ cls := "WarpMillModel", name := "jump", desc := "(IIII)V" } : Jvm.MethodName) prog_16_method_52_code (5 : Nat) (Option.none : Option Jvm.ClassFile.FieldType)) ∈ lw_all := lw_g (lw_at lw_m8 190 rfl) rfl
theorem q1949 : (Jvm.Cond.methodLink "WarpMillModel" (342 : Nat) ({ cls := "WarpMillModel", name := "ask", desc := "(IIIII)V" } : Jvm.MethodName)) ∈ lw_all := lw_g (lw_at lw_m8 191 rfl) rfl
theorem q1950 : (Jvm.Cond.privateMethod ({ cls := "WarpMillModel", name := "ask", desc := "(IIIII)V" } : Jvm.MethodName)) ∈ lw_tbl := lw_at lw_m8 192 rfl
theorem q1951 : (Jvm.Cond.instanceMethod ({ cls := "WarpMillModel", name := "ask", desc := "(IIIII)V" } : Jvm.MethodName)) ∈ lw_all := lw_g (lw_at lw_m8 193 rfl) rfl
theorem q1952 : (Jvm.Cond.code ({ cls := "WarpMillModel", name := "ask", desc := "(IIIII)V" } : Jvm.MethodName) prog_16_method_56_code (6 : Nat) (Option.none : Option Jvm.ClassFile.FieldType)) ∈ lw_all := lw_g (lw_at lw_m8 194 rfl) rfl
theorem q1953 : (Jvm.Cond.methodLink "WarpMillModel" (346 : Nat) ({ cls := "WarpMillModel", name := "touch", desc := "(IIII)V" } : Jvm.MethodName)) ∈ lw_all := lw_g (lw_at lw_m8 195 rfl) rfl
theorem q1954 : (Jvm.Cond.privateMethod ({ cls := "WarpMillModel", name := "touch", desc := "(IIII)V" } : Jvm.MethodName)) ∈ lw_tbl := lw_at lw_m8 196 rfl
theorem q1955 : (Jvm.Cond.instanceMethod ({ cls := "WarpMillModel", name := "touch", desc := "(IIII)V" } : Jvm.MethodName)) ∈ lw_all := lw_g (lw_at lw_m8 197 rfl) rfl
theorem q1956 : (Jvm.Cond.code ({ cls := "WarpMillModel", name := "touch", desc := "(IIII)V" } : Jvm.MethodName) prog_16_method_55_code (7 : Nat) (Option.none : Option Jvm.ClassFile.FieldType)) ∈ lw_all := lw_g (lw_at lw_m8 198 rfl) rfl
theorem q1957 : (Jvm.Cond.methodLink "WarpMillModel" (349 : Nat) ({ cls := "WarpMillModel", name := "from", desc := "(I)I" } : Jvm.MethodName)) ∈ lw_all := lw_g (lw_at lw_m8 199 rfl) rfl
theorem q1958 : (Jvm.Cond.privateMethod ({ cls := "WarpMillModel", name := "from", desc := "(I)I" } : Jvm.MethodName)) ∈ lw_tbl := lw_at lw_m8 200 rfl
theorem q1959 : (Jvm.Cond.instanceMethod ({ cls := "WarpMillModel", name := "from", desc := "(I)I" } : Jvm.MethodName)) ∈ lw_all := lw_g (lw_at lw_m8 201 rfl) rfl
theorem q1960 : (Jvm.Cond.code ({ cls := "WarpMillModel", name := "from", desc := "(I)I" } : Jvm.MethodName) prog_16_method_53_code (3 : Nat) (Option.some Jvm.ClassFile.FieldType.int)) ∈ lw_all := lw_g (lw_at lw_m8 202 rfl) rfl
theorem q1961 : (Jvm.Cond.methodLink "WarpMillModel" (307 : Nat) ({ cls := "WarpMillModel", name := "settle", desc := "(I)V" } : Jvm.MethodName)) ∈ lw_all := lw_g (lw_at lw_m8 203 rfl) rfl
theorem q1962 : (Jvm.Cond.privateMethod ({ cls := "WarpMillModel", name := "settle", desc := "(I)V" } : Jvm.MethodName)) ∈ lw_tbl := lw_at lw_m8 204 rfl
theorem q1963 : (Jvm.Cond.instanceMethod ({ cls := "WarpMillModel", name := "settle", desc := "(I)V" } : Jvm.MethodName)) ∈ lw_all := lw_g (lw_at lw_m8 205 rfl) rfl
theorem q1964 : (Jvm.Cond.code ({ cls := "WarpMillModel", name := "settle", desc := "(I)V" } : Jvm.MethodName) prog_16_method_59_code (7 : Nat) (Option.none : Option Jvm.ClassFile.FieldType)) ∈ lw_all := lw_g (lw_at lw_m8 206 rfl) rfl
theorem q1966 : (Jvm.Cond.instanceMethod ({ cls := "WarpMillModel", name := "stop", desc := "()Z" } : Jvm.MethodName)) ∈ lw_all := lw_g (lw_at lw_m8 208 rfl) rfl
theorem q1967 : (Jvm.Cond.selects "WarpMillModel" ({ cls := "WarpMillModel", name := "stop", desc := "()Z" } : Jvm.MethodName) ({ cls := "WarpMillModel", name := "stop", desc := "()Z" } : Jvm.MethodName)) ∈ lw_all := lw_g (lw_at lw_m8 209 rfl) rfl
theorem q1968 : (Jvm.Cond.code ({ cls := "WarpMillModel", name := "stop", desc := "()Z" } : Jvm.MethodName) prog_16_method_62_code (1 : Nat) (Option.some Jvm.ClassFile.FieldType.boolean)) ∈ lw_all := lw_g (lw_at lw_m8 210 rfl) rfl
theorem q1970 : (Jvm.Cond.instanceMethod ({ cls := "WarpMillModel", name := "global", desc := "(I)I" } : Jvm.MethodName)) ∈ lw_all := lw_g (lw_at lw_m8 212 rfl) rfl
theorem q1971 : (Jvm.Cond.selects "WarpMillModel" ({ cls := "WarpMillModel", name := "global", desc := "(I)I" } : Jvm.MethodName) ({ cls := "WarpMillModel", name := "global", desc := "(I)I" } : Jvm.MethodName)) ∈ lw_all := lw_g (lw_at lw_m8 213 rfl) rfl
theorem q1972 : (Jvm.Cond.code ({ cls := "WarpMillModel", name := "global", desc := "(I)I" } : Jvm.MethodName) prog_16_method_63_code (2 : Nat) (Option.some Jvm.ClassFile.FieldType.int)) ∈ lw_all := lw_g (lw_at lw_m8 214 rfl) rfl
theorem q1974 : (Jvm.Cond.instanceMethod ({ cls := "WarpMillModel", name := "state", desc := "(I)I" } : Jvm.MethodName)) ∈ lw_all := lw_g (lw_at lw_m8 216 rfl) rfl
theorem q1975 : (Jvm.Cond.selects "WarpMillModel" ({ cls := "WarpMillModel", name := "state", desc := "(I)I" } : Jvm.MethodName) ({ cls := "WarpMillModel", name := "state", desc := "(I)I" } : Jvm.MethodName)) ∈ lw_all := lw_g (lw_at lw_m8 217 rfl) rfl
theorem q1976 : (Jvm.Cond.code ({ cls := "WarpMillModel", name := "state", desc := "(I)I" } : Jvm.MethodName) prog_16_method_64_code (2 : Nat) (Option.some Jvm.ClassFile.FieldType.int)) ∈ lw_all := lw_g (lw_at lw_m8 218 rfl) rfl
theorem q1978 : (Jvm.Cond.instanceMethod ({ cls := "WarpMillModel", name := "unit", desc := "(II)I" } : Jvm.MethodName)) ∈ lw_all := lw_g (lw_at lw_m8 220 rfl) rfl
theorem q1979 : (Jvm.Cond.selects "WarpMillModel" ({ cls := "WarpMillModel", name := "unit", desc := "(II)I" } : Jvm.MethodName) ({ cls := "WarpMillModel", name := "unit", desc := "(II)I" } : Jvm.MethodName)) ∈ lw_all := lw_g (lw_at lw_m8 221 rfl) rfl
theorem q1980 : (Jvm.Cond.code ({ cls := "WarpMillModel", name := "unit", desc := "(II)I" } : Jvm.MethodName) prog_16_method_65_code (3 : Nat) (Option.some Jvm.ClassFile.FieldType.int)) ∈ lw_all := lw_g (lw_at lw_m8 222 rfl) rfl
theorem q1982 : (Jvm.Cond.instanceMethod ({ cls := "WarpMillModel", name := "cached", desc := "(II)I" } : Jvm.MethodName)) ∈ lw_all := lw_g (lw_at lw_m8 224 rfl) rfl
theorem q1983 : (Jvm.Cond.selects "WarpMillModel" ({ cls := "WarpMillModel", name := "cached", desc := "(II)I" } : Jvm.MethodName) ({ cls := "WarpMillModel", name := "cached", desc := "(II)I" } : Jvm.MethodName)) ∈ lw_all := lw_g (lw_at lw_m8 225 rfl) rfl
theorem q1984 : (Jvm.Cond.code ({ cls := "WarpMillModel", name := "cached", desc := "(II)I" } : Jvm.MethodName) prog_16_method_66_code (3 : Nat) (Option.some Jvm.ClassFile.FieldType.int)) ∈ lw_all := lw_g (lw_at lw_m8 226 rfl) rfl
theorem q1986 : (Jvm.Cond.instanceMethod ({ cls := "WarpMillModel", name := "slot", desc := "(III)I" } : Jvm.MethodName)) ∈ lw_all := lw_g (lw_at lw_m8 228 rfl) rfl
theorem q1987 : (Jvm.Cond.selects "WarpMillModel" ({ cls := "WarpMillModel", name := "slot", desc := "(III)I" } : Jvm.MethodName) ({ cls := "WarpMillModel", name := "slot", desc := "(III)I" } : Jvm.MethodName)) ∈ lw_all := lw_g (lw_at lw_m8 229 rfl) rfl
theorem q1988 : (Jvm.Cond.code ({ cls := "WarpMillModel", name := "slot", desc := "(III)I" } : Jvm.MethodName) prog_16_method_68_code (8 : Nat) (Option.some Jvm.ClassFile.FieldType.int)) ∈ lw_all := lw_g (lw_at lw_m8 230 rfl) rfl
theorem q1989 : (Jvm.Cond.methodLink "WarpMillModel" (377 : Nat) ({ cls := "WarpMillModel", name := "isSlot", desc := "(II)Z" } : Jvm.MethodName)) ∈ lw_all := lw_g (lw_at lw_m8 231 rfl) rfl
theorem q1990 : (Jvm.Cond.privateMethod ({ cls := "WarpMillModel", name := "isSlot", desc := "(II)Z" } : Jvm.MethodName)) ∈ lw_tbl := lw_at lw_m8 232 rfl
theorem q1991 : (Jvm.Cond.instanceMethod ({ cls := "WarpMillModel", name := "isSlot", desc := "(II)Z" } : Jvm.MethodName)) ∈ lw_all := lw_g (lw_at lw_m8 233 rfl) rfl
theorem q1992 : (Jvm.Cond.code ({ cls := "WarpMillModel", name := "isSlot", desc := "(II)Z" } : Jvm.MethodName) prog_16_method_67_code (3 : Nat) (Option.some Jvm.ClassFile.FieldType.boolean)) ∈ lw_all := lw_g (lw_at lw_m8 234 rfl) rfl
theorem q1994 : (Jvm.Cond.instanceMethod ({ cls := "WarpMillModel", name := "lane", desc := "(IIII)I" } : Jvm.MethodName)) ∈ lw_all := lw_g (lw_at lw_m8 236 rfl) rfl
theorem q1995 : (Jvm.Cond.selects "WarpMillModel" ({ cls := "WarpMillModel", name := "lane", desc := "(IIII)I" } : Jvm.MethodName) ({ cls := "WarpMillModel", name := "lane", desc := "(IIII)I" } : Jvm.MethodName)) ∈ lw_all := lw_g (lw_at lw_m8 237 rfl) rfl
theorem q1996 : (Jvm.Cond.code ({ cls := "WarpMillModel", name := "lane", desc := "(IIII)I" } : Jvm.MethodName) prog_16_method_69_code (8 : Nat) (Option.some Jvm.ClassFile.FieldType.int)) ∈ lw_all := lw_g (lw_at lw_m8 238 rfl) rfl
theorem q1998 : (Jvm.Cond.instanceMethod ({ cls := "WarpMillModel", name := "shared", desc := "(II)I" } : Jvm.MethodName)) ∈ lw_all := lw_g (lw_at lw_m9 0 rfl) rfl
theorem q1999 : (Jvm.Cond.selects "WarpMillModel" ({ cls := "WarpMillModel", name := "shared", desc := "(II)I" } : Jvm.MethodName) ({ cls := "WarpMillModel", name := "shared", desc := "(II)I" } : Jvm.MethodName)) ∈ lw_all := lw_g (lw_at lw_m9 1 rfl) rfl
theorem q2000 : (Jvm.Cond.code ({ cls := "WarpMillModel", name := "shared", desc := "(II)I" } : Jvm.MethodName) prog_16_method_70_code (5 : Nat) (Option.some Jvm.ClassFile.FieldType.int)) ∈ lw_all := lw_g (lw_at lw_m9 2 rfl) rfl
theorem q2035 : (Jvm.Cond.castable "WarpMillModel" "java/lang/Object") ∈ lw_tbl := lw_at lw_m9 37 rfl
theorem in_X11 : ∀ w ∈ wsX110, w ∈ lw_all := lw_in wsX110 [1617, 1619, 1621, 1623, 1625, 1627, 1629, 1631, 1633, 1635, 1637, 1639, 1641, 1643, 1645, 1647, 1649, 1651, 1653, 1655, 1657, 1659, 1661, 1663, 1665, 1667, 1669, 1671, 1673, 1675, 1677, 1679, 1681, 1683, 1685, 1687, 1689, 1691, 1693, 1695, 1697, 1699, 1701, 1703, 1705, 1707, 1709, 1711, 1713, 1715, 1717, 1719, 1721, 1723, 1725, 1727, 1729, 1731, 1733, 1735] (by decide +kernel) (by decide +kernel)

/-! J19 -/
set_option maxRecDepth 100000
def RJ19 : String := "java/lang/IllegalStateException"
def TJ19 : u_T := fun k => match k with
  | 0 => ("java/lang/Throwable", "cause", "Ljava/lang/Throwable;", false)
  | 1 => ("java/lang/Throwable", "stackTrace", "[Ljava/lang/StackTraceElement;", false)
  | 2 => ("java/lang/Throwable", "suppressedExceptions", "Ljava/util/List;", false)
  | 3 => ("java/lang/Throwable", "detailMessage", "Ljava/lang/String;", false)
  | 4 => ("java/lang/Throwable", "backtrace", "Ljava/lang/Object;", false)
  | _ => ("java/lang/Throwable", "depth", "I", false)
def tyJ19 : Nat → FieldType := fun k => match k with
  | 0 => .object "java/lang/Throwable"
  | 1 => .array (.object "java/lang/StackTraceElement")
  | 2 => .object "java/util/List"
  | 3 => .object "java/lang/String"
  | 4 => .object "java/lang/Object"
  | _ => .int
abbrev wsJ190 : List Cond := u_ws RJ19 TJ19 6
theorem nmJ19 : ∀ a, a < 6 → ∀ b, b < 6 → a ≠ b → (TJ19 a).2.1 ≠ (TJ19 b).2.1 := by decide +kernel
theorem tyJ19_ok : ∀ k, k < 6 → parseFieldDescriptor (TJ19 k).2.2.1 = some (tyJ19 k) := by decide +kernel
abbrev cJ19_init : ByteArray := prog_26_method_1_code
def yJ19_init : MethodName := ⟨RJ19, "<init>", "()V"⟩
theorem q112 : (Jvm.Cond.initialized "java/lang/IllegalStateException") ∈ lw_all := lw_g (lw_at lw_m1 34 rfl) rfl
theorem q175 : (Jvm.Cond.selects "java/lang/IllegalStateException" ({ cls := "java/lang/Throwable", name := "fillInStackTrace", desc := "()Ljava/lang/Throwable;" } : Jvm.MethodName) ({ cls := "java/lang/Throwable", name := "fillInStackTrace", desc := "()Ljava/lang/Throwable;" } : Jvm.MethodName)) ∈ lw_all := lw_g (lw_at lw_m1 97 rfl) rfl
theorem q670 : (Jvm.Cond.selects "java/lang/IllegalStateException" ({ cls := "java/lang/Object", name := "getClass", desc := "()Ljava/lang/Class;" } : Jvm.MethodName) ({ cls := "java/lang/Object", name := "getClass", desc := "()Ljava/lang/Class;" } : Jvm.MethodName)) ∈ lw_all := lw_g (lw_at lw_m3 112 rfl) rfl
theorem q1045 : (Jvm.Cond.instantiable "java/lang/IllegalStateException" (6 : Nat)) ∈ lw_all := lw_g (lw_at lw_m5 7 rfl) rfl
theorem q1046 : (Jvm.Cond.castable "java/lang/IllegalStateException" "java/lang/IllegalStateException") ∈ lw_tbl := lw_at lw_m5 8 rfl
theorem q1047 : (Jvm.Cond.selects "java/lang/IllegalStateException" ({ cls := "java/lang/Throwable", name := "fillInStackTrace", desc := "(I)Ljava/lang/Throwable;" } : Jvm.MethodName) ({ cls := "java/lang/Throwable", name := "fillInStackTrace", desc := "(I)Ljava/lang/Throwable;" } : Jvm.MethodName)) ∈ lw_all := lw_g (lw_at lw_m5 9 rfl) rfl
theorem q1048 : (Jvm.Cond.lays "java/lang/IllegalStateException" "java/lang/Throwable" "cause" "Ljava/lang/Throwable;") ∈ lw_all := lw_g (lw_at lw_m5 10 rfl) rfl
theorem q1049 : (Jvm.Cond.lays "java/lang/IllegalStateException" "java/lang/Throwable" "stackTrace" "[Ljava/lang/StackTraceElement;") ∈ lw_all := lw_g (lw_at lw_m5 11 rfl) rfl
theorem q1050 : (Jvm.Cond.lays "java/lang/IllegalStateException" "java/lang/Throwable" "suppressedExceptions" "Ljava/util/List;") ∈ lw_all := lw_g (lw_at lw_m5 12 rfl) rfl
theorem q1051 : (Jvm.Cond.lays "java/lang/IllegalStateException" "java/lang/Throwable" "detailMessage" "Ljava/lang/String;") ∈ lw_all := lw_g (lw_at lw_m5 13 rfl) rfl
theorem q1052 : (Jvm.Cond.lays "java/lang/IllegalStateException" "java/lang/Throwable" "backtrace" "Ljava/lang/Object;") ∈ lw_all := lw_g (lw_at lw_m5 14 rfl) rfl
theorem q1054 : (Jvm.Cond.instanceMethod ({ cls := "java/lang/IllegalStateException", name := "<init>", desc := "()V" } : Jvm.MethodName)) ∈ lw_all := lw_g (lw_at lw_m5 16 rfl) rfl
theorem q1055 : (Jvm.Cond.code ({ cls := "java/lang/IllegalStateException", name := "<init>", desc := "()V" } : Jvm.MethodName) prog_26_method_1_code (1 : Nat) (Option.none : Option Jvm.ClassFile.FieldType)) ∈ lw_all := lw_g (lw_at lw_m5 17 rfl) rfl
theorem q1056 : (Jvm.Cond.methodLink "java/lang/IllegalStateException" (1 : Nat) ({ cls := "java/lang/RuntimeException", name := "<init>", desc := "()V" } : Jvm.MethodName)) ∈ lw_all := lw_g (lw_at lw_m5 18 rfl) rfl
theorem q1057 : (Jvm.Cond.lays "java/lang/IllegalStateException" "java/lang/Throwable" "depth" "I") ∈ lw_all := lw_g (lw_at lw_m5 19 rfl) rfl
theorem q1058 : (Jvm.Cond.superclass "java/lang/IllegalStateException" "java/lang/RuntimeException") ∈ lw_all := lw_g (lw_at lw_m5 20 rfl) rfl
theorem q2036 : (Jvm.Cond.castable "java/lang/IllegalStateException" "java/lang/Object") ∈ lw_tbl := lw_at lw_m9 38 rfl
theorem in_J19 : ∀ w ∈ wsJ190, w ∈ lw_all := lw_in wsJ190 [1048, 1049, 1050, 1051, 1052, 1057] (by decide +kernel) (by decide +kernel)

/-! X12 -/
set_option maxRecDepth 100000
def RX12 : String := "WarpMill$Block"
def TX12 : u_T := fun k => match k with
  | 0 => ("WarpMill$Block", "number", "I", false)
  | 1 => ("WarpMill$Block", "shared", "[I", true)
  | _ => ("WarpMill$Block", "warps", "Ljava/util/ArrayList;", true)
def tyX12 : Nat → FieldType := fun k => match k with
  | 0 => .int
  | 1 => .array .int
  | _ => .object "java/util/ArrayList"
abbrev wsX120 : List Cond := u_ws RX12 TX12 3
theorem nmX12 : ∀ a, a < 3 → ∀ b, b < 3 → a ≠ b → (TX12 a).2.1 ≠ (TX12 b).2.1 := by decide +kernel
theorem tyX12_ok : ∀ k, k < 3 → parseFieldDescriptor (TX12 k).2.2.1 = some (tyX12 k) := by decide +kernel
abbrev cX12_init : ByteArray := prog_3_method_1_code
def yX12_init : MethodName := ⟨RX12, "<init>", "()V"⟩
abbrev cX12_begin : ByteArray := prog_3_method_2_code
def yX12_begin : MethodName := ⟨RX12, "begin", "(I)V"⟩
abbrev cX12_look : ByteArray := prog_3_method_4_code
def yX12_look : MethodName := ⟨RX12, "look", "()V"⟩
abbrev cX12_isOver : ByteArray := prog_3_method_3_code
def yX12_isOver : MethodName := ⟨RX12, "isOver", "()Z"⟩
theorem q113 : (Jvm.Cond.initialized "WarpMill$Block") ∈ lw_all := lw_g (lw_at lw_m1 35 rfl) rfl
theorem q656 : (Jvm.Cond.selects "WarpMill$Block" ({ cls := "java/lang/Object", name := "getClass", desc := "()Ljava/lang/Class;" } : Jvm.MethodName) ({ cls := "java/lang/Object", name := "getClass", desc := "()Ljava/lang/Class;" } : Jvm.MethodName)) ∈ lw_all := lw_g (lw_at lw_m3 98 rfl) rfl
theorem q1111 : (Jvm.Cond.instantiable "WarpMill$Block" (3 : Nat)) ∈ lw_all := lw_g (lw_at lw_m5 73 rfl) rfl
theorem q1113 : (Jvm.Cond.instanceMethod ({ cls := "WarpMill$Block", name := "<init>", desc := "()V" } : Jvm.MethodName)) ∈ lw_all := lw_g (lw_at lw_m5 75 rfl) rfl
theorem q1114 : (Jvm.Cond.code ({ cls := "WarpMill$Block", name := "<init>", desc := "()V" } : Jvm.MethodName) prog_3_method_1_code (1 : Nat) (Option.none : Option Jvm.ClassFile.FieldType)) ∈ lw_all := lw_g (lw_at lw_m5 76 rfl) rfl
theorem q1115 : (Jvm.Cond.methodLink "WarpMill$Block" (3 : Nat) ({ cls := "java/lang/Object", name := "<init>", desc := "()V" } : Jvm.MethodName)) ∈ lw_all := lw_g (lw_at lw_m5 77 rfl) rfl
theorem q1116 : (Jvm.Cond.classLink "WarpMill$Block" (15 : Nat) "java/util/ArrayList") ∈ lw_all := lw_g (lw_at lw_m5 78 rfl) rfl
theorem q1117 : (Jvm.Cond.methodLink "WarpMill$Block" (17 : Nat) ({ cls := "java/util/ArrayList", name := "<init>", desc := "(I)V" } : Jvm.MethodName)) ∈ lw_all := lw_g (lw_at lw_m5 79 rfl) rfl
theorem q1118 : (Jvm.Cond.fieldLink "WarpMill$Block" (24 : Nat) "WarpMill$Block" "number" "I") ∈ lw_all := lw_g (lw_at lw_m5 80 rfl) rfl
theorem q1121 : (Jvm.Cond.fieldLink "WarpMill$Block" (9 : Nat) "WarpMill$Block" "shared" "[I") ∈ lw_all := lw_g (lw_at lw_m5 83 rfl) rfl
theorem q1124 : (Jvm.Cond.fieldLink "WarpMill$Block" (20 : Nat) "WarpMill$Block" "warps" "Ljava/util/ArrayList;") ∈ lw_all := lw_g (lw_at lw_m5 86 rfl) rfl
theorem q1127 : (Jvm.Cond.lays "WarpMill$Block" "WarpMill$Block" "number" "I") ∈ lw_all := lw_g (lw_at lw_m5 89 rfl) rfl
theorem q1128 : (Jvm.Cond.soleField "WarpMill$Block" "number") ∈ lw_all := lw_g (lw_at lw_m5 90 rfl) rfl
theorem q1129 : (Jvm.Cond.laysFinal "WarpMill$Block" "WarpMill$Block" "shared" "[I") ∈ lw_all := lw_g (lw_at lw_m5 91 rfl) rfl
theorem q1130 : (Jvm.Cond.soleField "WarpMill$Block" "shared") ∈ lw_all := lw_g (lw_at lw_m5 92 rfl) rfl
theorem q1131 : (Jvm.Cond.laysFinal "WarpMill$Block" "WarpMill$Block" "warps" "Ljava/util/ArrayList;") ∈ lw_all := lw_g (lw_at lw_m5 93 rfl) rfl
theorem q1132 : (Jvm.Cond.soleField "WarpMill$Block" "warps") ∈ lw_all := lw_g (lw_at lw_m5 94 rfl) rfl
theorem q1133 : (Jvm.Cond.superclass "WarpMill$Block" "java/lang/Object") ∈ lw_all := lw_g (lw_at lw_m5 95 rfl) rfl
theorem q1136 : (Jvm.Cond.instanceMethod ({ cls := "WarpMill$Block", name := "begin", desc := "(I)V" } : Jvm.MethodName)) ∈ lw_all := lw_g (lw_at lw_m5 98 rfl) rfl
theorem q1137 : (Jvm.Cond.selects "WarpMill$Block" ({ cls := "WarpMill$Block", name := "begin", desc := "(I)V" } : Jvm.MethodName) ({ cls := "WarpMill$Block", name := "begin", desc := "(I)V" } : Jvm.MethodName)) ∈ lw_all := lw_g (lw_at lw_m5 99 rfl) rfl
theorem q1138 : (Jvm.Cond.code ({ cls := "WarpMill$Block", name := "begin", desc := "(I)V" } : Jvm.MethodName) prog_3_method_2_code (3 : Nat) (Option.none : Option Jvm.ClassFile.FieldType)) ∈ lw_all := lw_g (lw_at lw_m5 100 rfl) rfl
theorem q1139 : (Jvm.Cond.methodLink "WarpMill$Block" (28 : Nat) ({ cls := "java/util/ArrayList", name := "clear", desc := "()V" } : Jvm.MethodName)) ∈ lw_all := lw_g (lw_at lw_m5 101 rfl) rfl
theorem q1160 : (Jvm.Cond.fieldLinkNest "WarpMill$Block" (44 : Nat) "WarpMill$Warp" "lanes" "Ljava/util/ArrayList;" "WarpMill") ∈ lw_tbl := lw_at lw_m5 122 rfl
theorem q1475 : (Jvm.Cond.instanceMethod ({ cls := "WarpMill$Block", name := "look", desc := "()V" } : Jvm.MethodName)) ∈ lw_all := lw_g (lw_at lw_m6 197 rfl) rfl
theorem q1476 : (Jvm.Cond.selects "WarpMill$Block" ({ cls := "WarpMill$Block", name := "look", desc := "()V" } : Jvm.MethodName) ({ cls := "WarpMill$Block", name := "look", desc := "()V" } : Jvm.MethodName)) ∈ lw_all := lw_g (lw_at lw_m6 198 rfl) rfl
theorem q1477 : (Jvm.Cond.code ({ cls := "WarpMill$Block", name := "look", desc := "()V" } : Jvm.MethodName) prog_3_method_4_code (2 : Nat) (Option.none : Option Jvm.ClassFile.FieldType)) ∈ lw_all := lw_g (lw_at lw_m6 199 rfl) rfl
theorem q1478 : (Jvm.Cond.methodLink "WarpMill$Block" (31 : Nat) ({ cls := "java/util/ArrayList", name := "size", desc := "()I" } : Jvm.MethodName)) ∈ lw_all := lw_g (lw_at lw_m6 200 rfl) rfl
theorem q1479 : (Jvm.Cond.methodLink "WarpMill$Block" (35 : Nat) ({ cls := "java/util/ArrayList", name := "get", desc := "(I)Ljava/lang/Object;" } : Jvm.MethodName)) ∈ lw_all := lw_g (lw_at lw_m6 201 rfl) rfl
theorem q1480 : (Jvm.Cond.classLink "WarpMill$Block" (39 : Nat) "WarpMill$Warp") ∈ lw_all := lw_g (lw_at lw_m6 202 rfl) rfl
theorem q1481 : (Jvm.Cond.methodLink "WarpMill$Block" (41 : Nat) ({ cls := "WarpMill$Warp", name := "ended", desc := "()I" } : Jvm.MethodName)) ∈ lw_all := lw_g (lw_at lw_m6 203 rfl) rfl
theorem q1482 : (Jvm.Cond.methodLink "WarpMill$Block" (47 : Nat) ({ cls := "WarpMill$Warp", name := "waiting", desc := "()I" } : Jvm.MethodName)) ∈ lw_all := lw_g (lw_at lw_m6 204 rfl) rfl
theorem q1483 : (Jvm.Cond.methodLink "WarpMill$Block" (50 : Nat) ({ cls := "WarpMill$Warp", name := "release", desc := "()V" } : Jvm.MethodName)) ∈ lw_all := lw_g (lw_at lw_m6 205 rfl) rfl
theorem q1488 : (Jvm.Cond.instanceMethod ({ cls := "WarpMill$Block", name := "isOver", desc := "()Z" } : Jvm.MethodName)) ∈ lw_all := lw_g (lw_at lw_m6 210 rfl) rfl
theorem q1489 : (Jvm.Cond.selects "WarpMill$Block" ({ cls := "WarpMill$Block", name := "isOver", desc := "()Z" } : Jvm.MethodName) ({ cls := "WarpMill$Block", name := "isOver", desc := "()Z" } : Jvm.MethodName)) ∈ lw_all := lw_g (lw_at lw_m6 211 rfl) rfl
theorem q1490 : (Jvm.Cond.code ({ cls := "WarpMill$Block", name := "isOver", desc := "()Z" } : Jvm.MethodName) prog_3_method_3_code (2 : Nat) (Option.some Jvm.ClassFile.FieldType.boolean)) ∈ lw_all := lw_g (lw_at lw_m6 212 rfl) rfl
theorem q2016 : (Jvm.Cond.castable "WarpMill$Block" "WarpMill$Block") ∈ lw_tbl := lw_at lw_m9 18 rfl
theorem q2037 : (Jvm.Cond.castable "WarpMill$Block" "java/lang/Object") ∈ lw_tbl := lw_at lw_m9 39 rfl
theorem in_X12 : ∀ w ∈ wsX120, w ∈ lw_all := lw_in wsX120 [1127, 1129, 1131] (by decide +kernel) (by decide +kernel)

/-! X13 -/
set_option maxRecDepth 100000
def RX13 : String := "WarpMill$Warp"
def TX13 : u_T := fun k => match k with
  | 0 => ("WarpMill$Warp", "block", "LWarpMill$Block;", false)
  | 1 => ("WarpMill$Warp", "number", "I", false)
  | 2 => ("WarpMill$Warp", "lanes", "Ljava/util/ArrayList;", true)
  | 3 => ("WarpMill$Warp", "ticks", "[I", true)
  | 4 => ("WarpMill$Warp", "predicateTicks", "[I", true)
  | _ => ("WarpMill$Warp", "memoryTick", "I", false)
def tyX13 : Nat → FieldType := fun k => match k with
  | 0 => .object "WarpMill$Block"
  | 1 => .int
  | 2 => .object "java/util/ArrayList"
  | 3 => .array .int
  | 4 => .array .int
  | _ => .int
abbrev wsX130 : List Cond := u_ws RX13 TX13 6
theorem nmX13 : ∀ a, a < 6 → ∀ b, b < 6 → a ≠ b → (TX13 a).2.1 ≠ (TX13 b).2.1 := by decide +kernel
theorem tyX13_ok : ∀ k, k < 6 → parseFieldDescriptor (TX13 k).2.2.1 = some (tyX13 k) := by decide +kernel
abbrev cX13_ended : ByteArray := prog_13_method_3_code
def yX13_ended : MethodName := ⟨RX13, "ended", "()I"⟩
abbrev cX13_waiting : ByteArray := prog_13_method_4_code
def yX13_waiting : MethodName := ⟨RX13, "waiting", "()I"⟩
abbrev cX13_init : ByteArray := prog_13_method_1_code
def yX13_init : MethodName := ⟨RX13, "<init>", "()V"⟩
abbrev cX13_begin : ByteArray := prog_13_method_2_code
def yX13_begin : MethodName := ⟨RX13, "begin", "(LWarpMill$Block;I)V"⟩
abbrev cX13_group : ByteArray := prog_13_method_6_code
def yX13_group : MethodName := ⟨RX13, "group", "()I"⟩
abbrev cX13_isThere : ByteArray := prog_13_method_8_code
def yX13_isThere : MethodName := ⟨RX13, "isThere", "(LWarpMill$Word;I)Z"⟩
abbrev cX13_doing : ByteArray := prog_13_method_7_code
def yX13_doing : MethodName := ⟨RX13, "doing", "(ILWarpMill$Word;)I"⟩
abbrev cX13_wrote : ByteArray := prog_13_method_9_code
def yX13_wrote : MethodName := ⟨RX13, "wrote", "(LWarpMill$Word;I)V"⟩
abbrev cX13_release : ByteArray := prog_13_method_5_code
def yX13_release : MethodName := ⟨RX13, "release", "()V"⟩
theorem q114 : (Jvm.Cond.initialized "WarpMill$Warp") ∈ lw_all := lw_g (lw_at lw_m1 36 rfl) rfl
theorem q597 : (Jvm.Cond.fieldLinkNest "WarpMill$Warp" (107 : Nat) "WarpMill$Word" "op" "I" "WarpMill") ∈ lw_tbl := lw_at lw_m3 39 rfl
theorem q600 : (Jvm.Cond.fieldLinkNest "WarpMill$Warp" (89 : Nat) "WarpMill$Word" "d" "I" "WarpMill") ∈ lw_tbl := lw_at lw_m3 42 rfl
theorem q603 : (Jvm.Cond.fieldLinkNest "WarpMill$Warp" (74 : Nat) "WarpMill$Word" "a" "I" "WarpMill") ∈ lw_tbl := lw_at lw_m3 45 rfl
theorem q606 : (Jvm.Cond.fieldLinkNest "WarpMill$Warp" (80 : Nat) "WarpMill$Word" "b" "I" "WarpMill") ∈ lw_tbl := lw_at lw_m3 48 rfl
theorem q614 : (Jvm.Cond.fieldLinkNest "WarpMill$Warp" (98 : Nat) "WarpMill$Word" "sort" "LWarpMill$Sort;" "WarpMill") ∈ lw_tbl := lw_at lw_m3 56 rfl
theorem q666 : (Jvm.Cond.selects "WarpMill$Warp" ({ cls := "java/lang/Object", name := "getClass", desc := "()Ljava/lang/Class;" } : Jvm.MethodName) ({ cls := "java/lang/Object", name := "getClass", desc := "()Ljava/lang/Class;" } : Jvm.MethodName)) ∈ lw_all := lw_g (lw_at lw_m3 108 rfl) rfl
theorem q1014 : (Jvm.Cond.instanceMethod ({ cls := "WarpMill$Warp", name := "ended", desc := "()I" } : Jvm.MethodName)) ∈ lw_all := lw_g (lw_at lw_m4 216 rfl) rfl
theorem q1015 : (Jvm.Cond.selects "WarpMill$Warp" ({ cls := "WarpMill$Warp", name := "ended", desc := "()I" } : Jvm.MethodName) ({ cls := "WarpMill$Warp", name := "ended", desc := "()I" } : Jvm.MethodName)) ∈ lw_all := lw_g (lw_at lw_m4 217 rfl) rfl
theorem q1016 : (Jvm.Cond.code ({ cls := "WarpMill$Warp", name := "ended", desc := "()I" } : Jvm.MethodName) prog_13_method_3_code (3 : Nat) (Option.some Jvm.ClassFile.FieldType.int)) ∈ lw_all := lw_g (lw_at lw_m4 218 rfl) rfl
theorem q1017 : (Jvm.Cond.methodLink "WarpMill$Warp" (41 : Nat) ({ cls := "java/util/ArrayList", name := "size", desc := "()I" } : Jvm.MethodName)) ∈ lw_all := lw_g (lw_at lw_m4 219 rfl) rfl
theorem q1018 : (Jvm.Cond.methodLink "WarpMill$Warp" (45 : Nat) ({ cls := "java/util/ArrayList", name := "get", desc := "(I)Ljava/lang/Object;" } : Jvm.MethodName)) ∈ lw_all := lw_g (lw_at lw_m4 220 rfl) rfl
theorem q1019 : (Jvm.Cond.classLink "WarpMill$Warp" (49 : Nat) "WarpMill$Lane") ∈ lw_all := lw_g (lw_at lw_m4 221 rfl) rfl
theorem q1021 : (Jvm.Cond.instanceMethod ({ cls := "WarpMill$Warp", name := "waiting", desc := "()I" } : Jvm.MethodName)) ∈ lw_all := lw_g (lw_at lw_m4 223 rfl) rfl
theorem q1022 : (Jvm.Cond.selects "WarpMill$Warp" ({ cls := "WarpMill$Warp", name := "waiting", desc := "()I" } : Jvm.MethodName) ({ cls := "WarpMill$Warp", name := "waiting", desc := "()I" } : Jvm.MethodName)) ∈ lw_all := lw_g (lw_at lw_m4 224 rfl) rfl
theorem q1023 : (Jvm.Cond.code ({ cls := "WarpMill$Warp", name := "waiting", desc := "()I" } : Jvm.MethodName) prog_13_method_4_code (3 : Nat) (Option.some Jvm.ClassFile.FieldType.int)) ∈ lw_all := lw_g (lw_at lw_m4 225 rfl) rfl
theorem q1145 : (Jvm.Cond.instantiable "WarpMill$Warp" (6 : Nat)) ∈ lw_all := lw_g (lw_at lw_m5 107 rfl) rfl
theorem q1147 : (Jvm.Cond.instanceMethod ({ cls := "WarpMill$Warp", name := "<init>", desc := "()V" } : Jvm.MethodName)) ∈ lw_all := lw_g (lw_at lw_m5 109 rfl) rfl
theorem q1148 : (Jvm.Cond.code ({ cls := "WarpMill$Warp", name := "<init>", desc := "()V" } : Jvm.MethodName) prog_13_method_1_code (1 : Nat) (Option.none : Option Jvm.ClassFile.FieldType)) ∈ lw_all := lw_g (lw_at lw_m5 110 rfl) rfl
theorem q1149 : (Jvm.Cond.methodLink "WarpMill$Warp" (3 : Nat) ({ cls := "java/lang/Object", name := "<init>", desc := "()V" } : Jvm.MethodName)) ∈ lw_all := lw_g (lw_at lw_m5 111 rfl) rfl
theorem q1150 : (Jvm.Cond.classLink "WarpMill$Warp" (9 : Nat) "java/util/ArrayList") ∈ lw_all := lw_g (lw_at lw_m5 112 rfl) rfl
theorem q1151 : (Jvm.Cond.methodLink "WarpMill$Warp" (11 : Nat) ({ cls := "java/util/ArrayList", name := "<init>", desc := "(I)V" } : Jvm.MethodName)) ∈ lw_all := lw_g (lw_at lw_m5 113 rfl) rfl
theorem q1152 : (Jvm.Cond.fieldLink "WarpMill$Warp" (27 : Nat) "WarpMill$Warp" "block" "LWarpMill$Block;") ∈ lw_all := lw_g (lw_at lw_m5 114 rfl) rfl
theorem q1156 : (Jvm.Cond.fieldLink "WarpMill$Warp" (31 : Nat) "WarpMill$Warp" "number" "I") ∈ lw_all := lw_g (lw_at lw_m5 118 rfl) rfl
theorem q1159 : (Jvm.Cond.fieldLink "WarpMill$Warp" (14 : Nat) "WarpMill$Warp" "lanes" "Ljava/util/ArrayList;") ∈ lw_all := lw_g (lw_at lw_m5 121 rfl) rfl
theorem q1164 : (Jvm.Cond.fieldLink "WarpMill$Warp" (20 : Nat) "WarpMill$Warp" "ticks" "[I") ∈ lw_all := lw_g (lw_at lw_m5 126 rfl) rfl
theorem q1166 : (Jvm.Cond.fieldLink "WarpMill$Warp" (24 : Nat) "WarpMill$Warp" "predicateTicks" "[I") ∈ lw_all := lw_g (lw_at lw_m5 128 rfl) rfl
theorem q1168 : (Jvm.Cond.fieldLink "WarpMill$Warp" (38 : Nat) "WarpMill$Warp" "memoryTick" "I") ∈ lw_all := lw_g (lw_at lw_m5 130 rfl) rfl
theorem q1170 : (Jvm.Cond.lays "WarpMill$Warp" "WarpMill$Warp" "block" "LWarpMill$Block;") ∈ lw_all := lw_g (lw_at lw_m5 132 rfl) rfl
theorem q1171 : (Jvm.Cond.soleField "WarpMill$Warp" "block") ∈ lw_all := lw_g (lw_at lw_m5 133 rfl) rfl
theorem q1172 : (Jvm.Cond.lays "WarpMill$Warp" "WarpMill$Warp" "number" "I") ∈ lw_all := lw_g (lw_at lw_m5 134 rfl) rfl
theorem q1173 : (Jvm.Cond.soleField "WarpMill$Warp" "number") ∈ lw_all := lw_g (lw_at lw_m5 135 rfl) rfl
theorem q1174 : (Jvm.Cond.laysFinal "WarpMill$Warp" "WarpMill$Warp" "lanes" "Ljava/util/ArrayList;") ∈ lw_all := lw_g (lw_at lw_m5 136 rfl) rfl
theorem q1175 : (Jvm.Cond.soleField "WarpMill$Warp" "lanes") ∈ lw_all := lw_g (lw_at lw_m5 137 rfl) rfl
theorem q1176 : (Jvm.Cond.laysFinal "WarpMill$Warp" "WarpMill$Warp" "ticks" "[I") ∈ lw_all := lw_g (lw_at lw_m5 138 rfl) rfl
theorem q1177 : (Jvm.Cond.soleField "WarpMill$Warp" "ticks") ∈ lw_all := lw_g (lw_at lw_m5 139 rfl) rfl
theorem q1178 : (Jvm.Cond.laysFinal "WarpMill$Warp" "WarpMill$Warp" "predicateTicks" "[I") ∈ lw_all := lw_g (lw_at lw_m5 140 rfl) rfl
theorem q1179 : (Jvm.Cond.soleField "WarpMill$Warp" "predicateTicks") ∈ lw_all := lw_g (lw_at lw_m5 141 rfl) rfl
theorem q1180 : (Jvm.Cond.lays "WarpMill$Warp" "WarpMill$Warp" "memoryTick" "I") ∈ lw_all := lw_g (lw_at lw_m5 142 rfl) rfl
theorem q1181 : (Jvm.Cond.soleField "WarpMill$Warp" "memoryTick") ∈ lw_all := lw_g (lw_at lw_m5 143 rfl) rfl
theorem q1182 : (Jvm.Cond.superclass "WarpMill$Warp" "java/lang/Object") ∈ lw_all := lw_g (lw_at lw_m5 144 rfl) rfl
theorem q1184 : (Jvm.Cond.instanceMethod ({ cls := "WarpMill$Warp", name := "begin", desc := "(LWarpMill$Block;I)V" } : Jvm.MethodName)) ∈ lw_all := lw_g (lw_at lw_m5 146 rfl) rfl
theorem q1185 : (Jvm.Cond.selects "WarpMill$Warp" ({ cls := "WarpMill$Warp", name := "begin", desc := "(LWarpMill$Block;I)V" } : Jvm.MethodName) ({ cls := "WarpMill$Warp", name := "begin", desc := "(LWarpMill$Block;I)V" } : Jvm.MethodName)) ∈ lw_all := lw_g (lw_at lw_m5 147 rfl) rfl
theorem q1186 : (Jvm.Cond.code ({ cls := "WarpMill$Warp", name := "begin", desc := "(LWarpMill$Block;I)V" } : Jvm.MethodName) prog_13_method_2_code (4 : Nat) (Option.none : Option Jvm.ClassFile.FieldType)) ∈ lw_all := lw_g (lw_at lw_m5 148 rfl) rfl
theorem q1187 : (Jvm.Cond.methodLink "WarpMill$Warp" (35 : Nat) ({ cls := "java/util/ArrayList", name := "clear", desc := "()V" } : Jvm.MethodName)) ∈ lw_all := lw_g (lw_at lw_m5 149 rfl) rfl
theorem q1204 : (Jvm.Cond.fieldLinkNest "WarpMill$Warp" (58 : Nat) "WarpMill$Lane" "place" "I" "WarpMill") ∈ lw_tbl := lw_at lw_m5 166 rfl
theorem q1208 : (Jvm.Cond.fieldLinkNest "WarpMill$Warp" (51 : Nat) "WarpMill$Lane" "ended" "Z" "WarpMill") ∈ lw_tbl := lw_at lw_m5 170 rfl
theorem q1211 : (Jvm.Cond.fieldLinkNest "WarpMill$Warp" (55 : Nat) "WarpMill$Lane" "waits" "Z" "WarpMill") ∈ lw_tbl := lw_at lw_m5 173 rfl
theorem q1244 : (Jvm.Cond.instanceMethod ({ cls := "WarpMill$Warp", name := "group", desc := "()I" } : Jvm.MethodName)) ∈ lw_all := lw_g (lw_at lw_m5 206 rfl) rfl
theorem q1245 : (Jvm.Cond.selects "WarpMill$Warp" ({ cls := "WarpMill$Warp", name := "group", desc := "()I" } : Jvm.MethodName) ({ cls := "WarpMill$Warp", name := "group", desc := "()I" } : Jvm.MethodName)) ∈ lw_all := lw_g (lw_at lw_m5 207 rfl) rfl
theorem q1246 : (Jvm.Cond.code ({ cls := "WarpMill$Warp", name := "group", desc := "()I" } : Jvm.MethodName) prog_13_method_6_code (5 : Nat) (Option.some Jvm.ClassFile.FieldType.int)) ∈ lw_all := lw_g (lw_at lw_m5 208 rfl) rfl
theorem q1254 : (Jvm.Cond.instanceMethod ({ cls := "WarpMill$Warp", name := "isThere", desc := "(LWarpMill$Word;I)Z" } : Jvm.MethodName)) ∈ lw_all := lw_g (lw_at lw_m5 216 rfl) rfl
theorem q1255 : (Jvm.Cond.selects "WarpMill$Warp" ({ cls := "WarpMill$Warp", name := "isThere", desc := "(LWarpMill$Word;I)Z" } : Jvm.MethodName) ({ cls := "WarpMill$Warp", name := "isThere", desc := "(LWarpMill$Word;I)Z" } : Jvm.MethodName)) ∈ lw_all := lw_g (lw_at lw_m5 217 rfl) rfl
theorem q1256 : (Jvm.Cond.code ({ cls := "WarpMill$Warp", name := "isThere", desc := "(LWarpMill$Word;I)Z" } : Jvm.MethodName) prog_13_method_8_code (6 : Nat) (Option.some Jvm.ClassFile.FieldType.boolean)) ∈ lw_all := lw_g (lw_at lw_m5 218 rfl) rfl
theorem q1257 : (Jvm.Cond.methodLink "WarpMill$Warp" (65 : Nat) ({ cls := "WarpMill$Word", name := "isKnown", desc := "()Z" } : Jvm.MethodName)) ∈ lw_all := lw_g (lw_at lw_m5 219 rfl) rfl
theorem q1261 : (Jvm.Cond.methodLink "WarpMill$Warp" (71 : Nat) ({ cls := "WarpMill$Word", name := "readsFirst", desc := "()Z" } : Jvm.MethodName)) ∈ lw_all := lw_g (lw_at lw_m5 223 rfl) rfl
theorem q1271 : (Jvm.Cond.methodLink "WarpMill$Warp" (77 : Nat) ({ cls := "WarpMill$Word", name := "readsSecond", desc := "()Z" } : Jvm.MethodName)) ∈ lw_all := lw_g (lw_at lw_m5 233 rfl) rfl
theorem q1275 : (Jvm.Cond.methodLink "WarpMill$Warp" (83 : Nat) ({ cls := "WarpMill$Word", name := "writes", desc := "()Z" } : Jvm.MethodName)) ∈ lw_all := lw_g (lw_at lw_m5 237 rfl) rfl
theorem q1279 : (Jvm.Cond.methodLink "WarpMill$Warp" (86 : Nat) ({ cls := "WarpMill$Word", name := "readsOwn", desc := "()Z" } : Jvm.MethodName)) ∈ lw_all := lw_g (lw_at lw_m6 1 rfl) rfl
theorem q1283 : (Jvm.Cond.methodLink "WarpMill$Warp" (92 : Nat) ({ cls := "WarpMill$Word", name := "decides", desc := "()Z" } : Jvm.MethodName)) ∈ lw_all := lw_g (lw_at lw_m6 5 rfl) rfl
theorem q1287 : (Jvm.Cond.methodLink "WarpMill$Warp" (95 : Nat) ({ cls := "WarpMill$Word", name := "asked", desc := "()I" } : Jvm.MethodName)) ∈ lw_all := lw_g (lw_at lw_m6 9 rfl) rfl
theorem q1295 : (Jvm.Cond.methodLink "WarpMill$Warp" (102 : Nat) ({ cls := "WarpMill$Sort", name := "isMemory", desc := "()Z" } : Jvm.MethodName)) ∈ lw_all := lw_g (lw_at lw_m6 17 rfl) rfl
theorem q1312 : (Jvm.Cond.instanceMethod ({ cls := "WarpMill$Warp", name := "doing", desc := "(ILWarpMill$Word;)I" } : Jvm.MethodName)) ∈ lw_all := lw_g (lw_at lw_m6 34 rfl) rfl
theorem q1313 : (Jvm.Cond.selects "WarpMill$Warp" ({ cls := "WarpMill$Warp", name := "doing", desc := "(ILWarpMill$Word;)I" } : Jvm.MethodName) ({ cls := "WarpMill$Warp", name := "doing", desc := "(ILWarpMill$Word;)I" } : Jvm.MethodName)) ∈ lw_all := lw_g (lw_at lw_m6 35 rfl) rfl
theorem q1314 : (Jvm.Cond.code ({ cls := "WarpMill$Warp", name := "doing", desc := "(ILWarpMill$Word;)I" } : Jvm.MethodName) prog_13_method_7_code (5 : Nat) (Option.some Jvm.ClassFile.FieldType.int)) ∈ lw_all := lw_g (lw_at lw_m6 36 rfl) rfl
theorem q1315 : (Jvm.Cond.methodLink "WarpMill$Warp" (61 : Nat) ({ cls := "WarpMill$Lane", name := "does", desc := "(LWarpMill$Word;)Z" } : Jvm.MethodName)) ∈ lw_all := lw_g (lw_at lw_m6 37 rfl) rfl
theorem q1471 : (Jvm.Cond.instanceMethod ({ cls := "WarpMill$Warp", name := "wrote", desc := "(LWarpMill$Word;I)V" } : Jvm.MethodName)) ∈ lw_all := lw_g (lw_at lw_m6 193 rfl) rfl
theorem q1472 : (Jvm.Cond.selects "WarpMill$Warp" ({ cls := "WarpMill$Warp", name := "wrote", desc := "(LWarpMill$Word;I)V" } : Jvm.MethodName) ({ cls := "WarpMill$Warp", name := "wrote", desc := "(LWarpMill$Word;I)V" } : Jvm.MethodName)) ∈ lw_all := lw_g (lw_at lw_m6 194 rfl) rfl
theorem q1473 : (Jvm.Cond.code ({ cls := "WarpMill$Warp", name := "wrote", desc := "(LWarpMill$Word;I)V" } : Jvm.MethodName) prog_13_method_9_code (3 : Nat) (Option.none : Option Jvm.ClassFile.FieldType)) ∈ lw_all := lw_g (lw_at lw_m6 195 rfl) rfl
theorem q1484 : (Jvm.Cond.instanceMethod ({ cls := "WarpMill$Warp", name := "release", desc := "()V" } : Jvm.MethodName)) ∈ lw_all := lw_g (lw_at lw_m6 206 rfl) rfl
theorem q1485 : (Jvm.Cond.selects "WarpMill$Warp" ({ cls := "WarpMill$Warp", name := "release", desc := "()V" } : Jvm.MethodName) ({ cls := "WarpMill$Warp", name := "release", desc := "()V" } : Jvm.MethodName)) ∈ lw_all := lw_g (lw_at lw_m6 207 rfl) rfl
theorem q1486 : (Jvm.Cond.code ({ cls := "WarpMill$Warp", name := "release", desc := "()V" } : Jvm.MethodName) prog_13_method_5_code (2 : Nat) (Option.none : Option Jvm.ClassFile.FieldType)) ∈ lw_all := lw_g (lw_at lw_m6 208 rfl) rfl
theorem q2013 : (Jvm.Cond.castable "WarpMill$Warp" "WarpMill$Warp") ∈ lw_tbl := lw_at lw_m9 15 rfl
theorem q2038 : (Jvm.Cond.castable "WarpMill$Warp" "java/lang/Object") ∈ lw_tbl := lw_at lw_m9 40 rfl
theorem in_X13 : ∀ w ∈ wsX130, w ∈ lw_all := lw_in wsX130 [1170, 1172, 1174, 1176, 1178, 1180] (by decide +kernel) (by decide +kernel)

/-! X14 -/
set_option maxRecDepth 100000
def RX14 : String := "WarpMill$Lane"
def TX14 : u_T := fun k => match k with
  | 0 => ("WarpMill$Lane", "registers", "[I", true)
  | 1 => ("WarpMill$Lane", "predicates", "[Z", true)
  | 2 => ("WarpMill$Lane", "place", "I", false)
  | 3 => ("WarpMill$Lane", "ended", "Z", false)
  | 4 => ("WarpMill$Lane", "waits", "Z", false)
  | _ => ("WarpMill$Lane", "life", "I", false)
def tyX14 : Nat → FieldType := fun k => match k with
  | 0 => .array .int
  | 1 => .array .boolean
  | 2 => .int
  | 3 => .boolean
  | 4 => .boolean
  | _ => .int
abbrev wsX140 : List Cond := u_ws RX14 TX14 6
theorem nmX14 : ∀ a, a < 6 → ∀ b, b < 6 → a ≠ b → (TX14 a).2.1 ≠ (TX14 b).2.1 := by decide +kernel
theorem tyX14_ok : ∀ k, k < 6 → parseFieldDescriptor (TX14 k).2.2.1 = some (tyX14 k) := by decide +kernel
abbrev cX14_init : ByteArray := prog_8_method_1_code
def yX14_init : MethodName := ⟨RX14, "<init>", "()V"⟩
abbrev cX14_begin : ByteArray := prog_8_method_2_code
def yX14_begin : MethodName := ⟨RX14, "begin", "()V"⟩
abbrev cX14_does : ByteArray := prog_8_method_3_code
def yX14_does : MethodName := ⟨RX14, "does", "(LWarpMill$Word;)Z"⟩
theorem q115 : (Jvm.Cond.initialized "WarpMill$Lane") ∈ lw_all := lw_g (lw_at lw_m1 37 rfl) rfl
theorem q609 : (Jvm.Cond.fieldLinkNest "WarpMill$Lane" (39 : Nat) "WarpMill$Word" "g" "I" "WarpMill") ∈ lw_tbl := lw_at lw_m3 51 rfl
theorem q661 : (Jvm.Cond.selects "WarpMill$Lane" ({ cls := "java/lang/Object", name := "getClass", desc := "()Ljava/lang/Class;" } : Jvm.MethodName) ({ cls := "java/lang/Object", name := "getClass", desc := "()Ljava/lang/Class;" } : Jvm.MethodName)) ∈ lw_all := lw_g (lw_at lw_m3 103 rfl) rfl
theorem q1192 : (Jvm.Cond.instantiable "WarpMill$Lane" (6 : Nat)) ∈ lw_all := lw_g (lw_at lw_m5 154 rfl) rfl
theorem q1194 : (Jvm.Cond.instanceMethod ({ cls := "WarpMill$Lane", name := "<init>", desc := "()V" } : Jvm.MethodName)) ∈ lw_all := lw_g (lw_at lw_m5 156 rfl) rfl
theorem q1195 : (Jvm.Cond.code ({ cls := "WarpMill$Lane", name := "<init>", desc := "()V" } : Jvm.MethodName) prog_8_method_1_code (1 : Nat) (Option.none : Option Jvm.ClassFile.FieldType)) ∈ lw_all := lw_g (lw_at lw_m5 157 rfl) rfl
theorem q1196 : (Jvm.Cond.methodLink "WarpMill$Lane" (3 : Nat) ({ cls := "java/lang/Object", name := "<init>", desc := "()V" } : Jvm.MethodName)) ∈ lw_all := lw_g (lw_at lw_m5 158 rfl) rfl
theorem q1197 : (Jvm.Cond.fieldLink "WarpMill$Lane" (9 : Nat) "WarpMill$Lane" "registers" "[I") ∈ lw_all := lw_g (lw_at lw_m5 159 rfl) rfl
theorem q1200 : (Jvm.Cond.fieldLink "WarpMill$Lane" (15 : Nat) "WarpMill$Lane" "predicates" "[Z") ∈ lw_all := lw_g (lw_at lw_m5 162 rfl) rfl
theorem q1203 : (Jvm.Cond.fieldLink "WarpMill$Lane" (23 : Nat) "WarpMill$Lane" "place" "I") ∈ lw_all := lw_g (lw_at lw_m5 165 rfl) rfl
theorem q1207 : (Jvm.Cond.fieldLink "WarpMill$Lane" (26 : Nat) "WarpMill$Lane" "ended" "Z") ∈ lw_all := lw_g (lw_at lw_m5 169 rfl) rfl
theorem q1210 : (Jvm.Cond.fieldLink "WarpMill$Lane" (30 : Nat) "WarpMill$Lane" "waits" "Z") ∈ lw_all := lw_g (lw_at lw_m5 172 rfl) rfl
theorem q1213 : (Jvm.Cond.fieldLink "WarpMill$Lane" (19 : Nat) "WarpMill$Lane" "life" "I") ∈ lw_all := lw_g (lw_at lw_m5 175 rfl) rfl
theorem q1215 : (Jvm.Cond.laysFinal "WarpMill$Lane" "WarpMill$Lane" "registers" "[I") ∈ lw_all := lw_g (lw_at lw_m5 177 rfl) rfl
theorem q1216 : (Jvm.Cond.soleField "WarpMill$Lane" "registers") ∈ lw_all := lw_g (lw_at lw_m5 178 rfl) rfl
theorem q1217 : (Jvm.Cond.laysFinal "WarpMill$Lane" "WarpMill$Lane" "predicates" "[Z") ∈ lw_all := lw_g (lw_at lw_m5 179 rfl) rfl
theorem q1218 : (Jvm.Cond.soleField "WarpMill$Lane" "predicates") ∈ lw_all := lw_g (lw_at lw_m5 180 rfl) rfl
theorem q1219 : (Jvm.Cond.lays "WarpMill$Lane" "WarpMill$Lane" "place" "I") ∈ lw_all := lw_g (lw_at lw_m5 181 rfl) rfl
theorem q1220 : (Jvm.Cond.soleField "WarpMill$Lane" "place") ∈ lw_all := lw_g (lw_at lw_m5 182 rfl) rfl
theorem q1221 : (Jvm.Cond.lays "WarpMill$Lane" "WarpMill$Lane" "ended" "Z") ∈ lw_all := lw_g (lw_at lw_m5 183 rfl) rfl
theorem q1222 : (Jvm.Cond.soleField "WarpMill$Lane" "ended") ∈ lw_all := lw_g (lw_at lw_m5 184 rfl) rfl
theorem q1223 : (Jvm.Cond.lays "WarpMill$Lane" "WarpMill$Lane" "waits" "Z") ∈ lw_all := lw_g (lw_at lw_m5 185 rfl) rfl
theorem q1224 : (Jvm.Cond.soleField "WarpMill$Lane" "waits") ∈ lw_all := lw_g (lw_at lw_m5 186 rfl) rfl
theorem q1225 : (Jvm.Cond.lays "WarpMill$Lane" "WarpMill$Lane" "life" "I") ∈ lw_all := lw_g (lw_at lw_m5 187 rfl) rfl
theorem q1226 : (Jvm.Cond.soleField "WarpMill$Lane" "life") ∈ lw_all := lw_g (lw_at lw_m5 188 rfl) rfl
theorem q1227 : (Jvm.Cond.superclass "WarpMill$Lane" "java/lang/Object") ∈ lw_all := lw_g (lw_at lw_m5 189 rfl) rfl
theorem q1230 : (Jvm.Cond.instanceMethod ({ cls := "WarpMill$Lane", name := "begin", desc := "()V" } : Jvm.MethodName)) ∈ lw_all := lw_g (lw_at lw_m5 192 rfl) rfl
theorem q1231 : (Jvm.Cond.selects "WarpMill$Lane" ({ cls := "WarpMill$Lane", name := "begin", desc := "()V" } : Jvm.MethodName) ({ cls := "WarpMill$Lane", name := "begin", desc := "()V" } : Jvm.MethodName)) ∈ lw_all := lw_g (lw_at lw_m5 193 rfl) rfl
theorem q1232 : (Jvm.Cond.code ({ cls := "WarpMill$Lane", name := "begin", desc := "()V" } : Jvm.MethodName) prog_8_method_2_code (2 : Nat) (Option.none : Option Jvm.ClassFile.FieldType)) ∈ lw_all := lw_g (lw_at lw_m5 194 rfl) rfl
theorem q1316 : (Jvm.Cond.instanceMethod ({ cls := "WarpMill$Lane", name := "does", desc := "(LWarpMill$Word;)Z" } : Jvm.MethodName)) ∈ lw_all := lw_g (lw_at lw_m6 38 rfl) rfl
theorem q1317 : (Jvm.Cond.selects "WarpMill$Lane" ({ cls := "WarpMill$Lane", name := "does", desc := "(LWarpMill$Word;)Z" } : Jvm.MethodName) ({ cls := "WarpMill$Lane", name := "does", desc := "(LWarpMill$Word;)Z" } : Jvm.MethodName)) ∈ lw_all := lw_g (lw_at lw_m6 39 rfl) rfl
theorem q1318 : (Jvm.Cond.code ({ cls := "WarpMill$Lane", name := "does", desc := "(LWarpMill$Word;)Z" } : Jvm.MethodName) prog_8_method_3_code (2 : Nat) (Option.some Jvm.ClassFile.FieldType.boolean)) ∈ lw_all := lw_g (lw_at lw_m6 40 rfl) rfl
theorem q1319 : (Jvm.Cond.methodLink "WarpMill$Lane" (33 : Nat) ({ cls := "WarpMill$Word", name := "isGuarded", desc := "()Z" } : Jvm.MethodName)) ∈ lw_all := lw_g (lw_at lw_m6 41 rfl) rfl
theorem q2014 : (Jvm.Cond.castable "WarpMill$Lane" "WarpMill$Lane") ∈ lw_tbl := lw_at lw_m9 16 rfl
theorem q2039 : (Jvm.Cond.castable "WarpMill$Lane" "java/lang/Object") ∈ lw_tbl := lw_at lw_m9 41 rfl
theorem in_X14 : ∀ w ∈ wsX140, w ∈ lw_all := lw_in wsX140 [1215, 1217, 1219, 1221, 1223, 1225] (by decide +kernel) (by decide +kernel)

/-! X15 -/
set_option maxRecDepth 100000
def RX15 : String := "WarpMill$Ask"
def TX15 : u_T := fun k => match k with
  | 0 => ("WarpMill$Ask", "time", "I", false)
  | 1 => ("WarpMill$Ask", "turn", "I", false)
  | 2 => ("WarpMill$Ask", "op", "I", false)
  | 3 => ("WarpMill$Ask", "at", "I", false)
  | 4 => ("WarpMill$Ask", "value", "I", false)
  | 5 => ("WarpMill$Ask", "compared", "I", false)
  | 6 => ("WarpMill$Ask", "to", "I", false)
  | 7 => ("WarpMill$Ask", "life", "I", false)
  | _ => ("WarpMill$Ask", "lane", "LWarpMill$Lane;", false)
def tyX15 : Nat → FieldType := fun k => match k with
  | 0 => .int
  | 1 => .int
  | 2 => .int
  | 3 => .int
  | 4 => .int
  | 5 => .int
  | 6 => .int
  | 7 => .int
  | _ => .object "WarpMill$Lane"
abbrev wsX150 : List Cond := u_ws RX15 TX15 9
theorem nmX15 : ∀ a, a < 9 → ∀ b, b < 9 → a ≠ b → (TX15 a).2.1 ≠ (TX15 b).2.1 := by decide +kernel
theorem tyX15_ok : ∀ k, k < 9 → parseFieldDescriptor (TX15 k).2.2.1 = some (tyX15 k) := by decide +kernel
abbrev cX15_isAhead : ByteArray := prog_2_method_2_code
def yX15_isAhead : MethodName := ⟨RX15, "isAhead", "(LWarpMill$Ask;)Z"⟩
abbrev cX15_init : ByteArray := prog_2_method_1_code
def yX15_init : MethodName := ⟨RX15, "<init>", "()V"⟩
theorem q116 : (Jvm.Cond.initialized "WarpMill$Ask") ∈ lw_all := lw_g (lw_at lw_m1 38 rfl) rfl
theorem q655 : (Jvm.Cond.selects "WarpMill$Ask" ({ cls := "java/lang/Object", name := "getClass", desc := "()Ljava/lang/Class;" } : Jvm.MethodName) ({ cls := "java/lang/Object", name := "getClass", desc := "()Ljava/lang/Class;" } : Jvm.MethodName)) ∈ lw_all := lw_g (lw_at lw_m3 97 rfl) rfl
theorem q1085 : (Jvm.Cond.instanceMethod ({ cls := "WarpMill$Ask", name := "isAhead", desc := "(LWarpMill$Ask;)Z" } : Jvm.MethodName)) ∈ lw_all := lw_g (lw_at lw_m5 47 rfl) rfl
theorem q1086 : (Jvm.Cond.selects "WarpMill$Ask" ({ cls := "WarpMill$Ask", name := "isAhead", desc := "(LWarpMill$Ask;)Z" } : Jvm.MethodName) ({ cls := "WarpMill$Ask", name := "isAhead", desc := "(LWarpMill$Ask;)Z" } : Jvm.MethodName)) ∈ lw_all := lw_g (lw_at lw_m5 48 rfl) rfl
theorem q1087 : (Jvm.Cond.code ({ cls := "WarpMill$Ask", name := "isAhead", desc := "(LWarpMill$Ask;)Z" } : Jvm.MethodName) prog_2_method_2_code (2 : Nat) (Option.some Jvm.ClassFile.FieldType.boolean)) ∈ lw_all := lw_g (lw_at lw_m5 49 rfl) rfl
theorem q1418 : (Jvm.Cond.instantiable "WarpMill$Ask" (9 : Nat)) ∈ lw_all := lw_g (lw_at lw_m6 140 rfl) rfl
theorem q1420 : (Jvm.Cond.instanceMethod ({ cls := "WarpMill$Ask", name := "<init>", desc := "()V" } : Jvm.MethodName)) ∈ lw_all := lw_g (lw_at lw_m6 142 rfl) rfl
theorem q1421 : (Jvm.Cond.code ({ cls := "WarpMill$Ask", name := "<init>", desc := "()V" } : Jvm.MethodName) prog_2_method_1_code (1 : Nat) (Option.none : Option Jvm.ClassFile.FieldType)) ∈ lw_all := lw_g (lw_at lw_m6 143 rfl) rfl
theorem q1422 : (Jvm.Cond.methodLink "WarpMill$Ask" (1 : Nat) ({ cls := "java/lang/Object", name := "<init>", desc := "()V" } : Jvm.MethodName)) ∈ lw_all := lw_g (lw_at lw_m6 144 rfl) rfl
theorem q1423 : (Jvm.Cond.fieldLink "WarpMill$Ask" (7 : Nat) "WarpMill$Ask" "time" "I") ∈ lw_all := lw_g (lw_at lw_m6 145 rfl) rfl
theorem q1426 : (Jvm.Cond.fieldLink "WarpMill$Ask" (13 : Nat) "WarpMill$Ask" "turn" "I") ∈ lw_all := lw_g (lw_at lw_m6 148 rfl) rfl
theorem q1435 : (Jvm.Cond.lays "WarpMill$Ask" "WarpMill$Ask" "time" "I") ∈ lw_all := lw_g (lw_at lw_m6 157 rfl) rfl
theorem q1436 : (Jvm.Cond.soleField "WarpMill$Ask" "time") ∈ lw_all := lw_g (lw_at lw_m6 158 rfl) rfl
theorem q1437 : (Jvm.Cond.lays "WarpMill$Ask" "WarpMill$Ask" "turn" "I") ∈ lw_all := lw_g (lw_at lw_m6 159 rfl) rfl
theorem q1438 : (Jvm.Cond.soleField "WarpMill$Ask" "turn") ∈ lw_all := lw_g (lw_at lw_m6 160 rfl) rfl
theorem q1439 : (Jvm.Cond.lays "WarpMill$Ask" "WarpMill$Ask" "op" "I") ∈ lw_all := lw_g (lw_at lw_m6 161 rfl) rfl
theorem q1440 : (Jvm.Cond.soleField "WarpMill$Ask" "op") ∈ lw_all := lw_g (lw_at lw_m6 162 rfl) rfl
theorem q1441 : (Jvm.Cond.lays "WarpMill$Ask" "WarpMill$Ask" "at" "I") ∈ lw_all := lw_g (lw_at lw_m6 163 rfl) rfl
theorem q1442 : (Jvm.Cond.soleField "WarpMill$Ask" "at") ∈ lw_all := lw_g (lw_at lw_m6 164 rfl) rfl
theorem q1443 : (Jvm.Cond.lays "WarpMill$Ask" "WarpMill$Ask" "value" "I") ∈ lw_all := lw_g (lw_at lw_m6 165 rfl) rfl
theorem q1444 : (Jvm.Cond.soleField "WarpMill$Ask" "value") ∈ lw_all := lw_g (lw_at lw_m6 166 rfl) rfl
theorem q1445 : (Jvm.Cond.lays "WarpMill$Ask" "WarpMill$Ask" "compared" "I") ∈ lw_all := lw_g (lw_at lw_m6 167 rfl) rfl
theorem q1446 : (Jvm.Cond.soleField "WarpMill$Ask" "compared") ∈ lw_all := lw_g (lw_at lw_m6 168 rfl) rfl
theorem q1447 : (Jvm.Cond.lays "WarpMill$Ask" "WarpMill$Ask" "to" "I") ∈ lw_all := lw_g (lw_at lw_m6 169 rfl) rfl
theorem q1448 : (Jvm.Cond.soleField "WarpMill$Ask" "to") ∈ lw_all := lw_g (lw_at lw_m6 170 rfl) rfl
theorem q1449 : (Jvm.Cond.lays "WarpMill$Ask" "WarpMill$Ask" "life" "I") ∈ lw_all := lw_g (lw_at lw_m6 171 rfl) rfl
theorem q1450 : (Jvm.Cond.soleField "WarpMill$Ask" "life") ∈ lw_all := lw_g (lw_at lw_m6 172 rfl) rfl
theorem q1451 : (Jvm.Cond.lays "WarpMill$Ask" "WarpMill$Ask" "lane" "LWarpMill$Lane;") ∈ lw_all := lw_g (lw_at lw_m6 173 rfl) rfl
theorem q1452 : (Jvm.Cond.soleField "WarpMill$Ask" "lane") ∈ lw_all := lw_g (lw_at lw_m6 174 rfl) rfl
theorem q1453 : (Jvm.Cond.superclass "WarpMill$Ask" "java/lang/Object") ∈ lw_all := lw_g (lw_at lw_m6 175 rfl) rfl
theorem q2011 : (Jvm.Cond.castable "WarpMill$Ask" "WarpMill$Ask") ∈ lw_tbl := lw_at lw_m9 13 rfl
theorem q2040 : (Jvm.Cond.castable "WarpMill$Ask" "java/lang/Object") ∈ lw_tbl := lw_at lw_m9 42 rfl
theorem in_X15 : ∀ w ∈ wsX150, w ∈ lw_all := lw_in wsX150 [1435, 1437, 1439, 1441, 1443, 1445, 1447, 1449, 1451] (by decide +kernel) (by decide +kernel)

/-! J20 -/
set_option maxRecDepth 100000
def RJ20 : String := "java/util/NoSuchElementException"
def TJ20 : u_T := fun k => match k with
  | 0 => ("java/lang/Throwable", "cause", "Ljava/lang/Throwable;", false)
  | 1 => ("java/lang/Throwable", "stackTrace", "[Ljava/lang/StackTraceElement;", false)
  | 2 => ("java/lang/Throwable", "suppressedExceptions", "Ljava/util/List;", false)
  | 3 => ("java/lang/Throwable", "detailMessage", "Ljava/lang/String;", false)
  | 4 => ("java/lang/Throwable", "backtrace", "Ljava/lang/Object;", false)
  | _ => ("java/lang/Throwable", "depth", "I", false)
def tyJ20 : Nat → FieldType := fun k => match k with
  | 0 => .object "java/lang/Throwable"
  | 1 => .array (.object "java/lang/StackTraceElement")
  | 2 => .object "java/util/List"
  | 3 => .object "java/lang/String"
  | 4 => .object "java/lang/Object"
  | _ => .int
abbrev wsJ200 : List Cond := u_ws RJ20 TJ20 6
theorem nmJ20 : ∀ a, a < 6 → ∀ b, b < 6 → a ≠ b → (TJ20 a).2.1 ≠ (TJ20 b).2.1 := by decide +kernel
theorem tyJ20_ok : ∀ k, k < 6 → parseFieldDescriptor (TJ20 k).2.2.1 = some (tyJ20 k) := by decide +kernel
abbrev cJ20_init : ByteArray := prog_47_method_1_code
def yJ20_init : MethodName := ⟨RJ20, "<init>", "()V"⟩
theorem q117 : (Jvm.Cond.initialized "java/util/NoSuchElementException") ∈ lw_all := lw_g (lw_at lw_m1 39 rfl) rfl
theorem q176 : (Jvm.Cond.selects "java/util/NoSuchElementException" ({ cls := "java/lang/Throwable", name := "fillInStackTrace", desc := "()Ljava/lang/Throwable;" } : Jvm.MethodName) ({ cls := "java/lang/Throwable", name := "fillInStackTrace", desc := "()Ljava/lang/Throwable;" } : Jvm.MethodName)) ∈ lw_all := lw_g (lw_at lw_m1 98 rfl) rfl
theorem q675 : (Jvm.Cond.selects "java/util/NoSuchElementException" ({ cls := "java/lang/Object", name := "getClass", desc := "()Ljava/lang/Class;" } : Jvm.MethodName) ({ cls := "java/lang/Object", name := "getClass", desc := "()Ljava/lang/Class;" } : Jvm.MethodName)) ∈ lw_all := lw_g (lw_at lw_m3 117 rfl) rfl
theorem q1503 : (Jvm.Cond.instantiable "java/util/NoSuchElementException" (6 : Nat)) ∈ lw_all := lw_g (lw_at lw_m6 225 rfl) rfl
theorem q1504 : (Jvm.Cond.castable "java/util/NoSuchElementException" "java/util/NoSuchElementException") ∈ lw_tbl := lw_at lw_m6 226 rfl
theorem q1505 : (Jvm.Cond.selects "java/util/NoSuchElementException" ({ cls := "java/lang/Throwable", name := "fillInStackTrace", desc := "(I)Ljava/lang/Throwable;" } : Jvm.MethodName) ({ cls := "java/lang/Throwable", name := "fillInStackTrace", desc := "(I)Ljava/lang/Throwable;" } : Jvm.MethodName)) ∈ lw_all := lw_g (lw_at lw_m6 227 rfl) rfl
theorem q1506 : (Jvm.Cond.lays "java/util/NoSuchElementException" "java/lang/Throwable" "cause" "Ljava/lang/Throwable;") ∈ lw_all := lw_g (lw_at lw_m6 228 rfl) rfl
theorem q1507 : (Jvm.Cond.lays "java/util/NoSuchElementException" "java/lang/Throwable" "stackTrace" "[Ljava/lang/StackTraceElement;") ∈ lw_all := lw_g (lw_at lw_m6 229 rfl) rfl
theorem q1508 : (Jvm.Cond.lays "java/util/NoSuchElementException" "java/lang/Throwable" "suppressedExceptions" "Ljava/util/List;") ∈ lw_all := lw_g (lw_at lw_m6 230 rfl) rfl
theorem q1509 : (Jvm.Cond.lays "java/util/NoSuchElementException" "java/lang/Throwable" "detailMessage" "Ljava/lang/String;") ∈ lw_all := lw_g (lw_at lw_m6 231 rfl) rfl
theorem q1510 : (Jvm.Cond.lays "java/util/NoSuchElementException" "java/lang/Throwable" "backtrace" "Ljava/lang/Object;") ∈ lw_all := lw_g (lw_at lw_m6 232 rfl) rfl
theorem q1512 : (Jvm.Cond.instanceMethod ({ cls := "java/util/NoSuchElementException", name := "<init>", desc := "()V" } : Jvm.MethodName)) ∈ lw_all := lw_g (lw_at lw_m6 234 rfl) rfl
theorem q1513 : (Jvm.Cond.code ({ cls := "java/util/NoSuchElementException", name := "<init>", desc := "()V" } : Jvm.MethodName) prog_47_method_1_code (1 : Nat) (Option.none : Option Jvm.ClassFile.FieldType)) ∈ lw_all := lw_g (lw_at lw_m6 235 rfl) rfl
theorem q1514 : (Jvm.Cond.methodLink "java/util/NoSuchElementException" (1 : Nat) ({ cls := "java/lang/RuntimeException", name := "<init>", desc := "()V" } : Jvm.MethodName)) ∈ lw_all := lw_g (lw_at lw_m6 236 rfl) rfl
theorem q1515 : (Jvm.Cond.lays "java/util/NoSuchElementException" "java/lang/Throwable" "depth" "I") ∈ lw_all := lw_g (lw_at lw_m6 237 rfl) rfl
theorem q1516 : (Jvm.Cond.superclass "java/util/NoSuchElementException" "java/lang/RuntimeException") ∈ lw_all := lw_g (lw_at lw_m6 238 rfl) rfl
theorem q2041 : (Jvm.Cond.castable "java/util/NoSuchElementException" "java/lang/Object") ∈ lw_tbl := lw_at lw_m9 43 rfl
theorem in_J20 : ∀ w ∈ wsJ200, w ∈ lw_all := lw_in wsJ200 [1506, 1507, 1508, 1509, 1510, 1515] (by decide +kernel) (by decide +kernel)

/-! J21 -/
set_option maxRecDepth 100000
def RJ21 : String := "java/lang/Object"
abbrev cJ21_init : ByteArray := object_method_1_code
def yJ21_init : MethodName := ⟨RJ21, "<init>", "()V"⟩
theorem q124 : (Jvm.Cond.instanceMethod ({ cls := "java/lang/Object", name := "<init>", desc := "()V" } : Jvm.MethodName)) ∈ lw_all := lw_g (lw_at lw_m1 46 rfl) rfl
theorem q125 : (Jvm.Cond.code ({ cls := "java/lang/Object", name := "<init>", desc := "()V" } : Jvm.MethodName) object_method_1_code (1 : Nat) (Option.none : Option Jvm.ClassFile.FieldType)) ∈ lw_all := lw_g (lw_at lw_m1 47 rfl) rfl
theorem q251 : (Jvm.Cond.native ({ cls := "java/lang/Object", name := "clone", desc := "()Ljava/lang/Object;" } : Jvm.MethodName)) ∈ lw_all := lw_g (lw_at lw_m1 173 rfl) rfl
theorem q252 : (Jvm.Cond.instanceMethod ({ cls := "java/lang/Object", name := "clone", desc := "()Ljava/lang/Object;" } : Jvm.MethodName)) ∈ lw_all := lw_g (lw_at lw_m1 174 rfl) rfl
theorem q652 : (Jvm.Cond.instanceMethod ({ cls := "java/lang/Object", name := "getClass", desc := "()Ljava/lang/Class;" } : Jvm.MethodName)) ∈ lw_all := lw_g (lw_at lw_m3 94 rfl) rfl
theorem q653 : (Jvm.Cond.sameMethod "java/lang/Object" "java/lang/Object" "getClass" "()Ljava/lang/Class;") ∈ lw_all := lw_g (lw_at lw_m3 95 rfl) rfl
theorem q676 : (Jvm.Cond.native ({ cls := "java/lang/Object", name := "getClass", desc := "()Ljava/lang/Class;" } : Jvm.MethodName)) ∈ lw_all := lw_g (lw_at lw_m3 118 rfl) rfl
theorem q2020 : (Jvm.Cond.declares ({ cls := "java/lang/Object", name := "getClass", desc := "()Ljava/lang/Class;" } : Jvm.MethodName)) ∈ lw_tbl := lw_at lw_m9 22 rfl

theorem q139 : (Jvm.Cond.arrayOver (Jvm.ClassFile.FieldType.object "java/lang/Object")) ∈ lw_tbl := lw_at lw_m1 61 rfl
set_option maxRecDepth 100000
theorem q214 : (Jvm.Cond.arrayClass Jvm.ClassFile.FieldType.byte) ∈ lw_all := lw_g (lw_at lw_m1 136 rfl) rfl
theorem q488 : (Jvm.Cond.arrayClass Jvm.ClassFile.FieldType.int) ∈ lw_all := lw_g (lw_at lw_m2 170 rfl) rfl
theorem q538 : (Jvm.Cond.arrayClass Jvm.ClassFile.FieldType.long) ∈ lw_all := lw_g (lw_at lw_m2 220 rfl) rfl
theorem q726 : (Jvm.Cond.arrayOver (Jvm.ClassFile.FieldType.object "WarpMill$Warp")) ∈ lw_tbl := lw_at lw_m3 168 rfl
theorem q1228 : (Jvm.Cond.arrayClass Jvm.ClassFile.FieldType.boolean) ∈ lw_all := lw_g (lw_at lw_m5 190 rfl) rfl

theorem q94 : (Jvm.Cond.initialized "java/lang/System") ∈ lw_all := lw_g (lw_at lw_m1 16 rfl) rfl
set_option maxRecDepth 100000
theorem q260 : (Jvm.Cond.static ({ cls := "java/lang/System", name := "arraycopy", desc := "(Ljava/lang/Object;ILjava/lang/Object;II)V" } : Jvm.MethodName)) ∈ lw_all := lw_g (lw_at lw_m1 182 rfl) rfl
theorem q261 : (Jvm.Cond.native ({ cls := "java/lang/System", name := "arraycopy", desc := "(Ljava/lang/Object;ILjava/lang/Object;II)V" } : Jvm.MethodName)) ∈ lw_all := lw_g (lw_at lw_m1 183 rfl) rfl

theorem q97 : (Jvm.Cond.initialized "java/lang/Number") ∈ lw_all := lw_g (lw_at lw_m1 19 rfl) rfl
set_option maxRecDepth 100000

theorem q104 : (Jvm.Cond.initialized "java/lang/Enum") ∈ lw_all := lw_g (lw_at lw_m1 26 rfl) rfl
set_option maxRecDepth 100000

theorem q1383 : (Jvm.Cond.sameMethod "[J" "java/lang/Object" "clone" "()Ljava/lang/Object;") ∈ lw_all := lw_g (lw_at lw_m6 105 rfl) rfl
set_option maxRecDepth 100000
theorem q1384 : (Jvm.Cond.selects "[J" ({ cls := "[J", name := "clone", desc := "()Ljava/lang/Object;" } : Jvm.MethodName) ({ cls := "java/lang/Object", name := "clone", desc := "()Ljava/lang/Object;" } : Jvm.MethodName)) ∈ lw_all := lw_g (lw_at lw_m6 106 rfl) rfl
theorem q1385 : (Jvm.Cond.castable "[J" "java/lang/Cloneable") ∈ lw_tbl := lw_at lw_m6 107 rfl
theorem q2047 : (Jvm.Cond.castable "[J" "java/lang/Object") ∈ lw_tbl := lw_at lw_m9 49 rfl

theorem q2018 : (Jvm.Cond.sameMethod "[Ljava/lang/Object;" "java/lang/Object" "getClass" "()Ljava/lang/Class;") ∈ lw_all := lw_g (lw_at lw_m9 20 rfl) rfl
set_option maxRecDepth 100000
theorem q2019 : (Jvm.Cond.selects "[Ljava/lang/Object;" ({ cls := "java/lang/Object", name := "getClass", desc := "()Ljava/lang/Class;" } : Jvm.MethodName) ({ cls := "java/lang/Object", name := "getClass", desc := "()Ljava/lang/Class;" } : Jvm.MethodName)) ∈ lw_all := lw_g (lw_at lw_m9 21 rfl) rfl
theorem q2044 : (Jvm.Cond.castable "[Ljava/lang/Object;" "java/lang/Object") ∈ lw_tbl := lw_at lw_m9 46 rfl

theorem q2046 : (Jvm.Cond.castable "[I" "java/lang/Object") ∈ lw_tbl := lw_at lw_m9 48 rfl
set_option maxRecDepth 100000

theorem q2048 : (Jvm.Cond.castable "[LWarpMill$Warp;" "java/lang/Object") ∈ lw_tbl := lw_at lw_m9 50 rfl
set_option maxRecDepth 100000

theorem q2049 : (Jvm.Cond.castable "[Z" "java/lang/Object") ∈ lw_tbl := lw_at lw_m9 51 rfl
set_option maxRecDepth 100000

