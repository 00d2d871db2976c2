/-! 20.g02: printed by gen/parts.py -/
set_option maxRecDepth 100000
theorem fp_J17_11 : FL RJ17 11 6 0 (.array .long) false := ⟨RJ17, TJ17, 3, tyJ17, "java/util/BitSet", "", rfl, by decide, in_J17, tyJ17_ok, nmJ17, Or.inl q528, Or.inl rfl, rfl, rfl, fun h => by cases h⟩
theorem fp_J17_7 : FL RJ17 7 6 1 (.int) false := ⟨RJ17, TJ17, 3, tyJ17, "java/util/BitSet", "", rfl, by decide, in_J17, tyJ17_ok, nmJ17, Or.inl q529, Or.inl rfl, rfl, rfl, fun h => by cases h⟩
theorem fp_J17_24 : FL RJ17 24 6 2 (.boolean) false := ⟨RJ17, TJ17, 3, tyJ17, "java/util/BitSet", "", rfl, by decide, in_J17, tyJ17_ok, nmJ17, Or.inl q530, Or.inl rfl, rfl, rfl, fun h => by cases h⟩
theorem fl_J17_7 : FLr RJ17 7 6 1 := ⟨RJ17, TJ17, 3, "java/util/BitSet", "", rfl, by decide, in_J17, Or.inl q529, Or.inl rfl⟩
theorem fl_J17_11 : FLr RJ17 11 6 0 := ⟨RJ17, TJ17, 3, "java/util/BitSet", "", rfl, by decide, in_J17, Or.inl q528, Or.inl rfl⟩
theorem c_J17_52 : CS RJ17 52 yJ17_wordIndex cJ17_wordIndex 1 (some Jvm.ClassFile.FieldType.int) 1 := ⟨q525, q526, q102, q527, ⟨by decide +kernel, by decide +kernel, by decide +kernel⟩⟩
theorem c_J17_27 : CV RJ17 27 6 yJ17_initWords cJ17_initWords 2 none 1 := ⟨TJ17, 3, rfl, q521, q523, qs1, q102, q524, ⟨by decide +kernel, by decide +kernel, by decide +kernel⟩⟩
theorem c_J17_56 : CV RJ17 56 6 yJ17_checkInvariants cJ17_checkInvariants 1 none 0 := ⟨TJ17, 3, rfl, q1360, q1362, qs19, q102, q1363, ⟨by decide +kernel, by decide +kernel, by decide +kernel⟩⟩
theorem c_J17_139 : CV RJ17 139 6 yJ17_ensureCapacity cJ17_ensureCapacity 3 none 1 := ⟨TJ17, 3, rfl, q1374, q1376, qs21, q102, q1377, ⟨by decide +kernel, by decide +kernel, by decide +kernel⟩⟩
theorem c_J17_155 : CV RJ17 155 6 yJ17_expandTo cJ17_expandTo 3 none 1 := ⟨TJ17, 3, rfl, q1370, q1372, qs20, q102, q1373, ⟨by decide +kernel, by decide +kernel, by decide +kernel⟩⟩
theorem dJ16_numberOfTrailingZeros_0 : decode cJ16_numberOfTrailingZeros 0 = .ok (.iload_n 0, 1) := by decide +kernel
theorem dJ16_numberOfTrailingZeros_1 : decode cJ16_numberOfTrailingZeros 1 = .ok (.iconst (-1), 1) := by decide +kernel
theorem dJ16_numberOfTrailingZeros_2 : decode cJ16_numberOfTrailingZeros 2 = .ok (.ixor, 1) := by decide +kernel
theorem dJ16_numberOfTrailingZeros_3 : decode cJ16_numberOfTrailingZeros 3 = .ok (.iload_n 0, 1) := by decide +kernel
theorem dJ16_numberOfTrailingZeros_4 : decode cJ16_numberOfTrailingZeros 4 = .ok (.iconst 1, 1) := by decide +kernel
theorem dJ16_numberOfTrailingZeros_5 : decode cJ16_numberOfTrailingZeros 5 = .ok (.isub, 1) := by decide +kernel
theorem dJ16_numberOfTrailingZeros_6 : decode cJ16_numberOfTrailingZeros 6 = .ok (.iand, 1) := by decide +kernel
theorem dJ16_numberOfTrailingZeros_7 : decode cJ16_numberOfTrailingZeros 7 = .ok (.istore_n 0, 1) := by decide +kernel
theorem dJ16_numberOfTrailingZeros_8 : decode cJ16_numberOfTrailingZeros 8 = .ok (.iload_n 0, 1) := by decide +kernel
theorem dJ16_numberOfTrailingZeros_9 : decode cJ16_numberOfTrailingZeros 9 = .ok (.ifCond .gt 8, 3) := by decide +kernel
theorem dJ16_numberOfTrailingZeros_12 : decode cJ16_numberOfTrailingZeros 12 = .ok (.iload_n 0, 1) := by decide +kernel
theorem dJ16_numberOfTrailingZeros_13 : decode cJ16_numberOfTrailingZeros 13 = .ok (.bipush 32, 2) := by decide +kernel
theorem dJ16_numberOfTrailingZeros_15 : decode cJ16_numberOfTrailingZeros 15 = .ok (.iand, 1) := by decide +kernel
theorem dJ16_numberOfTrailingZeros_16 : decode cJ16_numberOfTrailingZeros 16 = .ok (.ireturn, 1) := by decide +kernel
theorem dJ16_numberOfTrailingZeros_17 : decode cJ16_numberOfTrailingZeros 17 = .ok (.iconst 1, 1) := by decide +kernel
theorem dJ16_numberOfTrailingZeros_18 : decode cJ16_numberOfTrailingZeros 18 = .ok (.istore_n 1, 1) := by decide +kernel
theorem dJ16_numberOfTrailingZeros_19 : decode cJ16_numberOfTrailingZeros 19 = .ok (.iload_n 0, 1) := by decide +kernel
theorem dJ16_numberOfTrailingZeros_20 : decode cJ16_numberOfTrailingZeros 20 = .ok (.ldc_w 264, 3) := by decide +kernel
theorem dJ16_numberOfTrailingZeros_23 : decode cJ16_numberOfTrailingZeros 23 = .ok (.if_icmp .le 11, 3) := by decide +kernel
theorem dJ16_numberOfTrailingZeros_26 : decode cJ16_numberOfTrailingZeros 26 = .ok (.iinc 1 16, 3) := by decide +kernel
theorem dJ16_numberOfTrailingZeros_29 : decode cJ16_numberOfTrailingZeros 29 = .ok (.iload_n 0, 1) := by decide +kernel
theorem dJ16_numberOfTrailingZeros_30 : decode cJ16_numberOfTrailingZeros 30 = .ok (.bipush 16, 2) := by decide +kernel
theorem dJ16_numberOfTrailingZeros_32 : decode cJ16_numberOfTrailingZeros 32 = .ok (.iushr, 1) := by decide +kernel
theorem dJ16_numberOfTrailingZeros_33 : decode cJ16_numberOfTrailingZeros 33 = .ok (.istore_n 0, 1) := by decide +kernel
theorem dJ16_numberOfTrailingZeros_34 : decode cJ16_numberOfTrailingZeros 34 = .ok (.iload_n 0, 1) := by decide +kernel
theorem dJ16_numberOfTrailingZeros_35 : decode cJ16_numberOfTrailingZeros 35 = .ok (.sipush 256, 3) := by decide +kernel
theorem dJ16_numberOfTrailingZeros_38 : decode cJ16_numberOfTrailingZeros 38 = .ok (.if_icmp .le 11, 3) := by decide +kernel
theorem dJ16_numberOfTrailingZeros_41 : decode cJ16_numberOfTrailingZeros 41 = .ok (.iinc 1 8, 3) := by decide +kernel
theorem dJ16_numberOfTrailingZeros_44 : decode cJ16_numberOfTrailingZeros 44 = .ok (.iload_n 0, 1) := by decide +kernel
theorem dJ16_numberOfTrailingZeros_45 : decode cJ16_numberOfTrailingZeros 45 = .ok (.bipush 8, 2) := by decide +kernel
theorem dJ16_numberOfTrailingZeros_47 : decode cJ16_numberOfTrailingZeros 47 = .ok (.iushr, 1) := by decide +kernel
theorem dJ16_numberOfTrailingZeros_48 : decode cJ16_numberOfTrailingZeros 48 = .ok (.istore_n 0, 1) := by decide +kernel
theorem dJ16_numberOfTrailingZeros_49 : decode cJ16_numberOfTrailingZeros 49 = .ok (.iload_n 0, 1) := by decide +kernel
theorem dJ16_numberOfTrailingZeros_50 : decode cJ16_numberOfTrailingZeros 50 = .ok (.bipush 16, 2) := by decide +kernel
theorem dJ16_numberOfTrailingZeros_52 : decode cJ16_numberOfTrailingZeros 52 = .ok (.if_icmp .le 10, 3) := by decide +kernel
theorem dJ16_numberOfTrailingZeros_55 : decode cJ16_numberOfTrailingZeros 55 = .ok (.iinc 1 4, 3) := by decide +kernel
theorem dJ16_numberOfTrailingZeros_58 : decode cJ16_numberOfTrailingZeros 58 = .ok (.iload_n 0, 1) := by decide +kernel
theorem dJ16_numberOfTrailingZeros_59 : decode cJ16_numberOfTrailingZeros 59 = .ok (.iconst 4, 1) := by decide +kernel
theorem dJ16_numberOfTrailingZeros_60 : decode cJ16_numberOfTrailingZeros 60 = .ok (.iushr, 1) := by decide +kernel
theorem dJ16_numberOfTrailingZeros_61 : decode cJ16_numberOfTrailingZeros 61 = .ok (.istore_n 0, 1) := by decide +kernel
theorem dJ16_numberOfTrailingZeros_62 : decode cJ16_numberOfTrailingZeros 62 = .ok (.iload_n 0, 1) := by decide +kernel
theorem dJ16_numberOfTrailingZeros_63 : decode cJ16_numberOfTrailingZeros 63 = .ok (.iconst 4, 1) := by decide +kernel
theorem dJ16_numberOfTrailingZeros_64 : decode cJ16_numberOfTrailingZeros 64 = .ok (.if_icmp .le 10, 3) := by decide +kernel
theorem dJ16_numberOfTrailingZeros_67 : decode cJ16_numberOfTrailingZeros 67 = .ok (.iinc 1 2, 3) := by decide +kernel
theorem dJ16_numberOfTrailingZeros_70 : decode cJ16_numberOfTrailingZeros 70 = .ok (.iload_n 0, 1) := by decide +kernel
theorem dJ16_numberOfTrailingZeros_71 : decode cJ16_numberOfTrailingZeros 71 = .ok (.iconst 2, 1) := by decide +kernel
theorem dJ16_numberOfTrailingZeros_72 : decode cJ16_numberOfTrailingZeros 72 = .ok (.iushr, 1) := by decide +kernel
theorem dJ16_numberOfTrailingZeros_73 : decode cJ16_numberOfTrailingZeros 73 = .ok (.istore_n 0, 1) := by decide +kernel
theorem dJ16_numberOfTrailingZeros_74 : decode cJ16_numberOfTrailingZeros 74 = .ok (.iload_n 1, 1) := by decide +kernel
theorem dJ16_numberOfTrailingZeros_75 : decode cJ16_numberOfTrailingZeros 75 = .ok (.iload_n 0, 1) := by decide +kernel
theorem dJ16_numberOfTrailingZeros_76 : decode cJ16_numberOfTrailingZeros 76 = .ok (.iconst 1, 1) := by decide +kernel
theorem dJ16_numberOfTrailingZeros_77 : decode cJ16_numberOfTrailingZeros 77 = .ok (.iushr, 1) := by decide +kernel
theorem dJ16_numberOfTrailingZeros_78 : decode cJ16_numberOfTrailingZeros 78 = .ok (.iadd, 1) := by decide +kernel
theorem dJ16_numberOfTrailingZeros_79 : decode cJ16_numberOfTrailingZeros 79 = .ok (.ireturn, 1) := by decide +kernel
def fJ16_numberOfTrailingZeros (p1 : Int32) (A : AH) : Option (Int32) :=
if 0 < ((p1 ^^^ (-1 : Int32)) &&& (p1 - (1 : Int32))) then (jn (fun (x3 : Int32) (x4 : Int32) =>
jn (fun (x6 : Int32) (x7 : Int32) =>
jn (fun (x9 : Int32) (x10 : Int32) =>
jn (fun (x12 : Int32) (x13 : Int32) =>
some (x13 + ((Int32.toUInt32 x12 >>> (Int32.toUInt32 (1 : Int32) &&& Int32.toUInt32 31)).toInt32))) fun j11 =>
if x9 ≤ (4 : Int32) then (j11 x9 x10) else
j11 ((Int32.toUInt32 x9 >>> (Int32.toUInt32 (2 : Int32) &&& Int32.toUInt32 31)).toInt32) (x10 + (2 : Int32))) fun j8 =>
if x6 ≤ (16 : Int32) then (j8 x6 x7) else
j8 ((Int32.toUInt32 x6 >>> (Int32.toUInt32 (4 : Int32) &&& Int32.toUInt32 31)).toInt32) (x7 + (4 : Int32))) fun j5 =>
if x3 ≤ (256 : Int32) then (j5 x3 x4) else
j5 ((Int32.toUInt32 x3 >>> (Int32.toUInt32 (8 : Int32) &&& Int32.toUInt32 31)).toInt32) (x4 + (8 : Int32))) fun j2 =>
if ((p1 ^^^ (-1 : Int32)) &&& (p1 - (1 : Int32))) ≤ (65536 : Int32) then (j2 ((p1 ^^^ (-1 : Int32)) &&& (p1 - (1 : Int32))) (1 : Int32)) else
j2 ((Int32.toUInt32 ((p1 ^^^ (-1 : Int32)) &&& (p1 - (1 : Int32))) >>> (Int32.toUInt32 (16 : Int32) &&& Int32.toUInt32 31)).toInt32) ((1 : Int32) + (16 : Int32))) else
some (((p1 ^^^ (-1 : Int32)) &&& (p1 - (1 : Int32))) &&& (32 : Int32))

set_option maxHeartbeats 4000000 in
set_option maxRecDepth 100000 in
theorem sJ16_numberOfTrailingZeros (l : Launch) (D : DE) (p1 : Int32) (A : AH) (g : Int32) (hg : fJ16_numberOfTrailingZeros p1 A = some g) : Sm l D yJ16_numberOfTrailingZeros cJ16_numberOfTrailingZeros 2 (some Jvm.ClassFile.FieldType.int) 0 0 [tI p1] A (qI A g).1 (qI A g).2 := by
  refine Sm.of (ω := qI A) (fJ16_numberOfTrailingZeros p1 A) [some (tI p1), none] (by decide) (Nat.le_of_ble_eq_true rfl) rfl hg ?_
  intro p e R s m args below meth c X hin
  have X : Cx D cJ16_numberOfTrailingZeros RJ16 2 0 0 (some Jvm.ClassFile.FieldType.int) p R s m args meth c := X
  unfold fJ16_numberOfTrailingZeros
  refine rf_iload_n X rfl dJ16_numberOfTrailingZeros_0 ?_
  refine rf_iconst X (-1 : Int32) rfl dJ16_numberOfTrailingZeros_1 ?_
  refine rf_ixor X dJ16_numberOfTrailingZeros_2 ?_
  refine rf_iload_n X rfl dJ16_numberOfTrailingZeros_3 ?_
  refine rf_iconst X (1 : Int32) rfl dJ16_numberOfTrailingZeros_4 ?_
  refine rf_isub X dJ16_numberOfTrailingZeros_5 ?_
  refine rf_iand X dJ16_numberOfTrailingZeros_6 ?_
  refine rf_istore_n X (ls' := [some (tI ((p1 ^^^ (-1 : Int32)) &&& (p1 - (1 : Int32)))), none]) rfl (by decide) dJ16_numberOfTrailingZeros_7 ?_
  refine rf_iload_n X rfl dJ16_numberOfTrailingZeros_8 ?_
  refine rf_if_gt X (tgt := 17) rfl dJ16_numberOfTrailingZeros_9 (fun c1 => rf_pos c1 ?_) (fun c1 => rf_neg c1 ?_)
  · refine rf_iconst X (1 : Int32) rfl dJ16_numberOfTrailingZeros_17 ?_
    refine rf_istore_n X (ls' := [some (tI ((p1 ^^^ (-1 : Int32)) &&& (p1 - (1 : Int32)))), some (tI (1 : Int32))]) rfl (by decide) dJ16_numberOfTrailingZeros_18 ?_
    refine rf_iload_n X rfl dJ16_numberOfTrailingZeros_19 ?_
    refine rf_ldcw X (v := (65536 : Int32)) q1250 dJ16_numberOfTrailingZeros_20 ?_
    refine rf_jn2 (fun i => ∀ (x3 : Int32) (x4 : Int32), RfX X l e below (qI A) (i x3 x4) 34 [some (tI x3), some (tI x4)] [] A) ?_ (fun j2 hj2 => ?_)
    · intro x3 x4
      refine rf_iload_n X rfl dJ16_numberOfTrailingZeros_34 ?_
      refine rf_sipush X (256 : Int32) rfl dJ16_numberOfTrailingZeros_35 ?_
      refine rf_jn2 (fun i => ∀ (x6 : Int32) (x7 : Int32), RfX X l e below (qI A) (i x6 x7) 49 [some (tI x6), some (tI x7)] [] A) ?_ (fun j5 hj5 => ?_)
      · intro x6 x7
        refine rf_iload_n X rfl dJ16_numberOfTrailingZeros_49 ?_
        refine rf_bipush X (16 : Int32) rfl dJ16_numberOfTrailingZeros_50 ?_
        refine rf_jn2 (fun i => ∀ (x9 : Int32) (x10 : Int32), RfX X l e below (qI A) (i x9 x10) 62 [some (tI x9), some (tI x10)] [] A) ?_ (fun j8 hj8 => ?_)
        · intro x9 x10
          refine rf_iload_n X rfl dJ16_numberOfTrailingZeros_62 ?_
          refine rf_iconst X (4 : Int32) rfl dJ16_numberOfTrailingZeros_63 ?_
          refine rf_jn2 (fun i => ∀ (x12 : Int32) (x13 : Int32), RfX X l e below (qI A) (i x12 x13) 74 [some (tI x12), some (tI x13)] [] A) ?_ (fun j11 hj11 => ?_)
          · intro x12 x13
            refine rf_iload_n X rfl dJ16_numberOfTrailingZeros_74 ?_
            refine rf_iload_n X rfl dJ16_numberOfTrailingZeros_75 ?_
            refine rf_iconst X (1 : Int32) rfl dJ16_numberOfTrailingZeros_76 ?_
            refine rf_iushr X dJ16_numberOfTrailingZeros_77 ?_
            refine rf_iadd X dJ16_numberOfTrailingZeros_78 ?_
            exact rf_iret X rfl dJ16_numberOfTrailingZeros_79
          refine rf_icmp_le X (tgt := 74) rfl dJ16_numberOfTrailingZeros_64 (fun c14 => rf_pos c14 ?_) (fun c14 => rf_neg c14 ?_)
          · exact rf_go (hj11 x9 x10) (And.intro rfl (And.intro rfl True.intro))
          refine rf_iinc X (x10 + (2 : Int32)) rfl rfl (ls' := [some (tI x9), some (tI (x10 + (2 : Int32)))]) rfl (by decide) dJ16_numberOfTrailingZeros_67 ?_
          refine rf_iload_n X rfl dJ16_numberOfTrailingZeros_70 ?_
          refine rf_iconst X (2 : Int32) rfl dJ16_numberOfTrailingZeros_71 ?_
          refine rf_iushr X dJ16_numberOfTrailingZeros_72 ?_
          refine rf_istore_n X (ls' := [some (tI ((Int32.toUInt32 x9 >>> (Int32.toUInt32 (2 : Int32) &&& Int32.toUInt32 31)).toInt32)), some (tI (x10 + (2 : Int32)))]) rfl (by decide) dJ16_numberOfTrailingZeros_73 ?_
          exact rf_go (hj11 ((Int32.toUInt32 x9 >>> (Int32.toUInt32 (2 : Int32) &&& Int32.toUInt32 31)).toInt32) (x10 + (2 : Int32))) (And.intro rfl (And.intro rfl True.intro))
        refine rf_icmp_le X (tgt := 62) rfl dJ16_numberOfTrailingZeros_52 (fun c15 => rf_pos c15 ?_) (fun c15 => rf_neg c15 ?_)
        · exact rf_go (hj8 x6 x7) (And.intro rfl (And.intro rfl True.intro))
        refine rf_iinc X (x7 + (4 : Int32)) rfl rfl (ls' := [some (tI x6), some (tI (x7 + (4 : Int32)))]) rfl (by decide) dJ16_numberOfTrailingZeros_55 ?_
        refine rf_iload_n X rfl dJ16_numberOfTrailingZeros_58 ?_
        refine rf_iconst X (4 : Int32) rfl dJ16_numberOfTrailingZeros_59 ?_
        refine rf_iushr X dJ16_numberOfTrailingZeros_60 ?_
        refine rf_istore_n X (ls' := [some (tI ((Int32.toUInt32 x6 >>> (Int32.toUInt32 (4 : Int32) &&& Int32.toUInt32 31)).toInt32)), some (tI (x7 + (4 : Int32)))]) rfl (by decide) dJ16_numberOfTrailingZeros_61 ?_
        exact rf_go (hj8 ((Int32.toUInt32 x6 >>> (Int32.toUInt32 (4 : Int32) &&& Int32.toUInt32 31)).toInt32) (x7 + (4 : Int32))) (And.intro rfl (And.intro rfl True.intro))
      refine rf_icmp_le X (tgt := 49) rfl dJ16_numberOfTrailingZeros_38 (fun c16 => rf_pos c16 ?_) (fun c16 => rf_neg c16 ?_)
      · exact rf_go (hj5 x3 x4) (And.intro rfl (And.intro rfl True.intro))
      refine rf_iinc X (x4 + (8 : Int32)) rfl rfl (ls' := [some (tI x3), some (tI (x4 + (8 : Int32)))]) rfl (by decide) dJ16_numberOfTrailingZeros_41 ?_
      refine rf_iload_n X rfl dJ16_numberOfTrailingZeros_44 ?_
      refine rf_bipush X (8 : Int32) rfl dJ16_numberOfTrailingZeros_45 ?_
      refine rf_iushr X dJ16_numberOfTrailingZeros_47 ?_
      refine rf_istore_n X (ls' := [some (tI ((Int32.toUInt32 x3 >>> (Int32.toUInt32 (8 : Int32) &&& Int32.toUInt32 31)).toInt32)), some (tI (x4 + (8 : Int32)))]) rfl (by decide) dJ16_numberOfTrailingZeros_48 ?_
      exact rf_go (hj5 ((Int32.toUInt32 x3 >>> (Int32.toUInt32 (8 : Int32) &&& Int32.toUInt32 31)).toInt32) (x4 + (8 : Int32))) (And.intro rfl (And.intro rfl True.intro))
    refine rf_icmp_le X (tgt := 34) rfl dJ16_numberOfTrailingZeros_23 (fun c17 => rf_pos c17 ?_) (fun c17 => rf_neg c17 ?_)
    · exact rf_go (hj2 ((p1 ^^^ (-1 : Int32)) &&& (p1 - (1 : Int32))) (1 : Int32)) (And.intro rfl (And.intro rfl True.intro))
    refine rf_iinc X ((1 : Int32) + (16 : Int32)) rfl rfl (ls' := [some (tI ((p1 ^^^ (-1 : Int32)) &&& (p1 - (1 : Int32)))), some (tI ((1 : Int32) + (16 : Int32)))]) rfl (by decide) dJ16_numberOfTrailingZeros_26 ?_
    refine rf_iload_n X rfl dJ16_numberOfTrailingZeros_29 ?_
    refine rf_bipush X (16 : Int32) rfl dJ16_numberOfTrailingZeros_30 ?_
    refine rf_iushr X dJ16_numberOfTrailingZeros_32 ?_
    refine rf_istore_n X (ls' := [some (tI ((Int32.toUInt32 ((p1 ^^^ (-1 : Int32)) &&& (p1 - (1 : Int32))) >>> (Int32.toUInt32 (16 : Int32) &&& Int32.toUInt32 31)).toInt32)), some (tI ((1 : Int32) + (16 : Int32)))]) rfl (by decide) dJ16_numberOfTrailingZeros_33 ?_
    exact rf_go (hj2 ((Int32.toUInt32 ((p1 ^^^ (-1 : Int32)) &&& (p1 - (1 : Int32))) >>> (Int32.toUInt32 (16 : Int32) &&& Int32.toUInt32 31)).toInt32) ((1 : Int32) + (16 : Int32))) (And.intro rfl (And.intro rfl True.intro))
  refine rf_iload_n X rfl dJ16_numberOfTrailingZeros_12 ?_
  refine rf_bipush X (32 : Int32) rfl dJ16_numberOfTrailingZeros_13 ?_
  refine rf_iand X dJ16_numberOfTrailingZeros_15 ?_
  exact rf_iret X rfl dJ16_numberOfTrailingZeros_16

theorem dJ16_bitCount_0 : decode cJ16_bitCount 0 = .ok (.iload_n 0, 1) := by decide +kernel
theorem dJ16_bitCount_1 : decode cJ16_bitCount 1 = .ok (.iload_n 0, 1) := by decide +kernel
theorem dJ16_bitCount_2 : decode cJ16_bitCount 2 = .ok (.iconst 1, 1) := by decide +kernel
theorem dJ16_bitCount_3 : decode cJ16_bitCount 3 = .ok (.iushr, 1) := by decide +kernel
theorem dJ16_bitCount_4 : decode cJ16_bitCount 4 = .ok (.ldc_w 265, 3) := by decide +kernel
theorem dJ16_bitCount_7 : decode cJ16_bitCount 7 = .ok (.iand, 1) := by decide +kernel
theorem dJ16_bitCount_8 : decode cJ16_bitCount 8 = .ok (.isub, 1) := by decide +kernel
theorem dJ16_bitCount_9 : decode cJ16_bitCount 9 = .ok (.istore_n 0, 1) := by decide +kernel
theorem dJ16_bitCount_10 : decode cJ16_bitCount 10 = .ok (.iload_n 0, 1) := by decide +kernel
theorem dJ16_bitCount_11 : decode cJ16_bitCount 11 = .ok (.ldc_w 266, 3) := by decide +kernel
theorem dJ16_bitCount_14 : decode cJ16_bitCount 14 = .ok (.iand, 1) := by decide +kernel
theorem dJ16_bitCount_15 : decode cJ16_bitCount 15 = .ok (.iload_n 0, 1) := by decide +kernel
theorem dJ16_bitCount_16 : decode cJ16_bitCount 16 = .ok (.iconst 2, 1) := by decide +kernel
theorem dJ16_bitCount_17 : decode cJ16_bitCount 17 = .ok (.iushr, 1) := by decide +kernel
theorem dJ16_bitCount_18 : decode cJ16_bitCount 18 = .ok (.ldc_w 266, 3) := by decide +kernel
theorem dJ16_bitCount_21 : decode cJ16_bitCount 21 = .ok (.iand, 1) := by decide +kernel
theorem dJ16_bitCount_22 : decode cJ16_bitCount 22 = .ok (.iadd, 1) := by decide +kernel
theorem dJ16_bitCount_23 : decode cJ16_bitCount 23 = .ok (.istore_n 0, 1) := by decide +kernel
theorem dJ16_bitCount_24 : decode cJ16_bitCount 24 = .ok (.iload_n 0, 1) := by decide +kernel
theorem dJ16_bitCount_25 : decode cJ16_bitCount 25 = .ok (.iload_n 0, 1) := by decide +kernel
theorem dJ16_bitCount_26 : decode cJ16_bitCount 26 = .ok (.iconst 4, 1) := by decide +kernel
theorem dJ16_bitCount_27 : decode cJ16_bitCount 27 = .ok (.iushr, 1) := by decide +kernel
theorem dJ16_bitCount_28 : decode cJ16_bitCount 28 = .ok (.iadd, 1) := by decide +kernel
theorem dJ16_bitCount_29 : decode cJ16_bitCount 29 = .ok (.ldc_w 267, 3) := by decide +kernel
theorem dJ16_bitCount_32 : decode cJ16_bitCount 32 = .ok (.iand, 1) := by decide +kernel
theorem dJ16_bitCount_33 : decode cJ16_bitCount 33 = .ok (.istore_n 0, 1) := by decide +kernel
theorem dJ16_bitCount_34 : decode cJ16_bitCount 34 = .ok (.iload_n 0, 1) := by decide +kernel
theorem dJ16_bitCount_35 : decode cJ16_bitCount 35 = .ok (.iload_n 0, 1) := by decide +kernel
theorem dJ16_bitCount_36 : decode cJ16_bitCount 36 = .ok (.bipush 8, 2) := by decide +kernel
theorem dJ16_bitCount_38 : decode cJ16_bitCount 38 = .ok (.iushr, 1) := by decide +kernel
theorem dJ16_bitCount_39 : decode cJ16_bitCount 39 = .ok (.iadd, 1) := by decide +kernel
theorem dJ16_bitCount_40 : decode cJ16_bitCount 40 = .ok (.istore_n 0, 1) := by decide +kernel
theorem dJ16_bitCount_41 : decode cJ16_bitCount 41 = .ok (.iload_n 0, 1) := by decide +kernel
theorem dJ16_bitCount_42 : decode cJ16_bitCount 42 = .ok (.iload_n 0, 1) := by decide +kernel
theorem dJ16_bitCount_43 : decode cJ16_bitCount 43 = .ok (.bipush 16, 2) := by decide +kernel
theorem dJ16_bitCount_45 : decode cJ16_bitCount 45 = .ok (.iushr, 1) := by decide +kernel
theorem dJ16_bitCount_46 : decode cJ16_bitCount 46 = .ok (.iadd, 1) := by decide +kernel
theorem dJ16_bitCount_47 : decode cJ16_bitCount 47 = .ok (.istore_n 0, 1) := by decide +kernel
theorem dJ16_bitCount_48 : decode cJ16_bitCount 48 = .ok (.iload_n 0, 1) := by decide +kernel
theorem dJ16_bitCount_49 : decode cJ16_bitCount 49 = .ok (.bipush 63, 2) := by decide +kernel
theorem dJ16_bitCount_51 : decode cJ16_bitCount 51 = .ok (.iand, 1) := by decide +kernel
theorem dJ16_bitCount_52 : decode cJ16_bitCount 52 = .ok (.ireturn, 1) := by decide +kernel
def fJ16_bitCount (p1 : Int32) (A : AH) : Option (Int32) :=
some ((((((((p1 - (((Int32.toUInt32 p1 >>> (Int32.toUInt32 (1 : Int32) &&& Int32.toUInt32 31)).toInt32) &&& (1431655765 : Int32))) &&& (858993459 : Int32)) + (((Int32.toUInt32 (p1 - (((Int32.toUInt32 p1 >>> (Int32.toUInt32 (1 : Int32) &&& Int32.toUInt32 31)).toInt32) &&& (1431655765 : Int32))) >>> (Int32.toUInt32 (2 : Int32) &&& Int32.toUInt32 31)).toInt32) &&& (858993459 : Int32))) + ((Int32.toUInt32 (((p1 - (((Int32.toUInt32 p1 >>> (Int32.toUInt32 (1 : Int32) &&& Int32.toUInt32 31)).toInt32) &&& (1431655765 : Int32))) &&& (858993459 : Int32)) + (((Int32.toUInt32 (p1 - (((Int32.toUInt32 p1 >>> (Int32.toUInt32 (1 : Int32) &&& Int32.toUInt32 31)).toInt32) &&& (1431655765 : Int32))) >>> (Int32.toUInt32 (2 : Int32) &&& Int32.toUInt32 31)).toInt32) &&& (858993459 : Int32))) >>> (Int32.toUInt32 (4 : Int32) &&& Int32.toUInt32 31)).toInt32)) &&& (252645135 : Int32)) + ((Int32.toUInt32 (((((p1 - (((Int32.toUInt32 p1 >>> (Int32.toUInt32 (1 : Int32) &&& Int32.toUInt32 31)).toInt32) &&& (1431655765 : Int32))) &&& (858993459 : Int32)) + (((Int32.toUInt32 (p1 - (((Int32.toUInt32 p1 >>> (Int32.toUInt32 (1 : Int32) &&& Int32.toUInt32 31)).toInt32) &&& (1431655765 : Int32))) >>> (Int32.toUInt32 (2 : Int32) &&& Int32.toUInt32 31)).toInt32) &&& (858993459 : Int32))) + ((Int32.toUInt32 (((p1 - (((Int32.toUInt32 p1 >>> (Int32.toUInt32 (1 : Int32) &&& Int32.toUInt32 31)).toInt32) &&& (1431655765 : Int32))) &&& (858993459 : Int32)) + (((Int32.toUInt32 (p1 - (((Int32.toUInt32 p1 >>> (Int32.toUInt32 (1 : Int32) &&& Int32.toUInt32 31)).toInt32) &&& (1431655765 : Int32))) >>> (Int32.toUInt32 (2 : Int32) &&& Int32.toUInt32 31)).toInt32) &&& (858993459 : Int32))) >>> (Int32.toUInt32 (4 : Int32) &&& Int32.toUInt32 31)).toInt32)) &&& (252645135 : Int32)) >>> (Int32.toUInt32 (8 : Int32) &&& Int32.toUInt32 31)).toInt32)) + ((Int32.toUInt32 ((((((p1 - (((Int32.toUInt32 p1 >>> (Int32.toUInt32 (1 : Int32) &&& Int32.toUInt32 31)).toInt32) &&& (1431655765 : Int32))) &&& (858993459 : Int32)) + (((Int32.toUInt32 (p1 - (((Int32.toUInt32 p1 >>> (Int32.toUInt32 (1 : Int32) &&& Int32.toUInt32 31)).toInt32) &&& (1431655765 : Int32))) >>> (Int32.toUInt32 (2 : Int32) &&& Int32.toUInt32 31)).toInt32) &&& (858993459 : Int32))) + ((Int32.toUInt32 (((p1 - (((Int32.toUInt32 p1 >>> (Int32.toUInt32 (1 : Int32) &&& Int32.toUInt32 31)).toInt32) &&& (1431655765 : Int32))) &&& (858993459 : Int32)) + (((Int32.toUInt32 (p1 - (((Int32.toUInt32 p1 >>> (Int32.toUInt32 (1 : Int32) &&& Int32.toUInt32 31)).toInt32) &&& (1431655765 : Int32))) >>> (Int32.toUInt32 (2 : Int32) &&& Int32.toUInt32 31)).toInt32) &&& (858993459 : Int32))) >>> (Int32.toUInt32 (4 : Int32) &&& Int32.toUInt32 31)).toInt32)) &&& (252645135 : Int32)) + ((Int32.toUInt32 (((((p1 - (((Int32.toUInt32 p1 >>> (Int32.toUInt32 (1 : Int32) &&& Int32.toUInt32 31)).toInt32) &&& (1431655765 : Int32))) &&& (858993459 : Int32)) + (((Int32.toUInt32 (p1 - (((Int32.toUInt32 p1 >>> (Int32.toUInt32 (1 : Int32) &&& Int32.toUInt32 31)).toInt32) &&& (1431655765 : Int32))) >>> (Int32.toUInt32 (2 : Int32) &&& Int32.toUInt32 31)).toInt32) &&& (858993459 : Int32))) + ((Int32.toUInt32 (((p1 - (((Int32.toUInt32 p1 >>> (Int32.toUInt32 (1 : Int32) &&& Int32.toUInt32 31)).toInt32) &&& (1431655765 : Int32))) &&& (858993459 : Int32)) + (((Int32.toUInt32 (p1 - (((Int32.toUInt32 p1 >>> (Int32.toUInt32 (1 : Int32) &&& Int32.toUInt32 31)).toInt32) &&& (1431655765 : Int32))) >>> (Int32.toUInt32 (2 : Int32) &&& Int32.toUInt32 31)).toInt32) &&& (858993459 : Int32))) >>> (Int32.toUInt32 (4 : Int32) &&& Int32.toUInt32 31)).toInt32)) &&& (252645135 : Int32)) >>> (Int32.toUInt32 (8 : Int32) &&& Int32.toUInt32 31)).toInt32)) >>> (Int32.toUInt32 (16 : Int32) &&& Int32.toUInt32 31)).toInt32)) &&& (63 : Int32))

set_option maxHeartbeats 4000000 in
set_option maxRecDepth 100000 in
theorem sJ16_bitCount (l : Launch) (D : DE) (p1 : Int32) (A : AH) (g : Int32) (hg : fJ16_bitCount p1 A = some g) : Sm l D yJ16_bitCount cJ16_bitCount 1 (some Jvm.ClassFile.FieldType.int) 0 0 [tI p1] A (qI A g).1 (qI A g).2 := by
  refine Sm.of (ω := qI A) (fJ16_bitCount p1 A) [some (tI p1)] (by decide) (Nat.le_of_ble_eq_true rfl) rfl hg ?_
  intro p e R s m args below meth c X hin
  have X : Cx D cJ16_bitCount RJ16 1 0 0 (some Jvm.ClassFile.FieldType.int) p R s m args meth c := X
  unfold fJ16_bitCount
  refine rf_iload_n X rfl dJ16_bitCount_0 ?_
  refine rf_iload_n X rfl dJ16_bitCount_1 ?_
  refine rf_iconst X (1 : Int32) rfl dJ16_bitCount_2 ?_
  refine rf_iushr X dJ16_bitCount_3 ?_
  refine rf_ldcw X (v := (1431655765 : Int32)) q1333 dJ16_bitCount_4 ?_
  refine rf_iand X dJ16_bitCount_7 ?_
  refine rf_isub X dJ16_bitCount_8 ?_
  refine rf_istore_n X (ls' := [some (tI (p1 - (((Int32.toUInt32 p1 >>> (Int32.toUInt32 (1 : Int32) &&& Int32.toUInt32 31)).toInt32) &&& (1431655765 : Int32))))]) rfl (by decide) dJ16_bitCount_9 ?_
  refine rf_iload_n X rfl dJ16_bitCount_10 ?_
  refine rf_ldcw X (v := (858993459 : Int32)) q1334 dJ16_bitCount_11 ?_
  refine rf_iand X dJ16_bitCount_14 ?_
  refine rf_iload_n X rfl dJ16_bitCount_15 ?_
  refine rf_iconst X (2 : Int32) rfl dJ16_bitCount_16 ?_
  refine rf_iushr X dJ16_bitCount_17 ?_
  refine rf_ldcw X (v := (858993459 : Int32)) q1334 dJ16_bitCount_18 ?_
  refine rf_iand X dJ16_bitCount_21 ?_
  refine rf_iadd X dJ16_bitCount_22 ?_
  refine rf_istore_n X (ls' := [some (tI (((p1 - (((Int32.toUInt32 p1 >>> (Int32.toUInt32 (1 : Int32) &&& Int32.toUInt32 31)).toInt32) &&& (1431655765 : Int32))) &&& (858993459 : Int32)) + (((Int32.toUInt32 (p1 - (((Int32.toUInt32 p1 >>> (Int32.toUInt32 (1 : Int32) &&& Int32.toUInt32 31)).toInt32) &&& (1431655765 : Int32))) >>> (Int32.toUInt32 (2 : Int32) &&& Int32.toUInt32 31)).toInt32) &&& (858993459 : Int32))))]) rfl (by decide) dJ16_bitCount_23 ?_
  refine rf_iload_n X rfl dJ16_bitCount_24 ?_
  refine rf_iload_n X rfl dJ16_bitCount_25 ?_
  refine rf_iconst X (4 : Int32) rfl dJ16_bitCount_26 ?_
  refine rf_iushr X dJ16_bitCount_27 ?_
  refine rf_iadd X dJ16_bitCount_28 ?_
  refine rf_ldcw X (v := (252645135 : Int32)) q1335 dJ16_bitCount_29 ?_
  refine rf_iand X dJ16_bitCount_32 ?_
  refine rf_istore_n X (ls' := [some (tI (((((p1 - (((Int32.toUInt32 p1 >>> (Int32.toUInt32 (1 : Int32) &&& Int32.toUInt32 31)).toInt32) &&& (1431655765 : Int32))) &&& (858993459 : Int32)) + (((Int32.toUInt32 (p1 - (((Int32.toUInt32 p1 >>> (Int32.toUInt32 (1 : Int32) &&& Int32.toUInt32 31)).toInt32) &&& (1431655765 : Int32))) >>> (Int32.toUInt32 (2 : Int32) &&& Int32.toUInt32 31)).toInt32) &&& (858993459 : Int32))) + ((Int32.toUInt32 (((p1 - (((Int32.toUInt32 p1 >>> (Int32.toUInt32 (1 : Int32) &&& Int32.toUInt32 31)).toInt32) &&& (1431655765 : Int32))) &&& (858993459 : Int32)) + (((Int32.toUInt32 (p1 - (((Int32.toUInt32 p1 >>> (Int32.toUInt32 (1 : Int32) &&& Int32.toUInt32 31)).toInt32) &&& (1431655765 : Int32))) >>> (Int32.toUInt32 (2 : Int32) &&& Int32.toUInt32 31)).toInt32) &&& (858993459 : Int32))) >>> (Int32.toUInt32 (4 : Int32) &&& Int32.toUInt32 31)).toInt32)) &&& (252645135 : Int32)))]) rfl (by decide) dJ16_bitCount_33 ?_
  refine rf_iload_n X rfl dJ16_bitCount_34 ?_
  refine rf_iload_n X rfl dJ16_bitCount_35 ?_
  refine rf_bipush X (8 : Int32) rfl dJ16_bitCount_36 ?_
  refine rf_iushr X dJ16_bitCount_38 ?_
  refine rf_iadd X dJ16_bitCount_39 ?_
  refine rf_istore_n X (ls' := [some (tI ((((((p1 - (((Int32.toUInt32 p1 >>> (Int32.toUInt32 (1 : Int32) &&& Int32.toUInt32 31)).toInt32) &&& (1431655765 : Int32))) &&& (858993459 : Int32)) + (((Int32.toUInt32 (p1 - (((Int32.toUInt32 p1 >>> (Int32.toUInt32 (1 : Int32) &&& Int32.toUInt32 31)).toInt32) &&& (1431655765 : Int32))) >>> (Int32.toUInt32 (2 : Int32) &&& Int32.toUInt32 31)).toInt32) &&& (858993459 : Int32))) + ((Int32.toUInt32 (((p1 - (((Int32.toUInt32 p1 >>> (Int32.toUInt32 (1 : Int32) &&& Int32.toUInt32 31)).toInt32) &&& (1431655765 : Int32))) &&& (858993459 : Int32)) + (((Int32.toUInt32 (p1 - (((Int32.toUInt32 p1 >>> (Int32.toUInt32 (1 : Int32) &&& Int32.toUInt32 31)).toInt32) &&& (1431655765 : Int32))) >>> (Int32.toUInt32 (2 : Int32) &&& Int32.toUInt32 31)).toInt32) &&& (858993459 : Int32))) >>> (Int32.toUInt32 (4 : Int32) &&& Int32.toUInt32 31)).toInt32)) &&& (252645135 : Int32)) + ((Int32.toUInt32 (((((p1 - (((Int32.toUInt32 p1 >>> (Int32.toUInt32 (1 : Int32) &&& Int32.toUInt32 31)).toInt32) &&& (1431655765 : Int32))) &&& (858993459 : Int32)) + (((Int32.toUInt32 (p1 - (((Int32.toUInt32 p1 >>> (Int32.toUInt32 (1 : Int32) &&& Int32.toUInt32 31)).toInt32) &&& (1431655765 : Int32))) >>> (Int32.toUInt32 (2 : Int32) &&& Int32.toUInt32 31)).toInt32) &&& (858993459 : Int32))) + ((Int32.toUInt32 (((p1 - (((Int32.toUInt32 p1 >>> (Int32.toUInt32 (1 : Int32) &&& Int32.toUInt32 31)).toInt32) &&& (1431655765 : Int32))) &&& (858993459 : Int32)) + (((Int32.toUInt32 (p1 - (((Int32.toUInt32 p1 >>> (Int32.toUInt32 (1 : Int32) &&& Int32.toUInt32 31)).toInt32) &&& (1431655765 : Int32))) >>> (Int32.toUInt32 (2 : Int32) &&& Int32.toUInt32 31)).toInt32) &&& (858993459 : Int32))) >>> (Int32.toUInt32 (4 : Int32) &&& Int32.toUInt32 31)).toInt32)) &&& (252645135 : Int32)) >>> (Int32.toUInt32 (8 : Int32) &&& Int32.toUInt32 31)).toInt32)))]) rfl (by decide) dJ16_bitCount_40 ?_
  refine rf_iload_n X rfl dJ16_bitCount_41 ?_
  refine rf_iload_n X rfl dJ16_bitCount_42 ?_
  refine rf_bipush X (16 : Int32) rfl dJ16_bitCount_43 ?_
  refine rf_iushr X dJ16_bitCount_45 ?_
  refine rf_iadd X dJ16_bitCount_46 ?_
  refine rf_istore_n X (ls' := [some (tI (((((((p1 - (((Int32.toUInt32 p1 >>> (Int32.toUInt32 (1 : Int32) &&& Int32.toUInt32 31)).toInt32) &&& (1431655765 : Int32))) &&& (858993459 : Int32)) + (((Int32.toUInt32 (p1 - (((Int32.toUInt32 p1 >>> (Int32.toUInt32 (1 : Int32) &&& Int32.toUInt32 31)).toInt32) &&& (1431655765 : Int32))) >>> (Int32.toUInt32 (2 : Int32) &&& Int32.toUInt32 31)).toInt32) &&& (858993459 : Int32))) + ((Int32.toUInt32 (((p1 - (((Int32.toUInt32 p1 >>> (Int32.toUInt32 (1 : Int32) &&& Int32.toUInt32 31)).toInt32) &&& (1431655765 : Int32))) &&& (858993459 : Int32)) + (((Int32.toUInt32 (p1 - (((Int32.toUInt32 p1 >>> (Int32.toUInt32 (1 : Int32) &&& Int32.toUInt32 31)).toInt32) &&& (1431655765 : Int32))) >>> (Int32.toUInt32 (2 : Int32) &&& Int32.toUInt32 31)).toInt32) &&& (858993459 : Int32))) >>> (Int32.toUInt32 (4 : Int32) &&& Int32.toUInt32 31)).toInt32)) &&& (252645135 : Int32)) + ((Int32.toUInt32 (((((p1 - (((Int32.toUInt32 p1 >>> (Int32.toUInt32 (1 : Int32) &&& Int32.toUInt32 31)).toInt32) &&& (1431655765 : Int32))) &&& (858993459 : Int32)) + (((Int32.toUInt32 (p1 - (((Int32.toUInt32 p1 >>> (Int32.toUInt32 (1 : Int32) &&& Int32.toUInt32 31)).toInt32) &&& (1431655765 : Int32))) >>> (Int32.toUInt32 (2 : Int32) &&& Int32.toUInt32 31)).toInt32) &&& (858993459 : Int32))) + ((Int32.toUInt32 (((p1 - (((Int32.toUInt32 p1 >>> (Int32.toUInt32 (1 : Int32) &&& Int32.toUInt32 31)).toInt32) &&& (1431655765 : Int32))) &&& (858993459 : Int32)) + (((Int32.toUInt32 (p1 - (((Int32.toUInt32 p1 >>> (Int32.toUInt32 (1 : Int32) &&& Int32.toUInt32 31)).toInt32) &&& (1431655765 : Int32))) >>> (Int32.toUInt32 (2 : Int32) &&& Int32.toUInt32 31)).toInt32) &&& (858993459 : Int32))) >>> (Int32.toUInt32 (4 : Int32) &&& Int32.toUInt32 31)).toInt32)) &&& (252645135 : Int32)) >>> (Int32.toUInt32 (8 : Int32) &&& Int32.toUInt32 31)).toInt32)) + ((Int32.toUInt32 ((((((p1 - (((Int32.toUInt32 p1 >>> (Int32.toUInt32 (1 : Int32) &&& Int32.toUInt32 31)).toInt32) &&& (1431655765 : Int32))) &&& (858993459 : Int32)) + (((Int32.toUInt32 (p1 - (((Int32.toUInt32 p1 >>> (Int32.toUInt32 (1 : Int32) &&& Int32.toUInt32 31)).toInt32) &&& (1431655765 : Int32))) >>> (Int32.toUInt32 (2 : Int32) &&& Int32.toUInt32 31)).toInt32) &&& (858993459 : Int32))) + ((Int32.toUInt32 (((p1 - (((Int32.toUInt32 p1 >>> (Int32.toUInt32 (1 : Int32) &&& Int32.toUInt32 31)).toInt32) &&& (1431655765 : Int32))) &&& (858993459 : Int32)) + (((Int32.toUInt32 (p1 - (((Int32.toUInt32 p1 >>> (Int32.toUInt32 (1 : Int32) &&& Int32.toUInt32 31)).toInt32) &&& (1431655765 : Int32))) >>> (Int32.toUInt32 (2 : Int32) &&& Int32.toUInt32 31)).toInt32) &&& (858993459 : Int32))) >>> (Int32.toUInt32 (4 : Int32) &&& Int32.toUInt32 31)).toInt32)) &&& (252645135 : Int32)) + ((Int32.toUInt32 (((((p1 - (((Int32.toUInt32 p1 >>> (Int32.toUInt32 (1 : Int32) &&& Int32.toUInt32 31)).toInt32) &&& (1431655765 : Int32))) &&& (858993459 : Int32)) + (((Int32.toUInt32 (p1 - (((Int32.toUInt32 p1 >>> (Int32.toUInt32 (1 : Int32) &&& Int32.toUInt32 31)).toInt32) &&& (1431655765 : Int32))) >>> (Int32.toUInt32 (2 : Int32) &&& Int32.toUInt32 31)).toInt32) &&& (858993459 : Int32))) + ((Int32.toUInt32 (((p1 - (((Int32.toUInt32 p1 >>> (Int32.toUInt32 (1 : Int32) &&& Int32.toUInt32 31)).toInt32) &&& (1431655765 : Int32))) &&& (858993459 : Int32)) + (((Int32.toUInt32 (p1 - (((Int32.toUInt32 p1 >>> (Int32.toUInt32 (1 : Int32) &&& Int32.toUInt32 31)).toInt32) &&& (1431655765 : Int32))) >>> (Int32.toUInt32 (2 : Int32) &&& Int32.toUInt32 31)).toInt32) &&& (858993459 : Int32))) >>> (Int32.toUInt32 (4 : Int32) &&& Int32.toUInt32 31)).toInt32)) &&& (252645135 : Int32)) >>> (Int32.toUInt32 (8 : Int32) &&& Int32.toUInt32 31)).toInt32)) >>> (Int32.toUInt32 (16 : Int32) &&& Int32.toUInt32 31)).toInt32)))]) rfl (by decide) dJ16_bitCount_47 ?_
  refine rf_iload_n X rfl dJ16_bitCount_48 ?_
  refine rf_bipush X (63 : Int32) rfl dJ16_bitCount_49 ?_
  refine rf_iand X dJ16_bitCount_51 ?_
  exact rf_iret X rfl dJ16_bitCount_52

theorem dJ17_wordIndex_0 : decode cJ17_wordIndex 0 = .ok (.iload_n 0, 1) := by decide +kernel
theorem dJ17_wordIndex_1 : decode cJ17_wordIndex 1 = .ok (.bipush 6, 2) := by decide +kernel
theorem dJ17_wordIndex_3 : decode cJ17_wordIndex 3 = .ok (.ishr, 1) := by decide +kernel
theorem dJ17_wordIndex_4 : decode cJ17_wordIndex 4 = .ok (.ireturn, 1) := by decide +kernel
def fJ17_wordIndex (p1 : Int32) (A : AH) : Option (Int32) :=
some (p1 >>> ((6 : Int32) &&& 31))

set_option maxHeartbeats 4000000 in
set_option maxRecDepth 100000 in
theorem sJ17_wordIndex (l : Launch) (D : DE) (p1 : Int32) (A : AH) (g : Int32) (hg : fJ17_wordIndex p1 A = some g) : Sm l D yJ17_wordIndex cJ17_wordIndex 1 (some Jvm.ClassFile.FieldType.int) 0 0 [tI p1] A (qI A g).1 (qI A g).2 := by
  refine Sm.of (ω := qI A) (fJ17_wordIndex p1 A) [some (tI p1)] (by decide) (Nat.le_of_ble_eq_true rfl) rfl hg ?_
  intro p e R s m args below meth c X hin
  have X : Cx D cJ17_wordIndex RJ17 1 0 0 (some Jvm.ClassFile.FieldType.int) p R s m args meth c := X
  unfold fJ17_wordIndex
  refine rf_iload_n X rfl dJ17_wordIndex_0 ?_
  refine rf_bipush X (6 : Int32) rfl dJ17_wordIndex_1 ?_
  refine rf_ishr X dJ17_wordIndex_3 ?_
  exact rf_iret X rfl dJ17_wordIndex_4

theorem dJ17_initWords_0 : decode cJ17_initWords 0 = .ok (.aload_n 0, 1) := by decide +kernel
theorem dJ17_initWords_1 : decode cJ17_initWords 1 = .ok (.iload_n 1, 1) := by decide +kernel
theorem dJ17_initWords_2 : decode cJ17_initWords 2 = .ok (.iconst 1, 1) := by decide +kernel
theorem dJ17_initWords_3 : decode cJ17_initWords 3 = .ok (.isub, 1) := by decide +kernel
theorem dJ17_initWords_4 : decode cJ17_initWords 4 = .ok (.invokestatic 52, 3) := by decide +kernel
theorem dJ17_initWords_7 : decode cJ17_initWords 7 = .ok (.iconst 1, 1) := by decide +kernel
theorem dJ17_initWords_8 : decode cJ17_initWords 8 = .ok (.iadd, 1) := by decide +kernel
theorem dJ17_initWords_9 : decode cJ17_initWords 9 = .ok (.newarray .long, 2) := by decide +kernel
theorem dJ17_initWords_11 : decode cJ17_initWords 11 = .ok (.putfield 11, 3) := by decide +kernel
theorem dJ17_initWords_14 : decode cJ17_initWords 14 = .ok (.return_, 1) := by decide +kernel
def fJ17_initWords (a0 : Nat) (p1 : Int32) (A : AH) : Option (AH) :=
(fJ17_wordIndex (p1 - (1 : Int32)) A).bind fun g1 =>
(nAL A (g1 + (1 : Int32))).bind fun A2 =>
(pR A2 (some a0) 6 0 (some (hN A))).bind fun A3 =>
some A3

set_option maxHeartbeats 4000000 in
set_option maxRecDepth 100000 in
theorem sJ17_initWords (l : Launch) (D : DE) (a0 : Nat) (p1 : Int32) (A : AH) (g : AH) (hg : fJ17_initWords a0 p1 A = some g) : Sm l D yJ17_initWords cJ17_initWords 2 none 1 20 [tR (some a0), tI p1] A (wU g).1 (wU g).2 := by
  refine Sm.of (ω := wU) (fJ17_initWords a0 p1 A) [some (tR (some a0)), some (tI p1)] (by decide) (Nat.le_of_ble_eq_true rfl) rfl hg ?_
  intro p e R s m args below meth c X hin
  have X : Cx D cJ17_initWords RJ17 2 1 20 none p R s m args meth c := X
  unfold fJ17_initWords
  refine rf_aload_n X rfl dJ17_initWords_0 ?_
  refine rf_iload_n X rfl dJ17_initWords_1 ?_
  refine rf_iconst X (1 : Int32) rfl dJ17_initWords_2 ?_
  refine rf_isub X dJ17_initWords_3 ?_
  refine rf_bind (fun g1 hg1 => ?_)
  refine rf_callSI X c_J17_52 ⟨Nat.le_of_ble_eq_true rfl, Nat.le_of_ble_eq_true rfl⟩ [tI (p1 - (1 : Int32))] rfl (Nat.le_of_ble_eq_true rfl) (sJ17_wordIndex l D (p1 - (1 : Int32)) A g1 hg1) dJ17_initWords_4 ?_
  refine rf_iconst X (1 : Int32) rfl dJ17_initWords_7 ?_
  refine rf_iadd X dJ17_initWords_8 ?_
  refine rf_bind (fun A2 hA2 => ?_)
  refine rf_newL X hA2 dJ17_initWords_9 ?_
  refine rf_bind (fun A3 hA3 => ?_)
  refine rf_putR X fp_J17_11 (fun h => by cases h) rfl hA3 dJ17_initWords_11 ?_
  exact rf_vret X rfl dJ17_initWords_14

theorem dJ17_init_0 : decode cJ17_init 0 = .ok (.aload_n 0, 1) := by decide +kernel
theorem dJ17_init_1 : decode cJ17_init 1 = .ok (.invokespecial 21, 3) := by decide +kernel
theorem dJ17_init_4 : decode cJ17_init 4 = .ok (.aload_n 0, 1) := by decide +kernel
theorem dJ17_init_5 : decode cJ17_init 5 = .ok (.iconst 0, 1) := by decide +kernel
theorem dJ17_init_6 : decode cJ17_init 6 = .ok (.putfield 7, 3) := by decide +kernel
theorem dJ17_init_9 : decode cJ17_init 9 = .ok (.aload_n 0, 1) := by decide +kernel
theorem dJ17_init_10 : decode cJ17_init 10 = .ok (.iconst 0, 1) := by decide +kernel
theorem dJ17_init_11 : decode cJ17_init 11 = .ok (.putfield 24, 3) := by decide +kernel
theorem dJ17_init_14 : decode cJ17_init 14 = .ok (.iload_n 1, 1) := by decide +kernel
theorem dJ17_init_15 : decode cJ17_init 15 = .ok (.ifCond .ge 30, 3) := by decide +kernel
theorem dJ17_init_45 : decode cJ17_init 45 = .ok (.aload_n 0, 1) := by decide +kernel
theorem dJ17_init_46 : decode cJ17_init 46 = .ok (.iload_n 1, 1) := by decide +kernel
theorem dJ17_init_47 : decode cJ17_init 47 = .ok (.invokevirtual 27, 3) := by decide +kernel
theorem dJ17_init_50 : decode cJ17_init 50 = .ok (.aload_n 0, 1) := by decide +kernel
theorem dJ17_init_51 : decode cJ17_init 51 = .ok (.iconst 1, 1) := by decide +kernel
theorem dJ17_init_52 : decode cJ17_init 52 = .ok (.putfield 24, 3) := by decide +kernel
theorem dJ17_init_55 : decode cJ17_init 55 = .ok (.return_, 1) := by decide +kernel
def fJ17_init (a0 : Nat) (p1 : Int32) (A : AH) : Option (AH) :=
(pI A (some a0) 6 1 (0 : Int32)).bind fun A1 =>
(pI A1 (some a0) 6 2 (0 : Int32)).bind fun A2 =>
if 0 ≤ p1 then ((rcv A2 (some a0) 6).bind fun v4 =>
(fJ17_initWords v4 p1 A2).bind fun g5 =>
(pI g5 (some a0) 6 2 (1 : Int32)).bind fun A6 =>
some A6) else
none

set_option maxHeartbeats 4000000 in
set_option maxRecDepth 100000 in
theorem sJ17_init (l : Launch) (D : DE) (a0 : Nat) (p1 : Int32) (A : AH) (g : AH) (hg : fJ17_init a0 p1 A = some g) : Sm l D yJ17_init cJ17_init 2 none 2 41 [tR (some a0), tI p1] A (wU g).1 (wU g).2 := by
  refine Sm.of (ω := wU) (fJ17_init a0 p1 A) [some (tR (some a0)), some (tI p1)] (by decide) (Nat.le_of_ble_eq_true rfl) rfl hg ?_
  intro p e R s m args below meth c X hin
  have X : Cx D cJ17_init RJ17 2 2 41 none p R s m args meth c := X
  unfold fJ17_init
  refine rf_aload_n X rfl dJ17_init_0 ?_
  refine rf_objInit X q520 ⟨by decide, by decide⟩ (Nat.le_of_ble_eq_true rfl) dJ17_init_1 ?_
  refine rf_aload_n X rfl dJ17_init_4 ?_
  refine rf_iconst X (0 : Int32) rfl dJ17_init_5 ?_
  refine rf_bind (fun A1 hA1 => ?_)
  refine rf_putI X fp_J17_7 (fun _ => hin) hA1 dJ17_init_6 ?_
  refine rf_aload_n X rfl dJ17_init_9 ?_
  refine rf_iconst X (0 : Int32) rfl dJ17_init_10 ?_
  refine rf_bind (fun A2 hA2 => ?_)
  refine rf_putZ X fp_J17_24 (fun _ => hin) (by decide) hA2 dJ17_init_11 ?_
  refine rf_iload_n X rfl dJ17_init_14 ?_
  refine rf_if_ge X (tgt := 45) rfl dJ17_init_15 (fun c3 => rf_pos c3 ?_) (fun c3 => rf_neg c3 ?_)
  · refine rf_aload_n X rfl dJ17_init_45 ?_
    refine rf_iload_n X rfl dJ17_init_46 ?_
    refine rf_bind (fun v4 hv4 => ?_)
    refine rf_bind (fun g5 hg5 => ?_)
    refine rf_callVU X c_J17_27 ⟨Nat.le_of_ble_eq_true rfl, Nat.le_of_ble_eq_true rfl⟩ [tI p1] rfl (Nat.le_of_ble_eq_true rfl) hv4 (sJ17_initWords l D v4 p1 A2 g5 hg5) dJ17_init_47 ?_
    refine rf_aload_n X rfl dJ17_init_50 ?_
    refine rf_iconst X (1 : Int32) rfl dJ17_init_51 ?_
    refine rf_bind (fun A6 hA6 => ?_)
    refine rf_putZ X fp_J17_24 (fun _ => hin) (by decide) hA6 dJ17_init_52 ?_
    exact rf_vret X rfl dJ17_init_55
  exact rf_none

theorem dJ17_clear_0 : decode cJ17_clear 0 = .ok (.aload_n 0, 1) := by decide +kernel
theorem dJ17_clear_1 : decode cJ17_clear 1 = .ok (.getfield 7, 3) := by decide +kernel
theorem dJ17_clear_4 : decode cJ17_clear 4 = .ok (.ifCond .le 23, 3) := by decide +kernel
theorem dJ17_clear_7 : decode cJ17_clear 7 = .ok (.aload_n 0, 1) := by decide +kernel
theorem dJ17_clear_8 : decode cJ17_clear 8 = .ok (.getfield 11, 3) := by decide +kernel
theorem dJ17_clear_11 : decode cJ17_clear 11 = .ok (.aload_n 0, 1) := by decide +kernel
theorem dJ17_clear_12 : decode cJ17_clear 12 = .ok (.dup, 1) := by decide +kernel
theorem dJ17_clear_13 : decode cJ17_clear 13 = .ok (.getfield 7, 3) := by decide +kernel
theorem dJ17_clear_16 : decode cJ17_clear 16 = .ok (.iconst 1, 1) := by decide +kernel
theorem dJ17_clear_17 : decode cJ17_clear 17 = .ok (.isub, 1) := by decide +kernel
theorem dJ17_clear_18 : decode cJ17_clear 18 = .ok (.dup_x1, 1) := by decide +kernel
theorem dJ17_clear_19 : decode cJ17_clear 19 = .ok (.putfield 7, 3) := by decide +kernel
theorem dJ17_clear_22 : decode cJ17_clear 22 = .ok (.lconst 0, 1) := by decide +kernel
theorem dJ17_clear_23 : decode cJ17_clear 23 = .ok (.lastore, 1) := by decide +kernel
theorem dJ17_clear_24 : decode cJ17_clear 24 = .ok (.goto (-24), 3) := by decide +kernel
theorem dJ17_clear_27 : decode cJ17_clear 27 = .ok (.return_, 1) := by decide +kernel
def fJ17_clear (n : Nat) (a0 : Nat) (A : AH) : Option (AH) :=
jl (fixG (fun _ => none) (fun (rc3 : (AH) → Option (AH)) (A2 : AH) =>
(gI A2 (some a0) 6 1).bind fun v4 =>
if v4 ≤ 0 then (some A2) else
(gR A2 (some a0) 6 0).bind fun v6 =>
(pI A2 (some a0) 6 1 (v4 - (1 : Int32))).bind fun A7 =>
(sL A7 v6 (v4 - (1 : Int32)) (0 : Int64)).bind fun A8 =>
rc3 A8) n) fun j1 =>
j1 A

set_option maxHeartbeats 4000000 in
set_option maxRecDepth 100000 in
theorem sJ17_clear (l : Launch) (D : DE) (n : Nat) (a0 : Nat) (A : AH) (g : AH) (hg : fJ17_clear n a0 A = some g) : Sm l D yJ17_clear cJ17_clear 1 none 0 0 [tR (some a0)] A (wU g).1 (wU g).2 := by
  refine Sm.of (ω := wU) (fJ17_clear n a0 A) [some (tR (some a0))] (by decide) (Nat.le_of_ble_eq_true rfl) rfl hg ?_
  intro p e R s m args below meth c X hin
  have X : Cx D cJ17_clear RJ17 1 0 0 none p R s m args meth c := X
  unfold fJ17_clear
  refine rf_fix (fun i => ∀ (A2 : AH), RfX X l e below wU (i A2) 0 [some (tR (some a0))] [] A2) (fun _ => rf_none) (fun rc3 hrc3 => ?_) (fun j1 hj1 => ?_)
  · intro A2
    refine rf_aload_n X rfl dJ17_clear_0 ?_
    refine rf_bind (fun v4 hv4 => ?_)
    refine rf_getI X fl_J17_7 hv4 dJ17_clear_1 ?_
    refine rf_if_le X (tgt := 27) rfl dJ17_clear_4 (fun c5 => rf_pos c5 ?_) (fun c5 => rf_neg c5 ?_)
    · exact rf_vret X rfl dJ17_clear_27
    refine rf_aload_n X rfl dJ17_clear_7 ?_
    refine rf_bind (fun v6 hv6 => ?_)
    refine rf_getR X fl_J17_11 hv6 dJ17_clear_8 ?_
    refine rf_aload_n X rfl dJ17_clear_11 ?_
    refine rf_dup X rfl dJ17_clear_12 ?_
    refine rf_getI X fl_J17_7 hv4 dJ17_clear_13 ?_
    refine rf_iconst X (1 : Int32) rfl dJ17_clear_16 ?_
    refine rf_isub X dJ17_clear_17 ?_
    refine rf_dup_x1 X rfl rfl dJ17_clear_18 ?_
    refine rf_bind (fun A7 hA7 => ?_)
    refine rf_putI X fp_J17_7 (fun h => by cases h) hA7 dJ17_clear_19 ?_
    refine rf_lconst X (0 : Int64) rfl dJ17_clear_22 ?_
    refine rf_bind (fun A8 hA8 => ?_)
    refine rf_last X hA8 dJ17_clear_23 ?_
    refine rf_goto X (tgt := 0) rfl dJ17_clear_24 ?_
    exact rf_go (hrc3 A8) (And.intro rfl True.intro)
  exact rf_go (hj1 A) (And.intro rfl True.intro)

theorem dJ17_checkInvariants_0 : decode cJ17_checkInvariants 0 = .ok (.getstatic 3, 3) := by decide +kernel
theorem dJ17_checkInvariants_3 : decode cJ17_checkInvariants 3 = .ok (.ifCond .ne 34, 3) := by decide +kernel
theorem dJ17_checkInvariants_6 : decode cJ17_checkInvariants 6 = .ok (.aload_n 0, 1) := by decide +kernel
theorem dJ17_checkInvariants_7 : decode cJ17_checkInvariants 7 = .ok (.getfield 7, 3) := by decide +kernel
theorem dJ17_checkInvariants_10 : decode cJ17_checkInvariants 10 = .ok (.ifCond .eq 27, 3) := by decide +kernel
theorem dJ17_checkInvariants_13 : decode cJ17_checkInvariants 13 = .ok (.aload_n 0, 1) := by decide +kernel
theorem dJ17_checkInvariants_14 : decode cJ17_checkInvariants 14 = .ok (.getfield 11, 3) := by decide +kernel
theorem dJ17_checkInvariants_17 : decode cJ17_checkInvariants 17 = .ok (.aload_n 0, 1) := by decide +kernel
theorem dJ17_checkInvariants_18 : decode cJ17_checkInvariants 18 = .ok (.getfield 7, 3) := by decide +kernel
theorem dJ17_checkInvariants_21 : decode cJ17_checkInvariants 21 = .ok (.iconst 1, 1) := by decide +kernel
theorem dJ17_checkInvariants_22 : decode cJ17_checkInvariants 22 = .ok (.isub, 1) := by decide +kernel
theorem dJ17_checkInvariants_23 : decode cJ17_checkInvariants 23 = .ok (.laload, 1) := by decide +kernel
theorem dJ17_checkInvariants_24 : decode cJ17_checkInvariants 24 = .ok (.lconst 0, 1) := by decide +kernel
theorem dJ17_checkInvariants_25 : decode cJ17_checkInvariants 25 = .ok (.lcmp, 1) := by decide +kernel
theorem dJ17_checkInvariants_26 : decode cJ17_checkInvariants 26 = .ok (.ifCond .ne 11, 3) := by decide +kernel
theorem dJ17_checkInvariants_37 : decode cJ17_checkInvariants 37 = .ok (.getstatic 3, 3) := by decide +kernel
theorem dJ17_checkInvariants_40 : decode cJ17_checkInvariants 40 = .ok (.ifCond .ne 30, 3) := by decide +kernel
theorem dJ17_checkInvariants_43 : decode cJ17_checkInvariants 43 = .ok (.aload_n 0, 1) := by decide +kernel
theorem dJ17_checkInvariants_44 : decode cJ17_checkInvariants 44 = .ok (.getfield 7, 3) := by decide +kernel
theorem dJ17_checkInvariants_47 : decode cJ17_checkInvariants 47 = .ok (.ifCond .lt 15, 3) := by decide +kernel
theorem dJ17_checkInvariants_50 : decode cJ17_checkInvariants 50 = .ok (.aload_n 0, 1) := by decide +kernel
theorem dJ17_checkInvariants_51 : decode cJ17_checkInvariants 51 = .ok (.getfield 7, 3) := by decide +kernel
theorem dJ17_checkInvariants_54 : decode cJ17_checkInvariants 54 = .ok (.aload_n 0, 1) := by decide +kernel
theorem dJ17_checkInvariants_55 : decode cJ17_checkInvariants 55 = .ok (.getfield 11, 3) := by decide +kernel
theorem dJ17_checkInvariants_58 : decode cJ17_checkInvariants 58 = .ok (.arraylength, 1) := by decide +kernel
theorem dJ17_checkInvariants_59 : decode cJ17_checkInvariants 59 = .ok (.if_icmp .le 11, 3) := by decide +kernel
theorem dJ17_checkInvariants_70 : decode cJ17_checkInvariants 70 = .ok (.getstatic 3, 3) := by decide +kernel
theorem dJ17_checkInvariants_73 : decode cJ17_checkInvariants 73 = .ok (.ifCond .ne 37, 3) := by decide +kernel
theorem dJ17_checkInvariants_76 : decode cJ17_checkInvariants 76 = .ok (.aload_n 0, 1) := by decide +kernel
theorem dJ17_checkInvariants_77 : decode cJ17_checkInvariants 77 = .ok (.getfield 7, 3) := by decide +kernel
theorem dJ17_checkInvariants_80 : decode cJ17_checkInvariants 80 = .ok (.aload_n 0, 1) := by decide +kernel
theorem dJ17_checkInvariants_81 : decode cJ17_checkInvariants 81 = .ok (.getfield 11, 3) := by decide +kernel
theorem dJ17_checkInvariants_84 : decode cJ17_checkInvariants 84 = .ok (.arraylength, 1) := by decide +kernel
theorem dJ17_checkInvariants_85 : decode cJ17_checkInvariants 85 = .ok (.if_icmp .eq 25, 3) := by decide +kernel
theorem dJ17_checkInvariants_88 : decode cJ17_checkInvariants 88 = .ok (.aload_n 0, 1) := by decide +kernel
theorem dJ17_checkInvariants_89 : decode cJ17_checkInvariants 89 = .ok (.getfield 11, 3) := by decide +kernel
theorem dJ17_checkInvariants_92 : decode cJ17_checkInvariants 92 = .ok (.aload_n 0, 1) := by decide +kernel
theorem dJ17_checkInvariants_93 : decode cJ17_checkInvariants 93 = .ok (.getfield 7, 3) := by decide +kernel
theorem dJ17_checkInvariants_96 : decode cJ17_checkInvariants 96 = .ok (.laload, 1) := by decide +kernel
theorem dJ17_checkInvariants_97 : decode cJ17_checkInvariants 97 = .ok (.lconst 0, 1) := by decide +kernel
theorem dJ17_checkInvariants_98 : decode cJ17_checkInvariants 98 = .ok (.lcmp, 1) := by decide +kernel
theorem dJ17_checkInvariants_99 : decode cJ17_checkInvariants 99 = .ok (.ifCond .eq 11, 3) := by decide +kernel
theorem dJ17_checkInvariants_110 : decode cJ17_checkInvariants 110 = .ok (.return_, 1) := by decide +kernel
def fJ17_checkInvariants (a0 : Nat) (A : AH) : Option (Unit) :=
(gI A (some a0) 6 1).bind fun v1 =>
jn (jn (jn (some ()) fun j4 =>
if (1 : Int32) = 0 then ((gR A (some a0) 6 0).bind fun v6 =>
(aLen A v6).bind fun v7 =>
if v1 = v7 then (j4) else
(aL A v6 v1).bind fun v9 =>
if (lg_cmp v9 (0 : Int64)) = 0 then (j4) else
none) else
j4) fun j3 =>
if (1 : Int32) = 0 then (if v1 < 0 then (none) else
(gR A (some a0) 6 0).bind fun v13 =>
(aLen A v13).bind fun v14 =>
if v1 ≤ v14 then (j3) else
none) else
j3) fun j2 =>
if (((1 : Int32) = 0) ∧ (¬ (v1 = 0))) then ((gR A (some a0) 6 0).bind fun v16 =>
(aL A v16 (v1 - (1 : Int32))).bind fun v17 =>
if (lg_cmp v17 (0 : Int64)) = 0 then (none) else
j2) else
j2

set_option maxHeartbeats 4000000 in
set_option maxRecDepth 100000 in
theorem sJ17_checkInvariants (l : Launch) (D : DE) (a0 : Nat) (A : AH) (g : Unit) (hg : fJ17_checkInvariants a0 A = some g) : Sm l D yJ17_checkInvariants cJ17_checkInvariants 1 none 0 0 [tR (some a0)] A (qU A g).1 (qU A g).2 := by
  refine Sm.of (ω := qU A) (fJ17_checkInvariants a0 A) [some (tR (some a0))] (by decide) (Nat.le_of_ble_eq_true rfl) rfl hg ?_
  intro p e R s m args below meth c X hin
  have X : Cx D cJ17_checkInvariants RJ17 1 0 0 none p R s m args meth c := X
  unfold fJ17_checkInvariants
  refine rf_gets1 X (v := 1) (fun D => by simp [statD]) (Or.inl q1364) dJ17_checkInvariants_0 ?_
  refine rf_bind (fun v1 hv1 => ?_)
  refine rf_jn2 (fun i => RfX X l e below (qU A) i 37 [some (tR (some a0))] [] A) ?_ (fun j2 hj2 => ?_)
  · show RfX X l e below _ _ _ _ _ _
    refine rf_gets1 X (v := 1) (fun D => by simp [statD]) (Or.inl q1364) dJ17_checkInvariants_37 ?_
    refine rf_jn2 (fun i => RfX X l e below (qU A) i 70 [some (tR (some a0))] [] A) ?_ (fun j3 hj3 => ?_)
    · show RfX X l e below _ _ _ _ _ _
      refine rf_gets1 X (v := 1) (fun D => by simp [statD]) (Or.inl q1364) dJ17_checkInvariants_70 ?_
      refine rf_jn2 (fun i => RfX X l e below (qU A) i 110 [none] [] A) ?_ (fun j4 hj4 => ?_)
      · show RfX X l e below _ _ _ _ _ _
        exact rf_vret X rfl dJ17_checkInvariants_110
      refine rf_if_ne X (tgt := 110) rfl dJ17_checkInvariants_73 (fun c5 => rf_neg c5 ?_) (fun c5 => rf_pos c5 ?_)
      · exact rf_go hj4 True.intro
      refine rf_aload_n X rfl dJ17_checkInvariants_76 ?_
      refine rf_getI X fl_J17_7 hv1 dJ17_checkInvariants_77 ?_
      refine rf_aload_n X rfl dJ17_checkInvariants_80 ?_
      refine rf_bind (fun v6 hv6 => ?_)
      refine rf_getR X fl_J17_11 hv6 dJ17_checkInvariants_81 ?_
      refine rf_bind (fun v7 hv7 => ?_)
      refine rf_alen X hv7 dJ17_checkInvariants_84 ?_
      refine rf_icmp_eq X (tgt := 110) rfl dJ17_checkInvariants_85 (fun c8 => rf_pos c8 ?_) (fun c8 => rf_neg c8 ?_)
      · exact rf_go hj4 True.intro
      refine rf_aload_n X rfl dJ17_checkInvariants_88 ?_
      refine rf_getR X fl_J17_11 hv6 dJ17_checkInvariants_89 ?_
      refine rf_aload_n X rfl dJ17_checkInvariants_92 ?_
      refine rf_getI X fl_J17_7 hv1 dJ17_checkInvariants_93 ?_
      refine rf_bind (fun v9 hv9 => ?_)
      refine rf_lald X hv9 dJ17_checkInvariants_96 ?_
      refine rf_lconst X (0 : Int64) rfl dJ17_checkInvariants_97 ?_
      refine rf_lcmp X dJ17_checkInvariants_98 ?_
      refine rf_if_eq X (tgt := 110) rfl dJ17_checkInvariants_99 (fun c10 => rf_pos c10 ?_) (fun c10 => rf_neg c10 ?_)
      · exact rf_go hj4 True.intro
      exact rf_none
    refine rf_if_ne X (tgt := 70) rfl dJ17_checkInvariants_40 (fun c11 => rf_neg c11 ?_) (fun c11 => rf_pos c11 ?_)
    · exact rf_go hj3 (And.intro rfl True.intro)
    refine rf_aload_n X rfl dJ17_checkInvariants_43 ?_
    refine rf_getI X fl_J17_7 hv1 dJ17_checkInvariants_44 ?_
    refine rf_if_lt X (tgt := 62) rfl dJ17_checkInvariants_47 (fun c12 => rf_pos c12 ?_) (fun c12 => rf_neg c12 ?_)
    · exact rf_none
    refine rf_aload_n X rfl dJ17_checkInvariants_50 ?_
    refine rf_getI X fl_J17_7 hv1 dJ17_checkInvariants_51 ?_
    refine rf_aload_n X rfl dJ17_checkInvariants_54 ?_
    refine rf_bind (fun v13 hv13 => ?_)
    refine rf_getR X fl_J17_11 hv13 dJ17_checkInvariants_55 ?_
    refine rf_bind (fun v14 hv14 => ?_)
    refine rf_alen X hv14 dJ17_checkInvariants_58 ?_
    refine rf_icmp_le X (tgt := 70) rfl dJ17_checkInvariants_59 (fun c15 => rf_pos c15 ?_) (fun c15 => rf_neg c15 ?_)
    · exact rf_go hj3 (And.intro rfl True.intro)
    exact rf_none
  refine rf_br 13 37 [some (tR (some a0))] [some (tR (some a0))] [] [] (fun _ => ?_) (fun _ => ?_) (fun _ jT jF => ?_)
  · refine rf_aload_n X rfl dJ17_checkInvariants_13 ?_
    refine rf_bind (fun v16 hv16 => ?_)
    refine rf_getR X fl_J17_11 hv16 dJ17_checkInvariants_14 ?_
    refine rf_aload_n X rfl dJ17_checkInvariants_17 ?_
    refine rf_getI X fl_J17_7 hv1 dJ17_checkInvariants_18 ?_
    refine rf_iconst X (1 : Int32) rfl dJ17_checkInvariants_21 ?_
    refine rf_isub X dJ17_checkInvariants_22 ?_
    refine rf_bind (fun v17 hv17 => ?_)
    refine rf_lald X hv17 dJ17_checkInvariants_23 ?_
    refine rf_lconst X (0 : Int64) rfl dJ17_checkInvariants_24 ?_
    refine rf_lcmp X dJ17_checkInvariants_25 ?_
    refine rf_if_ne X (tgt := 37) rfl dJ17_checkInvariants_26 (fun c18 => rf_neg c18 ?_) (fun c18 => rf_pos c18 ?_)
    · exact rf_go hj2 (And.intro rfl True.intro)
    exact rf_none
  · exact rf_go hj2 (And.intro rfl True.intro)
  refine rf_if_ne X (tgt := 37) rfl dJ17_checkInvariants_3 (fun c19 => ?_) (fun c19 => ?_)
  · exact jF (fun z => c19 z.1)
  refine rf_aload_n X rfl dJ17_checkInvariants_6 ?_
  refine rf_getI X fl_J17_7 hv1 dJ17_checkInvariants_7 ?_
  refine rf_if_eq X (tgt := 37) rfl dJ17_checkInvariants_10 (fun c20 => ?_) (fun c20 => ?_)
  · exact jF (fun z => (fun z => z c20) z.2)
  exact jT ⟨c19, c20⟩

theorem dJ17_get_0 : decode cJ17_get 0 = .ok (.iload_n 1, 1) := by decide +kernel
theorem dJ17_get_1 : decode cJ17_get 1 = .ok (.ifCond .ge 30, 3) := by decide +kernel
theorem dJ17_get_31 : decode cJ17_get 31 = .ok (.aload_n 0, 1) := by decide +kernel
theorem dJ17_get_32 : decode cJ17_get 32 = .ok (.invokevirtual 56, 3) := by decide +kernel
theorem dJ17_get_35 : decode cJ17_get 35 = .ok (.iload_n 1, 1) := by decide +kernel
theorem dJ17_get_36 : decode cJ17_get 36 = .ok (.invokestatic 52, 3) := by decide +kernel
theorem dJ17_get_39 : decode cJ17_get 39 = .ok (.istore_n 2, 1) := by decide +kernel
theorem dJ17_get_40 : decode cJ17_get 40 = .ok (.iload_n 2, 1) := by decide +kernel
theorem dJ17_get_41 : decode cJ17_get 41 = .ok (.aload_n 0, 1) := by decide +kernel
theorem dJ17_get_42 : decode cJ17_get 42 = .ok (.getfield 7, 3) := by decide +kernel
theorem dJ17_get_45 : decode cJ17_get 45 = .ok (.if_icmp .ge 22, 3) := by decide +kernel
theorem dJ17_get_48 : decode cJ17_get 48 = .ok (.aload_n 0, 1) := by decide +kernel
theorem dJ17_get_49 : decode cJ17_get 49 = .ok (.getfield 11, 3) := by decide +kernel
theorem dJ17_get_52 : decode cJ17_get 52 = .ok (.iload_n 2, 1) := by decide +kernel
theorem dJ17_get_53 : decode cJ17_get 53 = .ok (.laload, 1) := by decide +kernel
theorem dJ17_get_54 : decode cJ17_get 54 = .ok (.lconst 1, 1) := by decide +kernel
theorem dJ17_get_55 : decode cJ17_get 55 = .ok (.iload_n 1, 1) := by decide +kernel
theorem dJ17_get_56 : decode cJ17_get 56 = .ok (.lshl, 1) := by decide +kernel
theorem dJ17_get_57 : decode cJ17_get 57 = .ok (.land, 1) := by decide +kernel
theorem dJ17_get_58 : decode cJ17_get 58 = .ok (.lconst 0, 1) := by decide +kernel
theorem dJ17_get_59 : decode cJ17_get 59 = .ok (.lcmp, 1) := by decide +kernel
theorem dJ17_get_60 : decode cJ17_get 60 = .ok (.ifCond .eq 7, 3) := by decide +kernel
theorem dJ17_get_63 : decode cJ17_get 63 = .ok (.iconst 1, 1) := by decide +kernel
theorem dJ17_get_64 : decode cJ17_get 64 = .ok (.goto 4, 3) := by decide +kernel
theorem dJ17_get_67 : decode cJ17_get 67 = .ok (.iconst 0, 1) := by decide +kernel
theorem dJ17_get_68 : decode cJ17_get 68 = .ok (.ireturn, 1) := by decide +kernel
def fJ17_get (a0 : Nat) (p1 : Int32) (A : AH) : Option (Int32) :=
if 0 ≤ p1 then ((rcv A (some a0) 6).bind fun v2 =>
(fJ17_checkInvariants v2 A).bind fun g3 =>
(fJ17_wordIndex p1 A).bind fun g4 =>
(gI A (some a0) 6 1).bind fun v5 =>
jn (fun (y7 : Int32) =>
some (nb y7)) fun j6 =>
jn (j6 (0 : Int32)) fun j8 =>
if v5 ≤ g4 then (j8) else
(gR A (some a0) 6 0).bind fun v10 =>
(aL A v10 g4).bind fun v11 =>
if (lg_cmp (v11 &&& ((1 : Int64) <<< (Int32.toInt64 p1 &&& 63))) (0 : Int64)) = 0 then (j8) else
j6 (1 : Int32)) else
none

set_option maxHeartbeats 4000000 in
set_option maxRecDepth 100000 in
theorem sJ17_get (l : Launch) (D : DE) (a0 : Nat) (p1 : Int32) (A : AH) (g : Int32) (hg : fJ17_get a0 p1 A = some g) : Sm l D yJ17_get cJ17_get 3 (some Jvm.ClassFile.FieldType.boolean) 1 20 [tR (some a0), tI p1] A (qI A g).1 (qI A g).2 := by
  refine Sm.of (ω := qI A) (fJ17_get a0 p1 A) [some (tR (some a0)), some (tI p1), none] (by decide) (Nat.le_of_ble_eq_true rfl) rfl hg ?_
  intro p e R s m args below meth c X hin
  have X : Cx D cJ17_get RJ17 3 1 20 (some Jvm.ClassFile.FieldType.boolean) p R s m args meth c := X
  unfold fJ17_get
  refine rf_iload_n X rfl dJ17_get_0 ?_
  refine rf_if_ge X (tgt := 31) rfl dJ17_get_1 (fun c1 => rf_pos c1 ?_) (fun c1 => rf_neg c1 ?_)
  · refine rf_aload_n X rfl dJ17_get_31 ?_
    refine rf_bind (fun v2 hv2 => ?_)
    refine rf_bind (fun g3 hg3 => ?_)
    refine rf_callVU X c_J17_56 ⟨Nat.le_of_ble_eq_true rfl, Nat.le_of_ble_eq_true rfl⟩ [] rfl (Nat.le_of_ble_eq_true rfl) hv2 (sJ17_checkInvariants l D v2 A g3 hg3) dJ17_get_32 ?_
    refine rf_iload_n X rfl dJ17_get_35 ?_
    refine rf_bind (fun g4 hg4 => ?_)
    refine rf_callSI X c_J17_52 ⟨Nat.le_of_ble_eq_true rfl, Nat.le_of_ble_eq_true rfl⟩ [tI p1] rfl (Nat.le_of_ble_eq_true rfl) (sJ17_wordIndex l D p1 A g4 hg4) dJ17_get_36 ?_
    refine rf_istore_n X (ls' := [some (tR (some a0)), some (tI p1), some (tI g4)]) rfl (by decide) dJ17_get_39 ?_
    refine rf_iload_n X rfl dJ17_get_40 ?_
    refine rf_aload_n X rfl dJ17_get_41 ?_
    refine rf_bind (fun v5 hv5 => ?_)
    refine rf_getI X fl_J17_7 hv5 dJ17_get_42 ?_
    refine rf_jn2 (fun i => ∀ (y7 : Int32), RfX X l e below (qI A) (i y7) 68 [none, none, none] [tI y7] A) ?_ (fun j6 hj6 => ?_)
    · intro y7
      exact rf_zret X rfl dJ17_get_68
    refine rf_jn2 (fun i => RfX X l e below (qI A) i 67 [none, none, none] [] A) ?_ (fun j8 hj8 => ?_)
    · show RfX X l e below _ _ _ _ _ _
      refine rf_iconst X (0 : Int32) rfl dJ17_get_67 ?_
      exact rf_go (hj6 (0 : Int32)) True.intro
    refine rf_icmp_ge X (tgt := 67) rfl dJ17_get_45 (fun c9 => rf_pos c9 ?_) (fun c9 => rf_neg c9 ?_)
    · exact rf_go hj8 True.intro
    refine rf_aload_n X rfl dJ17_get_48 ?_
    refine rf_bind (fun v10 hv10 => ?_)
    refine rf_getR X fl_J17_11 hv10 dJ17_get_49 ?_
    refine rf_iload_n X rfl dJ17_get_52 ?_
    refine rf_bind (fun v11 hv11 => ?_)
    refine rf_lald X hv11 dJ17_get_53 ?_
    refine rf_lconst X (1 : Int64) rfl dJ17_get_54 ?_
    refine rf_iload_n X rfl dJ17_get_55 ?_
    refine rf_lshl X dJ17_get_56 ?_
    refine rf_land X dJ17_get_57 ?_
    refine rf_lconst X (0 : Int64) rfl dJ17_get_58 ?_
    refine rf_lcmp X dJ17_get_59 ?_
    refine rf_if_eq X (tgt := 67) rfl dJ17_get_60 (fun c12 => rf_pos c12 ?_) (fun c12 => rf_neg c12 ?_)
    · exact rf_go hj8 True.intro
    refine rf_iconst X (1 : Int32) rfl dJ17_get_63 ?_
    refine rf_goto X (tgt := 68) rfl dJ17_get_64 ?_
    exact rf_go (hj6 (1 : Int32)) True.intro
  exact rf_none

theorem dJ17_ensureCapacity_0 : decode cJ17_ensureCapacity 0 = .ok (.aload_n 0, 1) := by decide +kernel
theorem dJ17_ensureCapacity_1 : decode cJ17_ensureCapacity 1 = .ok (.getfield 11, 3) := by decide +kernel
theorem dJ17_ensureCapacity_4 : decode cJ17_ensureCapacity 4 = .ok (.arraylength, 1) := by decide +kernel
theorem dJ17_ensureCapacity_5 : decode cJ17_ensureCapacity 5 = .ok (.iload_n 1, 1) := by decide +kernel
theorem dJ17_ensureCapacity_6 : decode cJ17_ensureCapacity 6 = .ok (.if_icmp .ge 32, 3) := by decide +kernel
theorem dJ17_ensureCapacity_38 : decode cJ17_ensureCapacity 38 = .ok (.return_, 1) := by decide +kernel
def fJ17_ensureCapacity (a0 : Nat) (p1 : Int32) (A : AH) : Option (Unit) :=
(gR A (some a0) 6 0).bind fun v1 =>
(aLen A v1).bind fun v2 =>
jn (some ()) fun j3 =>
if p1 ≤ v2 then (j3) else
none

set_option maxHeartbeats 4000000 in
set_option maxRecDepth 100000 in
theorem sJ17_ensureCapacity (l : Launch) (D : DE) (a0 : Nat) (p1 : Int32) (A : AH) (g : Unit) (hg : fJ17_ensureCapacity a0 p1 A = some g) : Sm l D yJ17_ensureCapacity cJ17_ensureCapacity 3 none 0 0 [tR (some a0), tI p1] A (qU A g).1 (qU A g).2 := by
  refine Sm.of (ω := qU A) (fJ17_ensureCapacity a0 p1 A) [some (tR (some a0)), some (tI p1), none] (by decide) (Nat.le_of_ble_eq_true rfl) rfl hg ?_
  intro p e R s m args below meth c X hin
  have X : Cx D cJ17_ensureCapacity RJ17 3 0 0 none p R s m args meth c := X
  unfold fJ17_ensureCapacity
  refine rf_aload_n X rfl dJ17_ensureCapacity_0 ?_
  refine rf_bind (fun v1 hv1 => ?_)
  refine rf_getR X fl_J17_11 hv1 dJ17_ensureCapacity_1 ?_
  refine rf_bind (fun v2 hv2 => ?_)
  refine rf_alen X hv2 dJ17_ensureCapacity_4 ?_
  refine rf_iload_n X rfl dJ17_ensureCapacity_5 ?_
  refine rf_jn2 (fun i => RfX X l e below (qU A) i 38 [none, none, none] [] A) ?_ (fun j3 hj3 => ?_)
  · show RfX X l e below _ _ _ _ _ _
    exact rf_vret X rfl dJ17_ensureCapacity_38
  refine rf_icmp_ge X (tgt := 38) rfl dJ17_ensureCapacity_6 (fun c4 => rf_pos c4 ?_) (fun c4 => rf_neg c4 ?_)
  · exact rf_go hj3 True.intro
  exact rf_none

theorem dJ17_expandTo_0 : decode cJ17_expandTo 0 = .ok (.iload_n 1, 1) := by decide +kernel
theorem dJ17_expandTo_1 : decode cJ17_expandTo 1 = .ok (.iconst 1, 1) := by decide +kernel
theorem dJ17_expandTo_2 : decode cJ17_expandTo 2 = .ok (.iadd, 1) := by decide +kernel
theorem dJ17_expandTo_3 : decode cJ17_expandTo 3 = .ok (.istore_n 2, 1) := by decide +kernel
theorem dJ17_expandTo_4 : decode cJ17_expandTo 4 = .ok (.aload_n 0, 1) := by decide +kernel
theorem dJ17_expandTo_5 : decode cJ17_expandTo 5 = .ok (.getfield 7, 3) := by decide +kernel
theorem dJ17_expandTo_8 : decode cJ17_expandTo 8 = .ok (.iload_n 2, 1) := by decide +kernel
theorem dJ17_expandTo_9 : decode cJ17_expandTo 9 = .ok (.if_icmp .ge 13, 3) := by decide +kernel
theorem dJ17_expandTo_12 : decode cJ17_expandTo 12 = .ok (.aload_n 0, 1) := by decide +kernel
theorem dJ17_expandTo_13 : decode cJ17_expandTo 13 = .ok (.iload_n 2, 1) := by decide +kernel
theorem dJ17_expandTo_14 : decode cJ17_expandTo 14 = .ok (.invokevirtual 139, 3) := by decide +kernel
theorem dJ17_expandTo_17 : decode cJ17_expandTo 17 = .ok (.aload_n 0, 1) := by decide +kernel
theorem dJ17_expandTo_18 : decode cJ17_expandTo 18 = .ok (.iload_n 2, 1) := by decide +kernel
theorem dJ17_expandTo_19 : decode cJ17_expandTo 19 = .ok (.putfield 7, 3) := by decide +kernel
theorem dJ17_expandTo_22 : decode cJ17_expandTo 22 = .ok (.return_, 1) := by decide +kernel
def fJ17_expandTo (a0 : Nat) (p1 : Int32) (A : AH) : Option (AH) :=
(gI A (some a0) 6 1).bind fun v1 =>
jn (fun (A3 : AH) =>
some A3) fun j2 =>
if (p1 + (1 : Int32)) ≤ v1 then (j2 A) else
(rcv A (some a0) 6).bind fun v5 =>
(fJ17_ensureCapacity v5 (p1 + (1 : Int32)) A).bind fun g6 =>
(pI A (some a0) 6 1 (p1 + (1 : Int32))).bind fun A7 =>
j2 A7

set_option maxHeartbeats 4000000 in
set_option maxRecDepth 100000 in
theorem sJ17_expandTo (l : Launch) (D : DE) (a0 : Nat) (p1 : Int32) (A : AH) (g : AH) (hg : fJ17_expandTo a0 p1 A = some g) : Sm l D yJ17_expandTo cJ17_expandTo 3 none 1 22 [tR (some a0), tI p1] A (wU g).1 (wU g).2 := by
  refine Sm.of (ω := wU) (fJ17_expandTo a0 p1 A) [some (tR (some a0)), some (tI p1), none] (by decide) (Nat.le_of_ble_eq_true rfl) rfl hg ?_
  intro p e R s m args below meth c X hin
  have X : Cx D cJ17_expandTo RJ17 3 1 22 none p R s m args meth c := X
  unfold fJ17_expandTo
  refine rf_iload_n X rfl dJ17_expandTo_0 ?_
  refine rf_iconst X (1 : Int32) rfl dJ17_expandTo_1 ?_
  refine rf_iadd X dJ17_expandTo_2 ?_
  refine rf_istore_n X (ls' := [some (tR (some a0)), some (tI p1), some (tI (p1 + (1 : Int32)))]) rfl (by decide) dJ17_expandTo_3 ?_
  refine rf_aload_n X rfl dJ17_expandTo_4 ?_
  refine rf_bind (fun v1 hv1 => ?_)
  refine rf_getI X fl_J17_7 hv1 dJ17_expandTo_5 ?_
  refine rf_iload_n X rfl dJ17_expandTo_8 ?_
  refine rf_jn2 (fun i => ∀ (A3 : AH), RfX X l e below wU (i A3) 22 [none, none, none] [] A3) ?_ (fun j2 hj2 => ?_)
  · intro A3
    exact rf_vret X rfl dJ17_expandTo_22
  refine rf_icmp_ge X (tgt := 22) rfl dJ17_expandTo_9 (fun c4 => rf_pos c4 ?_) (fun c4 => rf_neg c4 ?_)
  · exact rf_go (hj2 A) True.intro
  refine rf_aload_n X rfl dJ17_expandTo_12 ?_
  refine rf_iload_n X rfl dJ17_expandTo_13 ?_
  refine rf_bind (fun v5 hv5 => ?_)
  refine rf_bind (fun g6 hg6 => ?_)
  refine rf_callVU X c_J17_139 ⟨Nat.le_of_ble_eq_true rfl, Nat.le_of_ble_eq_true rfl⟩ [tI (p1 + (1 : Int32))] rfl (Nat.le_of_ble_eq_true rfl) hv5 (sJ17_ensureCapacity l D v5 (p1 + (1 : Int32)) A g6 hg6) dJ17_expandTo_14 ?_
  refine rf_aload_n X rfl dJ17_expandTo_17 ?_
  refine rf_iload_n X rfl dJ17_expandTo_18 ?_
  refine rf_bind (fun A7 hA7 => ?_)
  refine rf_putI X fp_J17_7 (fun h => by cases h) hA7 dJ17_expandTo_19 ?_
  exact rf_go (hj2 A7) True.intro

theorem dJ17_set_0 : decode cJ17_set 0 = .ok (.iload_n 1, 1) := by decide +kernel
theorem dJ17_set_1 : decode cJ17_set 1 = .ok (.ifCond .ge 30, 3) := by decide +kernel
theorem dJ17_set_31 : decode cJ17_set 31 = .ok (.iload_n 1, 1) := by decide +kernel
theorem dJ17_set_32 : decode cJ17_set 32 = .ok (.invokestatic 52, 3) := by decide +kernel
theorem dJ17_set_35 : decode cJ17_set 35 = .ok (.istore_n 2, 1) := by decide +kernel
theorem dJ17_set_36 : decode cJ17_set 36 = .ok (.aload_n 0, 1) := by decide +kernel
theorem dJ17_set_37 : decode cJ17_set 37 = .ok (.iload_n 2, 1) := by decide +kernel
theorem dJ17_set_38 : decode cJ17_set 38 = .ok (.invokevirtual 155, 3) := by decide +kernel
theorem dJ17_set_41 : decode cJ17_set 41 = .ok (.aload_n 0, 1) := by decide +kernel
theorem dJ17_set_42 : decode cJ17_set 42 = .ok (.getfield 11, 3) := by decide +kernel
theorem dJ17_set_45 : decode cJ17_set 45 = .ok (.iload_n 2, 1) := by decide +kernel
theorem dJ17_set_46 : decode cJ17_set 46 = .ok (.dup2, 1) := by decide +kernel
theorem dJ17_set_47 : decode cJ17_set 47 = .ok (.laload, 1) := by decide +kernel
theorem dJ17_set_48 : decode cJ17_set 48 = .ok (.lconst 1, 1) := by decide +kernel
theorem dJ17_set_49 : decode cJ17_set 49 = .ok (.iload_n 1, 1) := by decide +kernel
theorem dJ17_set_50 : decode cJ17_set 50 = .ok (.lshl, 1) := by decide +kernel
theorem dJ17_set_51 : decode cJ17_set 51 = .ok (.lor, 1) := by decide +kernel
theorem dJ17_set_52 : decode cJ17_set 52 = .ok (.lastore, 1) := by decide +kernel
theorem dJ17_set_53 : decode cJ17_set 53 = .ok (.aload_n 0, 1) := by decide +kernel
theorem dJ17_set_54 : decode cJ17_set 54 = .ok (.invokevirtual 56, 3) := by decide +kernel
theorem dJ17_set_57 : decode cJ17_set 57 = .ok (.return_, 1) := by decide +kernel
def fJ17_set (a0 : Nat) (p1 : Int32) (A : AH) : Option (AH) :=
if 0 ≤ p1 then ((fJ17_wordIndex p1 A).bind fun g2 =>
(rcv A (some a0) 6).bind fun v3 =>
(fJ17_expandTo v3 g2 A).bind fun g4 =>
(gR g4 (some a0) 6 0).bind fun v5 =>
(aL g4 v5 g2).bind fun v6 =>
(sL g4 v5 g2 (v6 ||| ((1 : Int64) <<< (Int32.toInt64 p1 &&& 63)))).bind fun A7 =>
(rcv A7 (some a0) 6).bind fun v8 =>
(fJ17_checkInvariants v8 A7).bind fun g9 =>
some A7) else
none

set_option maxHeartbeats 4000000 in
set_option maxRecDepth 100000 in
theorem sJ17_set (l : Launch) (D : DE) (a0 : Nat) (p1 : Int32) (A : AH) (g : AH) (hg : fJ17_set a0 p1 A = some g) : Sm l D yJ17_set cJ17_set 3 none 2 44 [tR (some a0), tI p1] A (wU g).1 (wU g).2 := by
  refine Sm.of (ω := wU) (fJ17_set a0 p1 A) [some (tR (some a0)), some (tI p1), none] (by decide) (Nat.le_of_ble_eq_true rfl) rfl hg ?_
  intro p e R s m args below meth c X hin
  have X : Cx D cJ17_set RJ17 3 2 44 none p R s m args meth c := X
  unfold fJ17_set
  refine rf_iload_n X rfl dJ17_set_0 ?_
  refine rf_if_ge X (tgt := 31) rfl dJ17_set_1 (fun c1 => rf_pos c1 ?_) (fun c1 => rf_neg c1 ?_)
  · refine rf_iload_n X rfl dJ17_set_31 ?_
    refine rf_bind (fun g2 hg2 => ?_)
    refine rf_callSI X c_J17_52 ⟨Nat.le_of_ble_eq_true rfl, Nat.le_of_ble_eq_true rfl⟩ [tI p1] rfl (Nat.le_of_ble_eq_true rfl) (sJ17_wordIndex l D p1 A g2 hg2) dJ17_set_32 ?_
    refine rf_istore_n X (ls' := [some (tR (some a0)), some (tI p1), some (tI g2)]) rfl (by decide) dJ17_set_35 ?_
    refine rf_aload_n X rfl dJ17_set_36 ?_
    refine rf_iload_n X rfl dJ17_set_37 ?_
    refine rf_bind (fun v3 hv3 => ?_)
    refine rf_bind (fun g4 hg4 => ?_)
    refine rf_callVU X c_J17_155 ⟨Nat.le_of_ble_eq_true rfl, Nat.le_of_ble_eq_true rfl⟩ [tI g2] rfl (Nat.le_of_ble_eq_true rfl) hv3 (sJ17_expandTo l D v3 g2 A g4 hg4) dJ17_set_38 ?_
    refine rf_aload_n X rfl dJ17_set_41 ?_
    refine rf_bind (fun v5 hv5 => ?_)
    refine rf_getR X fl_J17_11 hv5 dJ17_set_42 ?_
    refine rf_iload_n X rfl dJ17_set_45 ?_
    refine rf_dup2 X rfl rfl dJ17_set_46 ?_
    refine rf_bind (fun v6 hv6 => ?_)
    refine rf_lald X hv6 dJ17_set_47 ?_
    refine rf_lconst X (1 : Int64) rfl dJ17_set_48 ?_
    refine rf_iload_n X rfl dJ17_set_49 ?_
    refine rf_lshl X dJ17_set_50 ?_
    refine rf_lor X dJ17_set_51 ?_
    refine rf_bind (fun A7 hA7 => ?_)
    refine rf_last X hA7 dJ17_set_52 ?_
    refine rf_aload_n X rfl dJ17_set_53 ?_
    refine rf_bind (fun v8 hv8 => ?_)
    refine rf_bind (fun g9 hg9 => ?_)
    refine rf_callVU X c_J17_56 ⟨Nat.le_of_ble_eq_true rfl, Nat.le_of_ble_eq_true rfl⟩ [] rfl (Nat.le_of_ble_eq_true rfl) hv8 (sJ17_checkInvariants l D v8 A7 g9 hg9) dJ17_set_54 ?_
    exact rf_vret X rfl dJ17_set_57
  exact rf_none

