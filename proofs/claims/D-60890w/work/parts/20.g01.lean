/-! 20.g01: printed by gen/parts.py -/
set_option maxRecDepth 100000
def dfJ2 : List Value := [.int 0, .null, .int 0]
def dfX1 : List Value := [.null, .null, .null, .null, .null, .null]
def dfX2 : List Value := [.null, .null, .null]
def dfX3 : List Value := [.null, .null, .int 0]
def dfX4 : List Value := [.null, .null, .null, .int 0, .null, .int 0, .int 0, .int 0]
def dfX5 : List Value := [.int 0, .int 0, .int 0, .int 0, .int 0, .int 0, .null]
def dfJ17 : List Value := [.null, .int 0, .int 0]
def dfX7 : List Value := [.int 0, .int 0, .int 0, .int 0, .null, .null, .null, .null, .null, .null, .null, .null, .int 0, .int 0, .int 0, .int 0, .int 0, .int 0, .int 0, .int 0, .int 0, .int 0, .int 0, .int 0, .int 0, .int 0]
def dfX8 : List Value := [.null, .int 0, .int 0, .int 0, .int 0]
def dfX9 : List Value := [.null, .int 0, .int 0]
def dfX10 : List Value := [.null, .int 0]
def dfX11 : List Value := [.int 0, .int 0, .int 0, .int 0, .int 0, .int 0, .int 0, .null, .null, .null, .null, .int 0, .int 0, .int 0, .int 0, .int 0, .int 0, .int 0, .int 0, .int 0, .int 0, .int 0, .int 0, .int 0, .int 0, .int 0, .int 0, .null, .null, .null, .null, .null, .null, .null, .null, .null, .null, .null, .null, .null, .null, .int 0, .int 0, .null, .null, .null, .null, .null, .null, .null, .null, .null, .int 0, .int 0, .int 0, .int 0, .int 0, .int 0, .int 0, .null]
def dfX12 : List Value := [.int 0, .null, .null]
def dfX13 : List Value := [.null, .int 0, .null, .null, .null, .int 0]
def dfX14 : List Value := [.null, .null, .int 0, .int 0, .int 0, .int 0]
def dfX15 : List Value := [.int 0, .int 0, .int 0, .int 0, .int 0, .int 0, .int 0, .int 0, .null]
def dfJ6 : List Value := [.null, .null, .null, .null, .null, .int 0]
def dfJ19 : List Value := [.null, .null, .null, .null, .null, .int 0]
def dfJ20 : List Value := [.null, .null, .null, .null, .null, .int 0]
theorem fp_J1_7 : FL RJ1 7 0 0 (.int) false := ⟨RJ2, TJ2, 3, tyJ2, "java/util/AbstractList", "", rfl, by decide, in_J2, tyJ2_ok, nmJ2, Or.inl q456, Or.inl rfl, rfl, rfl, fun h => by cases h⟩
theorem fp_J2_9 : FL RJ2 9 0 1 (.array (.object "java/lang/Object")) false := ⟨RJ2, TJ2, 3, tyJ2, "java/util/ArrayList", "", rfl, by decide, in_J2, tyJ2_ok, nmJ2, Or.inl q454, Or.inl rfl, rfl, rfl, fun h => by cases h⟩
theorem fl_J2_9 : FLr RJ2 9 0 1 := ⟨RJ2, TJ2, 3, "java/util/ArrayList", "", rfl, by decide, in_J2, Or.inl q454, Or.inl rfl⟩
theorem fl_J2_48 : FLr RJ2 48 0 2 := ⟨RJ2, TJ2, 3, "java/util/ArrayList", "", rfl, by decide, in_J2, Or.inl q455, Or.inl rfl⟩
theorem fp_J2_48 : FL RJ2 48 0 2 (.int) false := ⟨RJ2, TJ2, 3, tyJ2, "java/util/ArrayList", "", rfl, by decide, in_J2, tyJ2_ok, nmJ2, Or.inl q455, Or.inl rfl, rfl, rfl, fun h => by cases h⟩
theorem fl_J2_63 : FLr RJ2 63 0 0 := ⟨RJ2, TJ2, 3, "java/util/ArrayList", "", rfl, by decide, in_J2, Or.inl q457, Or.inr q458⟩
theorem fp_J2_63 : FL RJ2 63 0 0 (.int) false := ⟨RJ2, TJ2, 3, tyJ2, "java/util/ArrayList", "", rfl, by decide, in_J2, tyJ2_ok, nmJ2, Or.inl q457, Or.inr q458, rfl, rfl, fun h => by cases h⟩
theorem c_J1_1 : CI RJ1 1 yJ0_init cJ0_init 1 0 := ⟨Or.inl q134, q135, q80, q136, rfl, ⟨by decide +kernel, by decide +kernel, by decide +kernel⟩⟩
theorem c_J2_1 : CI RJ2 1 yJ1_init cJ1_init 1 0 := ⟨Or.inl q131, q132, q81, q133, rfl, ⟨by decide +kernel, by decide +kernel, by decide +kernel⟩⟩
theorem c_J11_201 : CS RJ11 201 yJ11_hugeLength cJ11_hugeLength 3 (some Jvm.ClassFile.FieldType.int) 2 := ⟨q242, q243, q91, q244, ⟨by decide +kernel, by decide +kernel, by decide +kernel⟩⟩
theorem c_J13_300 : CS RJ13 300 yJ13_copyOf_3 cJ13_copyOf_3 4 (some (Jvm.ClassFile.FieldType.array (Jvm.ClassFile.FieldType.object "java/lang/Object"))) 3 := ⟨q677, q678, q93, q679, ⟨by decide +kernel, by decide +kernel, by decide +kernel⟩⟩
theorem c_J2_73 : CS RJ2 73 yJ11_newLength cJ11_newLength 4 (some Jvm.ClassFile.FieldType.int) 3 := ⟨q647, q236, q91, q237, ⟨by decide +kernel, by decide +kernel, by decide +kernel⟩⟩
theorem c_J2_66 : CS RJ2 66 yJ13_copyOf_2 cJ13_copyOf_2 2 (some (Jvm.ClassFile.FieldType.array (Jvm.ClassFile.FieldType.object "java/lang/Object"))) 2 := ⟨q648, q649, q93, q650, ⟨by decide +kernel, by decide +kernel, by decide +kernel⟩⟩
theorem c_J2_69 : CV RJ2 69 0 yJ2_grow_2 cJ2_grow_2 4 (some (Jvm.ClassFile.FieldType.array (Jvm.ClassFile.FieldType.object "java/lang/Object"))) 1 := ⟨TJ2, 3, rfl, q643, q645, qs5, q82, q646, ⟨by decide +kernel, by decide +kernel, by decide +kernel⟩⟩
theorem c_J2_129 : CV RJ2 129 0 yJ2_grow cJ2_grow 1 (some (Jvm.ClassFile.FieldType.array (Jvm.ClassFile.FieldType.object "java/lang/Object"))) 0 := ⟨TJ2, 3, rfl, q639, q641, qs4, q82, q642, ⟨by decide +kernel, by decide +kernel, by decide +kernel⟩⟩
theorem c_J2_131 : CV RJ2 131 0 yJ2_add_2 cJ2_add_2 4 none 3 := ⟨TJ2, 3, rfl, q635, q637, qs3, q82, q638, ⟨by decide +kernel, by decide +kernel, by decide +kernel⟩⟩
theorem c_J18_105 : CS RJ18 105 yJ14_checkIndex cJ14_checkIndex 3 (some Jvm.ClassFile.FieldType.int) 3 := ⟨q706, q707, q95, q708, ⟨by decide +kernel, by decide +kernel, by decide +kernel⟩⟩
theorem c_J2_118 : CS RJ2 118 yJ18_checkIndex cJ18_checkIndex 2 (some Jvm.ClassFile.FieldType.int) 2 := ⟨q703, q704, q107, q705, ⟨by decide +kernel, by decide +kernel, by decide +kernel⟩⟩
theorem c_J2_123 : CV RJ2 123 0 yJ2_elementData cJ2_elementData 2 (some (Jvm.ClassFile.FieldType.object "java/lang/Object")) 1 := ⟨TJ2, 3, rfl, q709, q710, q711, q82, q712, ⟨by decide +kernel, by decide +kernel, by decide +kernel⟩⟩
theorem c_J2_144 : CV RJ2 144 0 yJ2_fastRemove cJ2_fastRemove 4 none 2 := ⟨TJ2, 3, rfl, q1079, q1081, qs9, q82, q1082, ⟨by decide +kernel, by decide +kernel, by decide +kernel⟩⟩
theorem dJ0_init_0 : decode cJ0_init 0 = .ok (.aload_n 0, 1) := by decide +kernel
theorem dJ0_init_1 : decode cJ0_init 1 = .ok (.invokespecial 1, 3) := by decide +kernel
theorem dJ0_init_4 : decode cJ0_init 4 = .ok (.return_, 1) := by decide +kernel
def fJ0_init (a0 : Nat) (A : AH) : Option (Unit) :=
some ()

set_option maxHeartbeats 4000000 in
set_option maxRecDepth 100000 in
theorem sJ0_init (l : Launch) (D : DE) (a0 : Nat) (A : AH) (g : Unit) (hg : fJ0_init a0 A = some g) : Sm l D yJ0_init cJ0_init 1 none 1 20 [tR (some a0)] A (qU A g).1 (qU A g).2 := by
  refine Sm.of (ω := qU A) (fJ0_init a0 A) [some (tR (some a0))] (by decide) (Nat.le_of_ble_eq_true rfl) rfl hg ?_
  intro p e R s m args below meth c X hin
  have X : Cx D cJ0_init RJ0 1 1 20 none p R s m args meth c := X
  unfold fJ0_init
  refine rf_aload_n X rfl dJ0_init_0 ?_
  refine rf_objInit X q137 ⟨by decide, by decide⟩ (Nat.le_of_ble_eq_true rfl) dJ0_init_1 ?_
  exact rf_vret X rfl dJ0_init_4

theorem dJ1_init_0 : decode cJ1_init 0 = .ok (.aload_n 0, 1) := by decide +kernel
theorem dJ1_init_1 : decode cJ1_init 1 = .ok (.invokespecial 1, 3) := by decide +kernel
theorem dJ1_init_4 : decode cJ1_init 4 = .ok (.aload_n 0, 1) := by decide +kernel
theorem dJ1_init_5 : decode cJ1_init 5 = .ok (.iconst 0, 1) := by decide +kernel
theorem dJ1_init_6 : decode cJ1_init 6 = .ok (.putfield 7, 3) := by decide +kernel
theorem dJ1_init_9 : decode cJ1_init 9 = .ok (.return_, 1) := by decide +kernel
def fJ1_init (a0 : Nat) (A : AH) : Option (AH) :=
(fJ0_init a0 A).bind fun g1 =>
(pI A (some a0) 0 0 (0 : Int32)).bind fun A2 =>
some A2

set_option maxHeartbeats 4000000 in
set_option maxRecDepth 100000 in
theorem sJ1_init (l : Launch) (D : DE) (a0 : Nat) (A : AH) (g : AH) (hg : fJ1_init a0 A = some g) : Sm l D yJ1_init cJ1_init 1 none 2 40 [tR (some a0)] A (wU g).1 (wU g).2 := by
  refine Sm.of (ω := wU) (fJ1_init a0 A) [some (tR (some a0))] (by decide) (Nat.le_of_ble_eq_true rfl) rfl hg ?_
  intro p e R s m args below meth c X hin
  have X : Cx D cJ1_init RJ1 1 2 40 none p R s m args meth c := X
  unfold fJ1_init
  refine rf_aload_n X rfl dJ1_init_0 ?_
  refine rf_bind (fun g1 hg1 => ?_)
  refine rf_callI X c_J1_1 ⟨Nat.le_of_ble_eq_true rfl, Nat.le_of_ble_eq_true rfl⟩ [] rfl (Nat.le_of_ble_eq_true rfl) (sJ0_init l D a0 A g1 hg1) dJ1_init_1 ?_
  refine rf_aload_n X rfl dJ1_init_4 ?_
  refine rf_iconst X (0 : Int32) rfl dJ1_init_5 ?_
  refine rf_bind (fun A2 hA2 => ?_)
  refine rf_putI X fp_J1_7 (fun _ => hin) hA2 dJ1_init_6 ?_
  exact rf_vret X rfl dJ1_init_9

theorem dJ2_init_0 : decode cJ2_init 0 = .ok (.aload_n 0, 1) := by decide +kernel
theorem dJ2_init_1 : decode cJ2_init 1 = .ok (.invokespecial 1, 3) := by decide +kernel
theorem dJ2_init_4 : decode cJ2_init 4 = .ok (.iload_n 1, 1) := by decide +kernel
theorem dJ2_init_5 : decode cJ2_init 5 = .ok (.ifCond .le 14, 3) := by decide +kernel
theorem dJ2_init_8 : decode cJ2_init 8 = .ok (.aload_n 0, 1) := by decide +kernel
theorem dJ2_init_9 : decode cJ2_init 9 = .ok (.iload_n 1, 1) := by decide +kernel
theorem dJ2_init_10 : decode cJ2_init 10 = .ok (.anewarray 7, 3) := by decide +kernel
theorem dJ2_init_13 : decode cJ2_init 13 = .ok (.putfield 9, 3) := by decide +kernel
theorem dJ2_init_16 : decode cJ2_init 16 = .ok (.goto 44, 3) := by decide +kernel
theorem dJ2_init_19 : decode cJ2_init 19 = .ok (.iload_n 1, 1) := by decide +kernel
theorem dJ2_init_20 : decode cJ2_init 20 = .ok (.ifCond .ne 13, 3) := by decide +kernel
theorem dJ2_init_23 : decode cJ2_init 23 = .ok (.aload_n 0, 1) := by decide +kernel
theorem dJ2_init_24 : decode cJ2_init 24 = .ok (.getstatic 15, 3) := by decide +kernel
theorem dJ2_init_27 : decode cJ2_init 27 = .ok (.putfield 9, 3) := by decide +kernel
theorem dJ2_init_30 : decode cJ2_init 30 = .ok (.goto 30, 3) := by decide +kernel
theorem dJ2_init_60 : decode cJ2_init 60 = .ok (.return_, 1) := by decide +kernel
def fJ2_init (a0 : Nat) (p1 : Int32) (A : AH) : Option (AH) :=
(fJ1_init a0 A).bind fun g1 =>
jn (fun (A3 : AH) =>
some A3) fun j2 =>
if p1 ≤ 0 then (if p1 = 0 then ((pR g1 (some a0) 0 1 (some (hA g1 9))).bind fun A6 =>
j2 A6) else
none) else
(nAR g1 3 p1).bind fun A7 =>
(pR A7 (some a0) 0 1 (some (hN g1))).bind fun A8 =>
j2 A8

set_option maxHeartbeats 4000000 in
set_option maxRecDepth 100000 in
theorem sJ2_init (l : Launch) (D : DE) (a0 : Nat) (p1 : Int32) (A : AH) (g : AH) (hg : fJ2_init a0 p1 A = some g) : Sm l D yJ2_init cJ2_init 2 none 3 60 [tR (some a0), tI p1] A (wU g).1 (wU g).2 := by
  refine Sm.of (ω := wU) (fJ2_init a0 p1 A) [some (tR (some a0)), some (tI p1)] (by decide) (Nat.le_of_ble_eq_true rfl) rfl hg ?_
  intro p e R s m args below meth c X hin
  have X : Cx D cJ2_init RJ2 2 3 60 none p R s m args meth c := X
  unfold fJ2_init
  refine rf_aload_n X rfl dJ2_init_0 ?_
  refine rf_bind (fun g1 hg1 => ?_)
  refine rf_callI X c_J2_1 ⟨Nat.le_of_ble_eq_true rfl, Nat.le_of_ble_eq_true rfl⟩ [] rfl (Nat.le_of_ble_eq_true rfl) (sJ1_init l D a0 A g1 hg1) dJ2_init_1 ?_
  refine rf_iload_n X rfl dJ2_init_4 ?_
  refine rf_jn2 (fun i => ∀ (A3 : AH), RfX X l e below wU (i A3) 60 [none, none] [] A3) ?_ (fun j2 hj2 => ?_)
  · intro A3
    exact rf_vret X rfl dJ2_init_60
  refine rf_if_le X (tgt := 19) rfl dJ2_init_5 (fun c4 => rf_pos c4 ?_) (fun c4 => rf_neg c4 ?_)
  · refine rf_iload_n X rfl dJ2_init_19 ?_
    refine rf_if_ne X (tgt := 33) rfl dJ2_init_20 (fun c5 => rf_neg c5 ?_) (fun c5 => rf_pos c5 ?_)
    · exact rf_none
    refine rf_aload_n X rfl dJ2_init_23 ?_
    refine rf_getsR X 9 (fun D => by simp [statD]) (Or.inl q140) dJ2_init_24 ?_
    refine rf_bind (fun A6 hA6 => ?_)
    refine rf_putR X fp_J2_9 (fun _ => hin) rfl hA6 dJ2_init_27 ?_
    refine rf_goto X (tgt := 60) rfl dJ2_init_30 ?_
    exact rf_go (hj2 A6) True.intro
  refine rf_aload_n X rfl dJ2_init_8 ?_
  refine rf_iload_n X rfl dJ2_init_9 ?_
  refine rf_bind (fun A7 hA7 => ?_)
  refine rf_newq X (t0 := 3) q138 q139 (by decide) rfl hA7 dJ2_init_10 ?_
  refine rf_bind (fun A8 hA8 => ?_)
  refine rf_putR X fp_J2_9 (fun _ => hin) rfl hA8 dJ2_init_13 ?_
  refine rf_goto X (tgt := 60) rfl dJ2_init_16 ?_
  exact rf_go (hj2 A8) True.intro

theorem dJ2_init_2_0 : decode cJ2_init_2 0 = .ok (.aload_n 0, 1) := by decide +kernel
theorem dJ2_init_2_1 : decode cJ2_init_2 1 = .ok (.invokespecial 1, 3) := by decide +kernel
theorem dJ2_init_2_4 : decode cJ2_init_2 4 = .ok (.aload_n 0, 1) := by decide +kernel
theorem dJ2_init_2_5 : decode cJ2_init_2 5 = .ok (.getstatic 39, 3) := by decide +kernel
theorem dJ2_init_2_8 : decode cJ2_init_2 8 = .ok (.putfield 9, 3) := by decide +kernel
theorem dJ2_init_2_11 : decode cJ2_init_2 11 = .ok (.return_, 1) := by decide +kernel
def fJ2_init_2 (a0 : Nat) (A : AH) : Option (AH) :=
(fJ1_init a0 A).bind fun g1 =>
(pR g1 (some a0) 0 1 (some (hA g1 8))).bind fun A2 =>
some A2

set_option maxHeartbeats 4000000 in
set_option maxRecDepth 100000 in
theorem sJ2_init_2 (l : Launch) (D : DE) (a0 : Nat) (A : AH) (g : AH) (hg : fJ2_init_2 a0 A = some g) : Sm l D yJ2_init_2 cJ2_init_2 1 none 3 60 [tR (some a0)] A (wU g).1 (wU g).2 := by
  refine Sm.of (ω := wU) (fJ2_init_2 a0 A) [some (tR (some a0))] (by decide) (Nat.le_of_ble_eq_true rfl) rfl hg ?_
  intro p e R s m args below meth c X hin
  have X : Cx D cJ2_init_2 RJ2 1 3 60 none p R s m args meth c := X
  unfold fJ2_init_2
  refine rf_aload_n X rfl dJ2_init_2_0 ?_
  refine rf_bind (fun g1 hg1 => ?_)
  refine rf_callI X c_J2_1 ⟨Nat.le_of_ble_eq_true rfl, Nat.le_of_ble_eq_true rfl⟩ [] rfl (Nat.le_of_ble_eq_true rfl) (sJ1_init l D a0 A g1 hg1) dJ2_init_2_1 ?_
  refine rf_aload_n X rfl dJ2_init_2_4 ?_
  refine rf_getsR X 8 (fun D => by simp [statD]) (Or.inl q476) dJ2_init_2_5 ?_
  refine rf_bind (fun A2 hA2 => ?_)
  refine rf_putR X fp_J2_9 (fun _ => hin) rfl hA2 dJ2_init_2_8 ?_
  exact rf_vret X rfl dJ2_init_2_11

theorem dJ11_hugeLength_0 : decode cJ11_hugeLength 0 = .ok (.iload_n 0, 1) := by decide +kernel
theorem dJ11_hugeLength_1 : decode cJ11_hugeLength 1 = .ok (.iload_n 1, 1) := by decide +kernel
theorem dJ11_hugeLength_2 : decode cJ11_hugeLength 2 = .ok (.iadd, 1) := by decide +kernel
theorem dJ11_hugeLength_3 : decode cJ11_hugeLength 3 = .ok (.istore_n 2, 1) := by decide +kernel
theorem dJ11_hugeLength_4 : decode cJ11_hugeLength 4 = .ok (.iload_n 2, 1) := by decide +kernel
theorem dJ11_hugeLength_5 : decode cJ11_hugeLength 5 = .ok (.ifCond .ge 44, 3) := by decide +kernel
theorem dJ11_hugeLength_49 : decode cJ11_hugeLength 49 = .ok (.iload_n 2, 1) := by decide +kernel
theorem dJ11_hugeLength_50 : decode cJ11_hugeLength 50 = .ok (.ldc 200, 2) := by decide +kernel
theorem dJ11_hugeLength_52 : decode cJ11_hugeLength 52 = .ok (.if_icmp .gt 6, 3) := by decide +kernel
theorem dJ11_hugeLength_55 : decode cJ11_hugeLength 55 = .ok (.ldc 200, 2) := by decide +kernel
theorem dJ11_hugeLength_57 : decode cJ11_hugeLength 57 = .ok (.ireturn, 1) := by decide +kernel
theorem dJ11_hugeLength_58 : decode cJ11_hugeLength 58 = .ok (.iload_n 2, 1) := by decide +kernel
theorem dJ11_hugeLength_59 : decode cJ11_hugeLength 59 = .ok (.ireturn, 1) := by decide +kernel
def fJ11_hugeLength (p1 : Int32) (p2 : Int32) (A : AH) : Option (Int32) :=
if 0 ≤ (p1 + p2) then (if (2147483639 : Int32) < (p1 + p2) then (some (p1 + p2)) else
some (2147483639 : Int32)) else
none

set_option maxHeartbeats 4000000 in
set_option maxRecDepth 100000 in
theorem sJ11_hugeLength (l : Launch) (D : DE) (p1 : Int32) (p2 : Int32) (A : AH) (g : Int32) (hg : fJ11_hugeLength p1 p2 A = some g) : Sm l D yJ11_hugeLength cJ11_hugeLength 3 (some Jvm.ClassFile.FieldType.int) 0 0 [tI p1, tI p2] A (qI A g).1 (qI A g).2 := by
  refine Sm.of (ω := qI A) (fJ11_hugeLength p1 p2 A) [some (tI p1), some (tI p2), none] (by decide) (Nat.le_of_ble_eq_true rfl) rfl hg ?_
  intro p e R s m args below meth c X hin
  have X : Cx D cJ11_hugeLength RJ11 3 0 0 (some Jvm.ClassFile.FieldType.int) p R s m args meth c := X
  unfold fJ11_hugeLength
  refine rf_iload_n X rfl dJ11_hugeLength_0 ?_
  refine rf_iload_n X rfl dJ11_hugeLength_1 ?_
  refine rf_iadd X dJ11_hugeLength_2 ?_
  refine rf_istore_n X (ls' := [some (tI p1), some (tI p2), some (tI (p1 + p2))]) rfl (by decide) dJ11_hugeLength_3 ?_
  refine rf_iload_n X rfl dJ11_hugeLength_4 ?_
  refine rf_if_ge X (tgt := 49) rfl dJ11_hugeLength_5 (fun c1 => rf_pos c1 ?_) (fun c1 => rf_neg c1 ?_)
  · refine rf_iload_n X rfl dJ11_hugeLength_49 ?_
    refine rf_ldc X (v := (2147483639 : Int32)) q241 dJ11_hugeLength_50 ?_
    refine rf_icmp_gt X (tgt := 58) rfl dJ11_hugeLength_52 (fun c2 => rf_pos c2 ?_) (fun c2 => rf_neg c2 ?_)
    · refine rf_iload_n X rfl dJ11_hugeLength_58 ?_
      exact rf_iret X rfl dJ11_hugeLength_59
    refine rf_ldc X (v := (2147483639 : Int32)) q241 dJ11_hugeLength_55 ?_
    exact rf_iret X rfl dJ11_hugeLength_57
  exact rf_none

theorem dJ11_newLength_0 : decode cJ11_newLength 0 = .ok (.iload_n 0, 1) := by decide +kernel
theorem dJ11_newLength_1 : decode cJ11_newLength 1 = .ok (.iload_n 1, 1) := by decide +kernel
theorem dJ11_newLength_2 : decode cJ11_newLength 2 = .ok (.iload_n 2, 1) := by decide +kernel
theorem dJ11_newLength_3 : decode cJ11_newLength 3 = .ok (.invokestatic 194, 3) := by decide +kernel
theorem dJ11_newLength_6 : decode cJ11_newLength 6 = .ok (.iadd, 1) := by decide +kernel
theorem dJ11_newLength_7 : decode cJ11_newLength 7 = .ok (.istore_n 3, 1) := by decide +kernel
theorem dJ11_newLength_8 : decode cJ11_newLength 8 = .ok (.iconst 0, 1) := by decide +kernel
theorem dJ11_newLength_9 : decode cJ11_newLength 9 = .ok (.iload_n 3, 1) := by decide +kernel
theorem dJ11_newLength_10 : decode cJ11_newLength 10 = .ok (.if_icmp .ge 11, 3) := by decide +kernel
theorem dJ11_newLength_13 : decode cJ11_newLength 13 = .ok (.iload_n 3, 1) := by decide +kernel
theorem dJ11_newLength_14 : decode cJ11_newLength 14 = .ok (.ldc 200, 2) := by decide +kernel
theorem dJ11_newLength_16 : decode cJ11_newLength 16 = .ok (.if_icmp .gt 5, 3) := by decide +kernel
theorem dJ11_newLength_19 : decode cJ11_newLength 19 = .ok (.iload_n 3, 1) := by decide +kernel
theorem dJ11_newLength_20 : decode cJ11_newLength 20 = .ok (.ireturn, 1) := by decide +kernel
theorem dJ11_newLength_21 : decode cJ11_newLength 21 = .ok (.iload_n 0, 1) := by decide +kernel
theorem dJ11_newLength_22 : decode cJ11_newLength 22 = .ok (.iload_n 1, 1) := by decide +kernel
theorem dJ11_newLength_23 : decode cJ11_newLength 23 = .ok (.invokestatic 201, 3) := by decide +kernel
theorem dJ11_newLength_26 : decode cJ11_newLength 26 = .ok (.ireturn, 1) := by decide +kernel
def fJ11_newLength (p1 : Int32) (p2 : Int32) (p3 : Int32) (A : AH) : Option (Int32) :=
if (((p1 + (if p2 < p3 then p3 else p2)) ≤ (0 : Int32)) ∨ ((2147483639 : Int32) < (p1 + (if p2 < p3 then p3 else p2)))) then ((fJ11_hugeLength p1 p2 A).bind fun g1 =>
some g1) else
some (p1 + (if p2 < p3 then p3 else p2))

set_option maxHeartbeats 4000000 in
set_option maxRecDepth 100000 in
theorem sJ11_newLength (l : Launch) (D : DE) (p1 : Int32) (p2 : Int32) (p3 : Int32) (A : AH) (g : Int32) (hg : fJ11_newLength p1 p2 p3 A = some g) : Sm l D yJ11_newLength cJ11_newLength 4 (some Jvm.ClassFile.FieldType.int) 1 22 [tI p1, tI p2, tI p3] A (qI A g).1 (qI A g).2 := by
  refine Sm.of (ω := qI A) (fJ11_newLength p1 p2 p3 A) [some (tI p1), some (tI p2), some (tI p3), none] (by decide) (Nat.le_of_ble_eq_true rfl) rfl hg ?_
  intro p e R s m args below meth c X hin
  have X : Cx D cJ11_newLength RJ11 4 1 22 (some Jvm.ClassFile.FieldType.int) p R s m args meth c := X
  unfold fJ11_newLength
  refine rf_iload_n X rfl dJ11_newLength_0 ?_
  refine rf_iload_n X rfl dJ11_newLength_1 ?_
  refine rf_iload_n X rfl dJ11_newLength_2 ?_
  refine rf_mmax X q238 ⟨by decide, by decide⟩ (Nat.le_of_ble_eq_true rfl) dJ11_newLength_3 ?_
  refine rf_iadd X dJ11_newLength_6 ?_
  refine rf_istore_n X (ls' := [some (tI p1), some (tI p2), some (tI p3), some (tI (p1 + (if p2 < p3 then p3 else p2)))]) rfl (by decide) dJ11_newLength_7 ?_
  refine rf_iconst X (0 : Int32) rfl dJ11_newLength_8 ?_
  refine rf_iload_n X rfl dJ11_newLength_9 ?_
  refine rf_br 21 19 [some (tI p1), some (tI p2), some (tI p3), some (tI (p1 + (if p2 < p3 then p3 else p2)))] [some (tI p1), some (tI p2), some (tI p3), some (tI (p1 + (if p2 < p3 then p3 else p2)))] [] [] (fun _ => ?_) (fun _ => ?_) (fun _ jT jF => ?_)
  · refine rf_iload_n X rfl dJ11_newLength_21 ?_
    refine rf_iload_n X rfl dJ11_newLength_22 ?_
    refine rf_bind (fun g1 hg1 => ?_)
    refine rf_callSI X c_J11_201 ⟨Nat.le_of_ble_eq_true rfl, Nat.le_of_ble_eq_true rfl⟩ [tI p1, tI p2] rfl (Nat.le_of_ble_eq_true rfl) (sJ11_hugeLength l D p1 p2 A g1 hg1) dJ11_newLength_23 ?_
    exact rf_iret X rfl dJ11_newLength_26
  · refine rf_iload_n X rfl dJ11_newLength_19 ?_
    exact rf_iret X rfl dJ11_newLength_20
  refine rf_icmp_ge X (tgt := 21) rfl dJ11_newLength_10 (fun c2 => ?_) (fun c2 => ?_)
  · exact jT (Or.inl c2)
  refine rf_iload_n X rfl dJ11_newLength_13 ?_
  refine rf_ldc X (v := (2147483639 : Int32)) q241 dJ11_newLength_14 ?_
  refine rf_icmp_gt X (tgt := 21) rfl dJ11_newLength_16 (fun c3 => ?_) (fun c3 => ?_)
  · exact jT (Or.inr c3)
  exact jF (fun z => z.elim c2 c3)

theorem dJ13_copyOf_3_0 : decode cJ13_copyOf_3 0 = .ok (.aload_n 2, 1) := by decide +kernel
theorem dJ13_copyOf_3_1 : decode cJ13_copyOf_3 1 = .ok (.ldc 110, 2) := by decide +kernel
theorem dJ13_copyOf_3_3 : decode cJ13_copyOf_3 3 = .ok (.if_acmp .ne 10, 3) := by decide +kernel
theorem dJ13_copyOf_3_6 : decode cJ13_copyOf_3 6 = .ok (.iload_n 1, 1) := by decide +kernel
theorem dJ13_copyOf_3_7 : decode cJ13_copyOf_3 7 = .ok (.anewarray 2, 3) := by decide +kernel
theorem dJ13_copyOf_3_10 : decode cJ13_copyOf_3 10 = .ok (.goto 14, 3) := by decide +kernel
theorem dJ13_copyOf_3_24 : decode cJ13_copyOf_3 24 = .ok (.astore_n 3, 1) := by decide +kernel
theorem dJ13_copyOf_3_25 : decode cJ13_copyOf_3 25 = .ok (.aload_n 0, 1) := by decide +kernel
theorem dJ13_copyOf_3_26 : decode cJ13_copyOf_3 26 = .ok (.iconst 0, 1) := by decide +kernel
theorem dJ13_copyOf_3_27 : decode cJ13_copyOf_3 27 = .ok (.aload_n 3, 1) := by decide +kernel
theorem dJ13_copyOf_3_28 : decode cJ13_copyOf_3 28 = .ok (.iconst 0, 1) := by decide +kernel
theorem dJ13_copyOf_3_29 : decode cJ13_copyOf_3 29 = .ok (.aload_n 0, 1) := by decide +kernel
theorem dJ13_copyOf_3_30 : decode cJ13_copyOf_3 30 = .ok (.arraylength, 1) := by decide +kernel
theorem dJ13_copyOf_3_31 : decode cJ13_copyOf_3 31 = .ok (.iload_n 1, 1) := by decide +kernel
theorem dJ13_copyOf_3_32 : decode cJ13_copyOf_3 32 = .ok (.invokestatic 304, 3) := by decide +kernel
theorem dJ13_copyOf_3_35 : decode cJ13_copyOf_3 35 = .ok (.invokestatic 150, 3) := by decide +kernel
theorem dJ13_copyOf_3_38 : decode cJ13_copyOf_3 38 = .ok (.aload_n 3, 1) := by decide +kernel
theorem dJ13_copyOf_3_39 : decode cJ13_copyOf_3 39 = .ok (.areturn, 1) := by decide +kernel
def fJ13_copyOf_3 (p1 : Option Nat) (p2 : Int32) (p3 : Option Nat) (A : AH) : Option (Option Nat × AH) :=
jn (fun (y2 : Option Nat) (A3 : AH) =>
(aLen A3 p1).bind fun v4 =>
(cpA A3 p1 (0 : Int32) y2 (0 : Int32) (if p2 < v4 then p2 else v4)).bind fun A5 =>
some (y2, A5)) fun j1 =>
if p3 = (some (hA A 10)) then ((nAR A 3 p2).bind fun A7 =>
j1 (some (hN A)) A7) else
none

set_option maxHeartbeats 4000000 in
set_option maxRecDepth 100000 in
theorem sJ13_copyOf_3 (l : Launch) (D : DE) (p1 : Option Nat) (p2 : Int32) (p3 : Option Nat) (A : AH) (g : Option Nat × AH) (hg : fJ13_copyOf_3 p1 p2 p3 A = some g) : Sm l D yJ13_copyOf_3 cJ13_copyOf_3 4 (some (Jvm.ClassFile.FieldType.array (Jvm.ClassFile.FieldType.object "java/lang/Object"))) 1 60 [tR p1, tI p2, tR p3] A (wO g).1 (wO g).2 := by
  refine Sm.of (ω := wO) (fJ13_copyOf_3 p1 p2 p3 A) [some (tR p1), some (tI p2), some (tR p3), none] (by decide) (Nat.le_of_ble_eq_true rfl) rfl hg ?_
  intro p e R s m args below meth c X hin
  have X : Cx D cJ13_copyOf_3 RJ13 4 1 60 (some (Jvm.ClassFile.FieldType.array (Jvm.ClassFile.FieldType.object "java/lang/Object"))) p R s m args meth c := X
  unfold fJ13_copyOf_3
  refine rf_aload_n X rfl dJ13_copyOf_3_0 ?_
  refine rf_ldcM X q680 dJ13_copyOf_3_1 ?_
  refine rf_jn2 (fun i => ∀ (y2 : Option Nat) (A3 : AH), RfX X l e below wO (i y2 A3) 24 [some (tR p1), some (tI p2), none, none] [tR y2] A3) ?_ (fun j1 hj1 => ?_)
  · intro y2 A3
    refine rf_astore_n X (ls' := [some (tR p1), some (tI p2), none, some (tR y2)]) rfl (by decide) dJ13_copyOf_3_24 ?_
    refine rf_aload_n X rfl dJ13_copyOf_3_25 ?_
    refine rf_iconst X (0 : Int32) rfl dJ13_copyOf_3_26 ?_
    refine rf_aload_n X rfl dJ13_copyOf_3_27 ?_
    refine rf_iconst X (0 : Int32) rfl dJ13_copyOf_3_28 ?_
    refine rf_aload_n X rfl dJ13_copyOf_3_29 ?_
    refine rf_bind (fun v4 hv4 => ?_)
    refine rf_alen X hv4 dJ13_copyOf_3_30 ?_
    refine rf_iload_n X rfl dJ13_copyOf_3_31 ?_
    refine rf_mmin X q256 ⟨by decide, by decide⟩ (Nat.le_of_ble_eq_true rfl) dJ13_copyOf_3_32 ?_
    refine rf_bind (fun A5 hA5 => ?_)
    refine rf_acopy X q259 ⟨by decide, by decide⟩ (Nat.le_of_ble_eq_true rfl) hA5 dJ13_copyOf_3_35 ?_
    refine rf_aload_n X rfl dJ13_copyOf_3_38 ?_
    exact rf_aret (Or.inr ⟨_, rfl⟩) X rfl dJ13_copyOf_3_39
  refine rf_acmp_ne X (tgt := 13) rfl dJ13_copyOf_3_3 (fun c6 => rf_neg c6 ?_) (fun c6 => rf_pos c6 ?_)
  · exact rf_none
  refine rf_iload_n X rfl dJ13_copyOf_3_6 ?_
  refine rf_bind (fun A7 hA7 => ?_)
  refine rf_newq X (t0 := 3) q681 q139 (by decide) rfl hA7 dJ13_copyOf_3_7 ?_
  refine rf_goto X (tgt := 24) rfl dJ13_copyOf_3_10 ?_
  exact rf_go (hj1 (some (hN A)) A7) (And.intro rfl (And.intro rfl True.intro))

theorem dJ13_copyOf_2_0 : decode cJ13_copyOf_2 0 = .ok (.aload_n 0, 1) := by decide +kernel
theorem dJ13_copyOf_2_1 : decode cJ13_copyOf_2 1 = .ok (.iload_n 1, 1) := by decide +kernel
theorem dJ13_copyOf_2_2 : decode cJ13_copyOf_2 2 = .ok (.aload_n 0, 1) := by decide +kernel
theorem dJ13_copyOf_2_3 : decode cJ13_copyOf_2 3 = .ok (.invokevirtual 86, 3) := by decide +kernel
theorem dJ13_copyOf_2_6 : decode cJ13_copyOf_2 6 = .ok (.invokestatic 300, 3) := by decide +kernel
theorem dJ13_copyOf_2_9 : decode cJ13_copyOf_2 9 = .ok (.areturn, 1) := by decide +kernel
def fJ13_copyOf_2 (p1 : Option Nat) (p2 : Int32) (A : AH) : Option (Option Nat × AH) :=
(gC A p1).bind fun v1 =>
(fJ13_copyOf_3 p1 p2 (some (hA A 10)) A).bind fun g2 =>
some (g2.1, g2.2)

set_option maxHeartbeats 4000000 in
set_option maxRecDepth 100000 in
theorem sJ13_copyOf_2 (l : Launch) (D : DE) (p1 : Option Nat) (p2 : Int32) (A : AH) (g : Option Nat × AH) (hg : fJ13_copyOf_2 p1 p2 A = some g) : Sm l D yJ13_copyOf_2 cJ13_copyOf_2 2 (some (Jvm.ClassFile.FieldType.array (Jvm.ClassFile.FieldType.object "java/lang/Object"))) 2 83 [tR p1, tI p2] A (wO g).1 (wO g).2 := by
  refine Sm.of (ω := wO) (fJ13_copyOf_2 p1 p2 A) [some (tR p1), some (tI p2)] (by decide) (Nat.le_of_ble_eq_true rfl) rfl hg ?_
  intro p e R s m args below meth c X hin
  have X : Cx D cJ13_copyOf_2 RJ13 2 2 83 (some (Jvm.ClassFile.FieldType.array (Jvm.ClassFile.FieldType.object "java/lang/Object"))) p R s m args meth c := X
  unfold fJ13_copyOf_2
  refine rf_aload_n X rfl dJ13_copyOf_2_0 ?_
  refine rf_iload_n X rfl dJ13_copyOf_2_1 ?_
  refine rf_aload_n X rfl dJ13_copyOf_2_2 ?_
  refine rf_bind (fun v1 hv1 => ?_)
  refine rf_getC X q651 ⟨by decide, by decide⟩ (Nat.le_of_ble_eq_true rfl) hv1 dJ13_copyOf_2_3 ?_
  refine rf_bind (fun g2 hg2 => ?_)
  refine rf_callSI X c_J13_300 ⟨Nat.le_of_ble_eq_true rfl, Nat.le_of_ble_eq_true rfl⟩ [tR p1, tI p2, tR (some (hA A 10))] rfl (Nat.le_of_ble_eq_true rfl) (sJ13_copyOf_3 l D p1 p2 (some (hA A 10)) A g2 hg2) dJ13_copyOf_2_6 ?_
  exact rf_aret (Or.inr ⟨_, rfl⟩) X rfl dJ13_copyOf_2_9

theorem dJ2_grow_2_0 : decode cJ2_grow_2 0 = .ok (.aload_n 0, 1) := by decide +kernel
theorem dJ2_grow_2_1 : decode cJ2_grow_2 1 = .ok (.getfield 9, 3) := by decide +kernel
theorem dJ2_grow_2_4 : decode cJ2_grow_2 4 = .ok (.arraylength, 1) := by decide +kernel
theorem dJ2_grow_2_5 : decode cJ2_grow_2 5 = .ok (.istore_n 2, 1) := by decide +kernel
theorem dJ2_grow_2_6 : decode cJ2_grow_2 6 = .ok (.iload_n 2, 1) := by decide +kernel
theorem dJ2_grow_2_7 : decode cJ2_grow_2 7 = .ok (.ifCond .gt 13, 3) := by decide +kernel
theorem dJ2_grow_2_10 : decode cJ2_grow_2 10 = .ok (.aload_n 0, 1) := by decide +kernel
theorem dJ2_grow_2_11 : decode cJ2_grow_2 11 = .ok (.getfield 9, 3) := by decide +kernel
theorem dJ2_grow_2_14 : decode cJ2_grow_2 14 = .ok (.getstatic 39, 3) := by decide +kernel
theorem dJ2_grow_2_17 : decode cJ2_grow_2 17 = .ok (.if_acmp .eq 28, 3) := by decide +kernel
theorem dJ2_grow_2_20 : decode cJ2_grow_2 20 = .ok (.iload_n 2, 1) := by decide +kernel
theorem dJ2_grow_2_21 : decode cJ2_grow_2 21 = .ok (.iload_n 1, 1) := by decide +kernel
theorem dJ2_grow_2_22 : decode cJ2_grow_2 22 = .ok (.iload_n 2, 1) := by decide +kernel
theorem dJ2_grow_2_23 : decode cJ2_grow_2 23 = .ok (.isub, 1) := by decide +kernel
theorem dJ2_grow_2_24 : decode cJ2_grow_2 24 = .ok (.iload_n 2, 1) := by decide +kernel
theorem dJ2_grow_2_25 : decode cJ2_grow_2 25 = .ok (.iconst 1, 1) := by decide +kernel
theorem dJ2_grow_2_26 : decode cJ2_grow_2 26 = .ok (.ishr, 1) := by decide +kernel
theorem dJ2_grow_2_27 : decode cJ2_grow_2 27 = .ok (.invokestatic 73, 3) := by decide +kernel
theorem dJ2_grow_2_30 : decode cJ2_grow_2 30 = .ok (.istore_n 3, 1) := by decide +kernel
theorem dJ2_grow_2_31 : decode cJ2_grow_2 31 = .ok (.aload_n 0, 1) := by decide +kernel
theorem dJ2_grow_2_32 : decode cJ2_grow_2 32 = .ok (.aload_n 0, 1) := by decide +kernel
theorem dJ2_grow_2_33 : decode cJ2_grow_2 33 = .ok (.getfield 9, 3) := by decide +kernel
theorem dJ2_grow_2_36 : decode cJ2_grow_2 36 = .ok (.iload_n 3, 1) := by decide +kernel
theorem dJ2_grow_2_37 : decode cJ2_grow_2 37 = .ok (.invokestatic 66, 3) := by decide +kernel
theorem dJ2_grow_2_40 : decode cJ2_grow_2 40 = .ok (.dup_x1, 1) := by decide +kernel
theorem dJ2_grow_2_41 : decode cJ2_grow_2 41 = .ok (.putfield 9, 3) := by decide +kernel
theorem dJ2_grow_2_44 : decode cJ2_grow_2 44 = .ok (.areturn, 1) := by decide +kernel
theorem dJ2_grow_2_45 : decode cJ2_grow_2 45 = .ok (.aload_n 0, 1) := by decide +kernel
theorem dJ2_grow_2_46 : decode cJ2_grow_2 46 = .ok (.bipush 10, 2) := by decide +kernel
theorem dJ2_grow_2_48 : decode cJ2_grow_2 48 = .ok (.iload_n 1, 1) := by decide +kernel
theorem dJ2_grow_2_49 : decode cJ2_grow_2 49 = .ok (.invokestatic 79, 3) := by decide +kernel
theorem dJ2_grow_2_52 : decode cJ2_grow_2 52 = .ok (.anewarray 7, 3) := by decide +kernel
theorem dJ2_grow_2_55 : decode cJ2_grow_2 55 = .ok (.dup_x1, 1) := by decide +kernel
theorem dJ2_grow_2_56 : decode cJ2_grow_2 56 = .ok (.putfield 9, 3) := by decide +kernel
theorem dJ2_grow_2_59 : decode cJ2_grow_2 59 = .ok (.areturn, 1) := by decide +kernel
def fJ2_grow_2 (a0 : Nat) (p1 : Int32) (A : AH) : Option (Option Nat × AH) :=
(gR A (some a0) 0 1).bind fun v1 =>
(aLen A v1).bind fun v2 =>
jn ((fJ11_newLength v2 (p1 - v2) (v2 >>> ((1 : Int32) &&& 31)) A).bind fun g4 =>
(fJ13_copyOf_2 v1 g4 A).bind fun g5 =>
(pR g5.2 (some a0) 0 1 g5.1).bind fun A6 =>
some (g5.1, A6)) fun j3 =>
if 0 < v2 then (j3) else
if v1 = (some (hA A 8)) then ((nAR A 3 (if (10 : Int32) < p1 then p1 else (10 : Int32))).bind fun A9 =>
(pR A9 (some a0) 0 1 (some (hN A))).bind fun A10 =>
some ((some (hN A)), A10)) else
j3

set_option maxHeartbeats 4000000 in
set_option maxRecDepth 100000 in
theorem sJ2_grow_2 (l : Launch) (D : DE) (a0 : Nat) (p1 : Int32) (A : AH) (g : Option Nat × AH) (hg : fJ2_grow_2 a0 p1 A = some g) : Sm l D yJ2_grow_2 cJ2_grow_2 4 (some (Jvm.ClassFile.FieldType.array (Jvm.ClassFile.FieldType.object "java/lang/Object"))) 3 104 [tR (some a0), tI p1] A (wO g).1 (wO g).2 := by
  refine Sm.of (ω := wO) (fJ2_grow_2 a0 p1 A) [some (tR (some a0)), some (tI p1), none, none] (by decide) (Nat.le_of_ble_eq_true rfl) rfl hg ?_
  intro p e R s m args below meth c X hin
  have X : Cx D cJ2_grow_2 RJ2 4 3 104 (some (Jvm.ClassFile.FieldType.array (Jvm.ClassFile.FieldType.object "java/lang/Object"))) p R s m args meth c := X
  unfold fJ2_grow_2
  refine rf_aload_n X rfl dJ2_grow_2_0 ?_
  refine rf_bind (fun v1 hv1 => ?_)
  refine rf_getR X fl_J2_9 hv1 dJ2_grow_2_1 ?_
  refine rf_bind (fun v2 hv2 => ?_)
  refine rf_alen X hv2 dJ2_grow_2_4 ?_
  refine rf_istore_n X (ls' := [some (tR (some a0)), some (tI p1), some (tI v2), none]) rfl (by decide) dJ2_grow_2_5 ?_
  refine rf_iload_n X rfl dJ2_grow_2_6 ?_
  refine rf_jn2 (fun i => RfX X l e below wO i 20 [some (tR (some a0)), some (tI p1), some (tI v2), none] [] A) ?_ (fun j3 hj3 => ?_)
  · show RfX X l e below _ _ _ _ _ _
    refine rf_iload_n X rfl dJ2_grow_2_20 ?_
    refine rf_iload_n X rfl dJ2_grow_2_21 ?_
    refine rf_iload_n X rfl dJ2_grow_2_22 ?_
    refine rf_isub X dJ2_grow_2_23 ?_
    refine rf_iload_n X rfl dJ2_grow_2_24 ?_
    refine rf_iconst X (1 : Int32) rfl dJ2_grow_2_25 ?_
    refine rf_ishr X dJ2_grow_2_26 ?_
    refine rf_bind (fun g4 hg4 => ?_)
    refine rf_callSI X c_J2_73 ⟨Nat.le_of_ble_eq_true rfl, Nat.le_of_ble_eq_true rfl⟩ [tI v2, tI (p1 - v2), tI (v2 >>> ((1 : Int32) &&& 31))] rfl (Nat.le_of_ble_eq_true rfl) (sJ11_newLength l D v2 (p1 - v2) (v2 >>> ((1 : Int32) &&& 31)) A g4 hg4) dJ2_grow_2_27 ?_
    refine rf_istore_n X (ls' := [some (tR (some a0)), some (tI p1), some (tI v2), some (tI g4)]) rfl (by decide) dJ2_grow_2_30 ?_
    refine rf_aload_n X rfl dJ2_grow_2_31 ?_
    refine rf_aload_n X rfl dJ2_grow_2_32 ?_
    refine rf_getR X fl_J2_9 hv1 dJ2_grow_2_33 ?_
    refine rf_iload_n X rfl dJ2_grow_2_36 ?_
    refine rf_bind (fun g5 hg5 => ?_)
    refine rf_callSI X c_J2_66 ⟨Nat.le_of_ble_eq_true rfl, Nat.le_of_ble_eq_true rfl⟩ [tR v1, tI g4] rfl (Nat.le_of_ble_eq_true rfl) (sJ13_copyOf_2 l D v1 g4 A g5 hg5) dJ2_grow_2_37 ?_
    refine rf_dup_x1 X rfl rfl dJ2_grow_2_40 ?_
    refine rf_bind (fun A6 hA6 => ?_)
    refine rf_putR X fp_J2_9 (fun h => by cases h) rfl hA6 dJ2_grow_2_41 ?_
    exact rf_aret (Or.inr ⟨_, rfl⟩) X rfl dJ2_grow_2_44
  refine rf_if_gt X (tgt := 20) rfl dJ2_grow_2_7 (fun c7 => rf_pos c7 ?_) (fun c7 => rf_neg c7 ?_)
  · exact rf_go hj3 (And.intro rfl (And.intro rfl (And.intro rfl True.intro)))
  refine rf_aload_n X rfl dJ2_grow_2_10 ?_
  refine rf_getR X fl_J2_9 hv1 dJ2_grow_2_11 ?_
  refine rf_getsR X 8 (fun D => by simp [statD]) (Or.inl q476) dJ2_grow_2_14 ?_
  refine rf_acmp_eq X (tgt := 45) rfl dJ2_grow_2_17 (fun c8 => rf_pos c8 ?_) (fun c8 => rf_neg c8 ?_)
  · refine rf_aload_n X rfl dJ2_grow_2_45 ?_
    refine rf_bipush X (10 : Int32) rfl dJ2_grow_2_46 ?_
    refine rf_iload_n X rfl dJ2_grow_2_48 ?_
    refine rf_mmax X q682 ⟨by decide, by decide⟩ (Nat.le_of_ble_eq_true rfl) dJ2_grow_2_49 ?_
    refine rf_bind (fun A9 hA9 => ?_)
    refine rf_newq X (t0 := 3) q138 q139 (by decide) rfl hA9 dJ2_grow_2_52 ?_
    refine rf_dup_x1 X rfl rfl dJ2_grow_2_55 ?_
    refine rf_bind (fun A10 hA10 => ?_)
    refine rf_putR X fp_J2_9 (fun h => by cases h) rfl hA10 dJ2_grow_2_56 ?_
    exact rf_aret (Or.inr ⟨_, rfl⟩) X rfl dJ2_grow_2_59
  exact rf_go hj3 (And.intro rfl (And.intro rfl (And.intro rfl True.intro)))

theorem dJ2_grow_0 : decode cJ2_grow 0 = .ok (.aload_n 0, 1) := by decide +kernel
theorem dJ2_grow_1 : decode cJ2_grow 1 = .ok (.aload_n 0, 1) := by decide +kernel
theorem dJ2_grow_2 : decode cJ2_grow 2 = .ok (.getfield 48, 3) := by decide +kernel
theorem dJ2_grow_5 : decode cJ2_grow 5 = .ok (.iconst 1, 1) := by decide +kernel
theorem dJ2_grow_6 : decode cJ2_grow 6 = .ok (.iadd, 1) := by decide +kernel
theorem dJ2_grow_7 : decode cJ2_grow 7 = .ok (.invokevirtual 69, 3) := by decide +kernel
theorem dJ2_grow_10 : decode cJ2_grow 10 = .ok (.areturn, 1) := by decide +kernel
def fJ2_grow (a0 : Nat) (A : AH) : Option (Option Nat × AH) :=
(gI A (some a0) 0 2).bind fun v1 =>
(rcv A (some a0) 0).bind fun v2 =>
(fJ2_grow_2 v2 (v1 + (1 : Int32)) A).bind fun g3 =>
some (g3.1, g3.2)

set_option maxHeartbeats 4000000 in
set_option maxRecDepth 100000 in
theorem sJ2_grow (l : Launch) (D : DE) (a0 : Nat) (A : AH) (g : Option Nat × AH) (hg : fJ2_grow a0 A = some g) : Sm l D yJ2_grow cJ2_grow 1 (some (Jvm.ClassFile.FieldType.array (Jvm.ClassFile.FieldType.object "java/lang/Object"))) 4 127 [tR (some a0)] A (wO g).1 (wO g).2 := by
  refine Sm.of (ω := wO) (fJ2_grow a0 A) [some (tR (some a0))] (by decide) (Nat.le_of_ble_eq_true rfl) rfl hg ?_
  intro p e R s m args below meth c X hin
  have X : Cx D cJ2_grow RJ2 1 4 127 (some (Jvm.ClassFile.FieldType.array (Jvm.ClassFile.FieldType.object "java/lang/Object"))) p R s m args meth c := X
  unfold fJ2_grow
  refine rf_aload_n X rfl dJ2_grow_0 ?_
  refine rf_aload_n X rfl dJ2_grow_1 ?_
  refine rf_bind (fun v1 hv1 => ?_)
  refine rf_getI X fl_J2_48 hv1 dJ2_grow_2 ?_
  refine rf_iconst X (1 : Int32) rfl dJ2_grow_5 ?_
  refine rf_iadd X dJ2_grow_6 ?_
  refine rf_bind (fun v2 hv2 => ?_)
  refine rf_bind (fun g3 hg3 => ?_)
  refine rf_callVI X c_J2_69 ⟨Nat.le_of_ble_eq_true rfl, Nat.le_of_ble_eq_true rfl⟩ [tI (v1 + (1 : Int32))] rfl (Nat.le_of_ble_eq_true rfl) hv2 (sJ2_grow_2 l D v2 (v1 + (1 : Int32)) A g3 hg3) dJ2_grow_7 ?_
  exact rf_aret (Or.inr ⟨_, rfl⟩) X rfl dJ2_grow_10

theorem dJ2_add_2_0 : decode cJ2_add_2 0 = .ok (.iload_n 3, 1) := by decide +kernel
theorem dJ2_add_2_1 : decode cJ2_add_2 1 = .ok (.aload_n 2, 1) := by decide +kernel
theorem dJ2_add_2_2 : decode cJ2_add_2 2 = .ok (.arraylength, 1) := by decide +kernel
theorem dJ2_add_2_3 : decode cJ2_add_2 3 = .ok (.if_icmp .ne 8, 3) := by decide +kernel
theorem dJ2_add_2_6 : decode cJ2_add_2 6 = .ok (.aload_n 0, 1) := by decide +kernel
theorem dJ2_add_2_7 : decode cJ2_add_2 7 = .ok (.invokevirtual 129, 3) := by decide +kernel
theorem dJ2_add_2_10 : decode cJ2_add_2 10 = .ok (.astore_n 2, 1) := by decide +kernel
theorem dJ2_add_2_11 : decode cJ2_add_2 11 = .ok (.aload_n 2, 1) := by decide +kernel
theorem dJ2_add_2_12 : decode cJ2_add_2 12 = .ok (.iload_n 3, 1) := by decide +kernel
theorem dJ2_add_2_13 : decode cJ2_add_2 13 = .ok (.aload_n 1, 1) := by decide +kernel
theorem dJ2_add_2_14 : decode cJ2_add_2 14 = .ok (.aastore, 1) := by decide +kernel
theorem dJ2_add_2_15 : decode cJ2_add_2 15 = .ok (.aload_n 0, 1) := by decide +kernel
theorem dJ2_add_2_16 : decode cJ2_add_2 16 = .ok (.iload_n 3, 1) := by decide +kernel
theorem dJ2_add_2_17 : decode cJ2_add_2 17 = .ok (.iconst 1, 1) := by decide +kernel
theorem dJ2_add_2_18 : decode cJ2_add_2 18 = .ok (.iadd, 1) := by decide +kernel
theorem dJ2_add_2_19 : decode cJ2_add_2 19 = .ok (.putfield 48, 3) := by decide +kernel
theorem dJ2_add_2_22 : decode cJ2_add_2 22 = .ok (.return_, 1) := by decide +kernel
def fJ2_add_2 (a0 : Nat) (p1 : Option Nat) (p2 : Option Nat) (p3 : Int32) (A : AH) : Option (AH) :=
(aLen A p2).bind fun v1 =>
jn (fun (x3 : Option Nat) (A4 : AH) =>
(sR A4 x3 p3 p1).bind fun A5 =>
(pI A5 (some a0) 0 2 (p3 + (1 : Int32))).bind fun A6 =>
some A6) fun j2 =>
if p3 = v1 then ((rcv A (some a0) 0).bind fun v8 =>
(fJ2_grow v8 A).bind fun g9 =>
j2 g9.1 g9.2) else
j2 p2 A

set_option maxHeartbeats 4000000 in
set_option maxRecDepth 100000 in
theorem sJ2_add_2 (l : Launch) (D : DE) (a0 : Nat) (p1 : Option Nat) (p2 : Option Nat) (p3 : Int32) (A : AH) (g : AH) (hg : fJ2_add_2 a0 p1 p2 p3 A = some g) : Sm l D yJ2_add_2 cJ2_add_2 4 none 5 147 [tR (some a0), tR p1, tR p2, tI p3] A (wU g).1 (wU g).2 := by
  refine Sm.of (ω := wU) (fJ2_add_2 a0 p1 p2 p3 A) [some (tR (some a0)), some (tR p1), some (tR p2), some (tI p3)] (by decide) (Nat.le_of_ble_eq_true rfl) rfl hg ?_
  intro p e R s m args below meth c X hin
  have X : Cx D cJ2_add_2 RJ2 4 5 147 none p R s m args meth c := X
  unfold fJ2_add_2
  refine rf_iload_n X rfl dJ2_add_2_0 ?_
  refine rf_aload_n X rfl dJ2_add_2_1 ?_
  refine rf_bind (fun v1 hv1 => ?_)
  refine rf_alen X hv1 dJ2_add_2_2 ?_
  refine rf_jn2 (fun i => ∀ (x3 : Option Nat) (A4 : AH), RfX X l e below wU (i x3 A4) 11 [some (tR (some a0)), some (tR p1), some (tR x3), some (tI p3)] [] A4) ?_ (fun j2 hj2 => ?_)
  · intro x3 A4
    refine rf_aload_n X rfl dJ2_add_2_11 ?_
    refine rf_iload_n X rfl dJ2_add_2_12 ?_
    refine rf_aload_n X rfl dJ2_add_2_13 ?_
    refine rf_bind (fun A5 hA5 => ?_)
    refine rf_aast X hA5 dJ2_add_2_14 ?_
    refine rf_aload_n X rfl dJ2_add_2_15 ?_
    refine rf_iload_n X rfl dJ2_add_2_16 ?_
    refine rf_iconst X (1 : Int32) rfl dJ2_add_2_17 ?_
    refine rf_iadd X dJ2_add_2_18 ?_
    refine rf_bind (fun A6 hA6 => ?_)
    refine rf_putI X fp_J2_48 (fun h => by cases h) hA6 dJ2_add_2_19 ?_
    exact rf_vret X rfl dJ2_add_2_22
  refine rf_icmp_ne X (tgt := 11) rfl dJ2_add_2_3 (fun c7 => rf_neg c7 ?_) (fun c7 => rf_pos c7 ?_)
  · exact rf_go (hj2 p2 A) (And.intro rfl (And.intro rfl (And.intro rfl (And.intro rfl True.intro))))
  refine rf_aload_n X rfl dJ2_add_2_6 ?_
  refine rf_bind (fun v8 hv8 => ?_)
  refine rf_bind (fun g9 hg9 => ?_)
  refine rf_callVI X c_J2_129 ⟨Nat.le_of_ble_eq_true rfl, Nat.le_of_ble_eq_true rfl⟩ [] rfl (Nat.le_of_ble_eq_true rfl) hv8 (sJ2_grow l D v8 A g9 hg9) dJ2_add_2_7 ?_
  refine rf_astore_n X (ls' := [some (tR (some a0)), some (tR p1), some (tR g9.1), some (tI p3)]) rfl (by decide) dJ2_add_2_10 ?_
  exact rf_go (hj2 g9.1 g9.2) (And.intro rfl (And.intro rfl (And.intro rfl (And.intro rfl True.intro))))

theorem dJ2_add_0 : decode cJ2_add 0 = .ok (.aload_n 0, 1) := by decide +kernel
theorem dJ2_add_1 : decode cJ2_add 1 = .ok (.dup, 1) := by decide +kernel
theorem dJ2_add_2 : decode cJ2_add 2 = .ok (.getfield 63, 3) := by decide +kernel
theorem dJ2_add_5 : decode cJ2_add 5 = .ok (.iconst 1, 1) := by decide +kernel
theorem dJ2_add_6 : decode cJ2_add 6 = .ok (.iadd, 1) := by decide +kernel
theorem dJ2_add_7 : decode cJ2_add 7 = .ok (.putfield 63, 3) := by decide +kernel
theorem dJ2_add_10 : decode cJ2_add 10 = .ok (.aload_n 0, 1) := by decide +kernel
theorem dJ2_add_11 : decode cJ2_add 11 = .ok (.aload_n 1, 1) := by decide +kernel
theorem dJ2_add_12 : decode cJ2_add 12 = .ok (.aload_n 0, 1) := by decide +kernel
theorem dJ2_add_13 : decode cJ2_add 13 = .ok (.getfield 9, 3) := by decide +kernel
theorem dJ2_add_16 : decode cJ2_add 16 = .ok (.aload_n 0, 1) := by decide +kernel
theorem dJ2_add_17 : decode cJ2_add 17 = .ok (.getfield 48, 3) := by decide +kernel
theorem dJ2_add_20 : decode cJ2_add 20 = .ok (.invokevirtual 131, 3) := by decide +kernel
theorem dJ2_add_23 : decode cJ2_add 23 = .ok (.iconst 1, 1) := by decide +kernel
theorem dJ2_add_24 : decode cJ2_add 24 = .ok (.ireturn, 1) := by decide +kernel
def fJ2_add (a0 : Nat) (p1 : Option Nat) (A : AH) : Option (Int32 × AH) :=
(gI A (some a0) 0 0).bind fun v1 =>
(pI A (some a0) 0 0 (v1 + (1 : Int32))).bind fun A2 =>
(gR A2 (some a0) 0 1).bind fun v3 =>
(gI A2 (some a0) 0 2).bind fun v4 =>
(rcv A2 (some a0) 0).bind fun v5 =>
(fJ2_add_2 v5 p1 v3 v4 A2).bind fun g6 =>
some ((nb (1 : Int32)), g6)

set_option maxHeartbeats 4000000 in
set_option maxRecDepth 100000 in
theorem sJ2_add (l : Launch) (D : DE) (a0 : Nat) (p1 : Option Nat) (A : AH) (g : Int32 × AH) (hg : fJ2_add a0 p1 A = some g) : Sm l D yJ2_add cJ2_add 2 (some Jvm.ClassFile.FieldType.boolean) 6 170 [tR (some a0), tR p1] A (wI g).1 (wI g).2 := by
  refine Sm.of (ω := wI) (fJ2_add a0 p1 A) [some (tR (some a0)), some (tR p1)] (by decide) (Nat.le_of_ble_eq_true rfl) rfl hg ?_
  intro p e R s m args below meth c X hin
  have X : Cx D cJ2_add RJ2 2 6 170 (some Jvm.ClassFile.FieldType.boolean) p R s m args meth c := X
  unfold fJ2_add
  refine rf_aload_n X rfl dJ2_add_0 ?_
  refine rf_dup X rfl dJ2_add_1 ?_
  refine rf_bind (fun v1 hv1 => ?_)
  refine rf_getI X fl_J2_63 hv1 dJ2_add_2 ?_
  refine rf_iconst X (1 : Int32) rfl dJ2_add_5 ?_
  refine rf_iadd X dJ2_add_6 ?_
  refine rf_bind (fun A2 hA2 => ?_)
  refine rf_putI X fp_J2_63 (fun h => by cases h) hA2 dJ2_add_7 ?_
  refine rf_aload_n X rfl dJ2_add_10 ?_
  refine rf_aload_n X rfl dJ2_add_11 ?_
  refine rf_aload_n X rfl dJ2_add_12 ?_
  refine rf_bind (fun v3 hv3 => ?_)
  refine rf_getR X fl_J2_9 hv3 dJ2_add_13 ?_
  refine rf_aload_n X rfl dJ2_add_16 ?_
  refine rf_bind (fun v4 hv4 => ?_)
  refine rf_getI X fl_J2_48 hv4 dJ2_add_17 ?_
  refine rf_bind (fun v5 hv5 => ?_)
  refine rf_bind (fun g6 hg6 => ?_)
  refine rf_callVU X c_J2_131 ⟨Nat.le_of_ble_eq_true rfl, Nat.le_of_ble_eq_true rfl⟩ [tR p1, tR v3, tI v4] rfl (Nat.le_of_ble_eq_true rfl) hv5 (sJ2_add_2 l D v5 p1 v3 v4 A2 g6 hg6) dJ2_add_20 ?_
  refine rf_iconst X (1 : Int32) rfl dJ2_add_23 ?_
  exact rf_zret X rfl dJ2_add_24

theorem dJ2_size_0 : decode cJ2_size 0 = .ok (.aload_n 0, 1) := by decide +kernel
theorem dJ2_size_1 : decode cJ2_size 1 = .ok (.getfield 48, 3) := by decide +kernel
theorem dJ2_size_4 : decode cJ2_size 4 = .ok (.ireturn, 1) := by decide +kernel
def fJ2_size (a0 : Nat) (A : AH) : Option (Int32) :=
(gI A (some a0) 0 2).bind fun v1 =>
some v1

set_option maxHeartbeats 4000000 in
set_option maxRecDepth 100000 in
theorem sJ2_size (l : Launch) (D : DE) (a0 : Nat) (A : AH) (g : Int32) (hg : fJ2_size a0 A = some g) : Sm l D yJ2_size cJ2_size 1 (some Jvm.ClassFile.FieldType.int) 0 0 [tR (some a0)] A (qI A g).1 (qI A g).2 := by
  refine Sm.of (ω := qI A) (fJ2_size a0 A) [some (tR (some a0))] (by decide) (Nat.le_of_ble_eq_true rfl) rfl hg ?_
  intro p e R s m args below meth c X hin
  have X : Cx D cJ2_size RJ2 1 0 0 (some Jvm.ClassFile.FieldType.int) p R s m args meth c := X
  unfold fJ2_size
  refine rf_aload_n X rfl dJ2_size_0 ?_
  refine rf_bind (fun v1 hv1 => ?_)
  refine rf_getI X fl_J2_48 hv1 dJ2_size_1 ?_
  exact rf_iret X rfl dJ2_size_4

theorem dJ14_checkIndex_0 : decode cJ14_checkIndex 0 = .ok (.iload_n 0, 1) := by decide +kernel
theorem dJ14_checkIndex_1 : decode cJ14_checkIndex 1 = .ok (.ifCond .lt 8, 3) := by decide +kernel
theorem dJ14_checkIndex_4 : decode cJ14_checkIndex 4 = .ok (.iload_n 0, 1) := by decide +kernel
theorem dJ14_checkIndex_5 : decode cJ14_checkIndex 5 = .ok (.iload_n 1, 1) := by decide +kernel
theorem dJ14_checkIndex_6 : decode cJ14_checkIndex 6 = .ok (.if_icmp .lt 10, 3) := by decide +kernel
theorem dJ14_checkIndex_16 : decode cJ14_checkIndex 16 = .ok (.iload_n 0, 1) := by decide +kernel
theorem dJ14_checkIndex_17 : decode cJ14_checkIndex 17 = .ok (.ireturn, 1) := by decide +kernel
def fJ14_checkIndex (p1 : Int32) (p2 : Int32) (p3 : Option Nat) (A : AH) : Option (Int32) :=
if ((p1 < 0) ∨ (¬ (p1 < p2))) then (none) else
some p1

set_option maxHeartbeats 4000000 in
set_option maxRecDepth 100000 in
theorem sJ14_checkIndex (l : Launch) (D : DE) (p1 : Int32) (p2 : Int32) (p3 : Option Nat) (A : AH) (g : Int32) (hg : fJ14_checkIndex p1 p2 p3 A = some g) : Sm l D yJ14_checkIndex cJ14_checkIndex 3 (some Jvm.ClassFile.FieldType.int) 0 0 [tI p1, tI p2, tR p3] A (qI A g).1 (qI A g).2 := by
  refine Sm.of (ω := qI A) (fJ14_checkIndex p1 p2 p3 A) [some (tI p1), some (tI p2), some (tR p3)] (by decide) (Nat.le_of_ble_eq_true rfl) rfl hg ?_
  intro p e R s m args below meth c X hin
  have X : Cx D cJ14_checkIndex RJ14 3 0 0 (some Jvm.ClassFile.FieldType.int) p R s m args meth c := X
  unfold fJ14_checkIndex
  refine rf_iload_n X rfl dJ14_checkIndex_0 ?_
  refine rf_br 9 16 [some (tI p1), some (tI p2), some (tR p3)] [some (tI p1), some (tI p2), some (tR p3)] [] [] (fun _ => ?_) (fun _ => ?_) (fun _ jT jF => ?_)
  · exact rf_none
  · refine rf_iload_n X rfl dJ14_checkIndex_16 ?_
    exact rf_iret X rfl dJ14_checkIndex_17
  refine rf_if_lt X (tgt := 9) rfl dJ14_checkIndex_1 (fun c1 => ?_) (fun c1 => ?_)
  · exact jT (Or.inl c1)
  refine rf_iload_n X rfl dJ14_checkIndex_4 ?_
  refine rf_iload_n X rfl dJ14_checkIndex_5 ?_
  refine rf_icmp_lt X (tgt := 16) rfl dJ14_checkIndex_6 (fun c2 => ?_) (fun c2 => ?_)
  · exact jF (fun z => z.elim c1 (fun z => z c2))
  exact jT (Or.inr c2)

theorem dJ18_checkIndex_0 : decode cJ18_checkIndex 0 = .ok (.iload_n 0, 1) := by decide +kernel
theorem dJ18_checkIndex_1 : decode cJ18_checkIndex 1 = .ok (.iload_n 1, 1) := by decide +kernel
theorem dJ18_checkIndex_2 : decode cJ18_checkIndex 2 = .ok (.aconst_null, 1) := by decide +kernel
theorem dJ18_checkIndex_3 : decode cJ18_checkIndex 3 = .ok (.invokestatic 105, 3) := by decide +kernel
theorem dJ18_checkIndex_6 : decode cJ18_checkIndex 6 = .ok (.ireturn, 1) := by decide +kernel
def fJ18_checkIndex (p1 : Int32) (p2 : Int32) (A : AH) : Option (Int32) :=
(fJ14_checkIndex p1 p2 (none : Option Nat) A).bind fun g1 =>
some g1

set_option maxHeartbeats 4000000 in
set_option maxRecDepth 100000 in
theorem sJ18_checkIndex (l : Launch) (D : DE) (p1 : Int32) (p2 : Int32) (A : AH) (g : Int32) (hg : fJ18_checkIndex p1 p2 A = some g) : Sm l D yJ18_checkIndex cJ18_checkIndex 2 (some Jvm.ClassFile.FieldType.int) 1 22 [tI p1, tI p2] A (qI A g).1 (qI A g).2 := by
  refine Sm.of (ω := qI A) (fJ18_checkIndex p1 p2 A) [some (tI p1), some (tI p2)] (by decide) (Nat.le_of_ble_eq_true rfl) rfl hg ?_
  intro p e R s m args below meth c X hin
  have X : Cx D cJ18_checkIndex RJ18 2 1 22 (some Jvm.ClassFile.FieldType.int) p R s m args meth c := X
  unfold fJ18_checkIndex
  refine rf_iload_n X rfl dJ18_checkIndex_0 ?_
  refine rf_iload_n X rfl dJ18_checkIndex_1 ?_
  refine rf_null X dJ18_checkIndex_2 ?_
  refine rf_bind (fun g1 hg1 => ?_)
  refine rf_callSI X c_J18_105 ⟨Nat.le_of_ble_eq_true rfl, Nat.le_of_ble_eq_true rfl⟩ [tI p1, tI p2, tR (none : Option Nat)] rfl (Nat.le_of_ble_eq_true rfl) (sJ14_checkIndex l D p1 p2 (none : Option Nat) A g1 hg1) dJ18_checkIndex_3 ?_
  exact rf_iret X rfl dJ18_checkIndex_6

theorem dJ2_elementData_0 : decode cJ2_elementData 0 = .ok (.aload_n 0, 1) := by decide +kernel
theorem dJ2_elementData_1 : decode cJ2_elementData 1 = .ok (.getfield 9, 3) := by decide +kernel
theorem dJ2_elementData_4 : decode cJ2_elementData 4 = .ok (.iload_n 1, 1) := by decide +kernel
theorem dJ2_elementData_5 : decode cJ2_elementData 5 = .ok (.aaload, 1) := by decide +kernel
theorem dJ2_elementData_6 : decode cJ2_elementData 6 = .ok (.areturn, 1) := by decide +kernel
def fJ2_elementData (a0 : Nat) (p1 : Int32) (A : AH) : Option (Option Nat) :=
(gR A (some a0) 0 1).bind fun v1 =>
(aR A v1 p1).bind fun v2 =>
some v2

set_option maxHeartbeats 4000000 in
set_option maxRecDepth 100000 in
theorem sJ2_elementData (l : Launch) (D : DE) (a0 : Nat) (p1 : Int32) (A : AH) (g : Option Nat) (hg : fJ2_elementData a0 p1 A = some g) : Sm l D yJ2_elementData cJ2_elementData 2 (some (Jvm.ClassFile.FieldType.object "java/lang/Object")) 0 0 [tR (some a0), tI p1] A (qO A g).1 (qO A g).2 := by
  refine Sm.of (ω := qO A) (fJ2_elementData a0 p1 A) [some (tR (some a0)), some (tI p1)] (by decide) (Nat.le_of_ble_eq_true rfl) rfl hg ?_
  intro p e R s m args below meth c X hin
  have X : Cx D cJ2_elementData RJ2 2 0 0 (some (Jvm.ClassFile.FieldType.object "java/lang/Object")) p R s m args meth c := X
  unfold fJ2_elementData
  refine rf_aload_n X rfl dJ2_elementData_0 ?_
  refine rf_bind (fun v1 hv1 => ?_)
  refine rf_getR X fl_J2_9 hv1 dJ2_elementData_1 ?_
  refine rf_iload_n X rfl dJ2_elementData_4 ?_
  refine rf_bind (fun v2 hv2 => ?_)
  refine rf_aald X hv2 dJ2_elementData_5 ?_
  exact rf_aret (Or.inl ⟨_, rfl⟩) X rfl dJ2_elementData_6

theorem dJ2_get_0 : decode cJ2_get 0 = .ok (.iload_n 1, 1) := by decide +kernel
theorem dJ2_get_1 : decode cJ2_get 1 = .ok (.aload_n 0, 1) := by decide +kernel
theorem dJ2_get_2 : decode cJ2_get 2 = .ok (.getfield 48, 3) := by decide +kernel
theorem dJ2_get_5 : decode cJ2_get 5 = .ok (.invokestatic 118, 3) := by decide +kernel
theorem dJ2_get_8 : decode cJ2_get 8 = .ok (.pop, 1) := by decide +kernel
theorem dJ2_get_9 : decode cJ2_get 9 = .ok (.aload_n 0, 1) := by decide +kernel
theorem dJ2_get_10 : decode cJ2_get 10 = .ok (.iload_n 1, 1) := by decide +kernel
theorem dJ2_get_11 : decode cJ2_get 11 = .ok (.invokevirtual 123, 3) := by decide +kernel
theorem dJ2_get_14 : decode cJ2_get 14 = .ok (.areturn, 1) := by decide +kernel
def fJ2_get (a0 : Nat) (p1 : Int32) (A : AH) : Option (Option Nat) :=
(gI A (some a0) 0 2).bind fun v1 =>
(fJ18_checkIndex p1 v1 A).bind fun g2 =>
(rcv A (some a0) 0).bind fun v3 =>
(fJ2_elementData v3 p1 A).bind fun g4 =>
some g4

set_option maxHeartbeats 4000000 in
set_option maxRecDepth 100000 in
theorem sJ2_get (l : Launch) (D : DE) (a0 : Nat) (p1 : Int32) (A : AH) (g : Option Nat) (hg : fJ2_get a0 p1 A = some g) : Sm l D yJ2_get cJ2_get 2 (some (Jvm.ClassFile.FieldType.object "java/lang/Object")) 2 43 [tR (some a0), tI p1] A (qO A g).1 (qO A g).2 := by
  refine Sm.of (ω := qO A) (fJ2_get a0 p1 A) [some (tR (some a0)), some (tI p1)] (by decide) (Nat.le_of_ble_eq_true rfl) rfl hg ?_
  intro p e R s m args below meth c X hin
  have X : Cx D cJ2_get RJ2 2 2 43 (some (Jvm.ClassFile.FieldType.object "java/lang/Object")) p R s m args meth c := X
  unfold fJ2_get
  refine rf_iload_n X rfl dJ2_get_0 ?_
  refine rf_aload_n X rfl dJ2_get_1 ?_
  refine rf_bind (fun v1 hv1 => ?_)
  refine rf_getI X fl_J2_48 hv1 dJ2_get_2 ?_
  refine rf_bind (fun g2 hg2 => ?_)
  refine rf_callSI X c_J2_118 ⟨Nat.le_of_ble_eq_true rfl, Nat.le_of_ble_eq_true rfl⟩ [tI p1, tI v1] rfl (Nat.le_of_ble_eq_true rfl) (sJ18_checkIndex l D p1 v1 A g2 hg2) dJ2_get_5 ?_
  refine rf_pop X rfl dJ2_get_8 ?_
  refine rf_aload_n X rfl dJ2_get_9 ?_
  refine rf_iload_n X rfl dJ2_get_10 ?_
  refine rf_bind (fun v3 hv3 => ?_)
  refine rf_bind (fun g4 hg4 => ?_)
  refine rf_callVI X c_J2_123 ⟨Nat.le_of_ble_eq_true rfl, Nat.le_of_ble_eq_true rfl⟩ [tI p1] rfl (Nat.le_of_ble_eq_true rfl) hv3 (sJ2_elementData l D v3 p1 A g4 hg4) dJ2_get_11 ?_
  exact rf_aret (Or.inl ⟨_, rfl⟩) X rfl dJ2_get_14

theorem dJ2_clear_0 : decode cJ2_clear 0 = .ok (.aload_n 0, 1) := by decide +kernel
theorem dJ2_clear_1 : decode cJ2_clear 1 = .ok (.dup, 1) := by decide +kernel
theorem dJ2_clear_2 : decode cJ2_clear 2 = .ok (.getfield 63, 3) := by decide +kernel
theorem dJ2_clear_5 : decode cJ2_clear 5 = .ok (.iconst 1, 1) := by decide +kernel
theorem dJ2_clear_6 : decode cJ2_clear 6 = .ok (.iadd, 1) := by decide +kernel
theorem dJ2_clear_7 : decode cJ2_clear 7 = .ok (.putfield 63, 3) := by decide +kernel
theorem dJ2_clear_10 : decode cJ2_clear 10 = .ok (.aload_n 0, 1) := by decide +kernel
theorem dJ2_clear_11 : decode cJ2_clear 11 = .ok (.getfield 9, 3) := by decide +kernel
theorem dJ2_clear_14 : decode cJ2_clear 14 = .ok (.astore_n 1, 1) := by decide +kernel
theorem dJ2_clear_15 : decode cJ2_clear 15 = .ok (.aload_n 0, 1) := by decide +kernel
theorem dJ2_clear_16 : decode cJ2_clear 16 = .ok (.getfield 48, 3) := by decide +kernel
theorem dJ2_clear_19 : decode cJ2_clear 19 = .ok (.istore_n 2, 1) := by decide +kernel
theorem dJ2_clear_20 : decode cJ2_clear 20 = .ok (.aload_n 0, 1) := by decide +kernel
theorem dJ2_clear_21 : decode cJ2_clear 21 = .ok (.iconst 0, 1) := by decide +kernel
theorem dJ2_clear_22 : decode cJ2_clear 22 = .ok (.dup_x1, 1) := by decide +kernel
theorem dJ2_clear_23 : decode cJ2_clear 23 = .ok (.putfield 48, 3) := by decide +kernel
theorem dJ2_clear_26 : decode cJ2_clear 26 = .ok (.istore_n 3, 1) := by decide +kernel
theorem dJ2_clear_27 : decode cJ2_clear 27 = .ok (.iload_n 3, 1) := by decide +kernel
theorem dJ2_clear_28 : decode cJ2_clear 28 = .ok (.iload_n 2, 1) := by decide +kernel
theorem dJ2_clear_29 : decode cJ2_clear 29 = .ok (.if_icmp .ge 13, 3) := by decide +kernel
theorem dJ2_clear_32 : decode cJ2_clear 32 = .ok (.aload_n 1, 1) := by decide +kernel
theorem dJ2_clear_33 : decode cJ2_clear 33 = .ok (.iload_n 3, 1) := by decide +kernel
theorem dJ2_clear_34 : decode cJ2_clear 34 = .ok (.aconst_null, 1) := by decide +kernel
theorem dJ2_clear_35 : decode cJ2_clear 35 = .ok (.aastore, 1) := by decide +kernel
theorem dJ2_clear_36 : decode cJ2_clear 36 = .ok (.iinc 3 1, 3) := by decide +kernel
theorem dJ2_clear_39 : decode cJ2_clear 39 = .ok (.goto (-12), 3) := by decide +kernel
theorem dJ2_clear_42 : decode cJ2_clear 42 = .ok (.return_, 1) := by decide +kernel
def fJ2_clear (n : Nat) (a0 : Nat) (A : AH) : Option (AH) :=
(gI A (some a0) 0 0).bind fun v1 =>
(pI A (some a0) 0 0 (v1 + (1 : Int32))).bind fun A2 =>
(gR A2 (some a0) 0 1).bind fun v3 =>
(gI A2 (some a0) 0 2).bind fun v4 =>
(pI A2 (some a0) 0 2 (0 : Int32)).bind fun A5 =>
jl (fixG (fun _ _ => none) (fun (rc9 : (Int32) → (AH) → Option (AH)) (x7 : Int32) (A8 : AH) =>
if v4 ≤ x7 then (some A8) else
(sR A8 v3 x7 (none : Option Nat)).bind fun A11 =>
rc9 (x7 + (1 : Int32)) A11) n) fun j6 =>
j6 (0 : Int32) A5

set_option maxHeartbeats 4000000 in
set_option maxRecDepth 100000 in
theorem sJ2_clear (l : Launch) (D : DE) (n : Nat) (a0 : Nat) (A : AH) (g : AH) (hg : fJ2_clear n a0 A = some g) : Sm l D yJ2_clear cJ2_clear 4 none 0 0 [tR (some a0)] A (wU g).1 (wU g).2 := by
  refine Sm.of (ω := wU) (fJ2_clear n a0 A) [some (tR (some a0)), none, none, none] (by decide) (Nat.le_of_ble_eq_true rfl) rfl hg ?_
  intro p e R s m args below meth c X hin
  have X : Cx D cJ2_clear RJ2 4 0 0 none p R s m args meth c := X
  unfold fJ2_clear
  refine rf_aload_n X rfl dJ2_clear_0 ?_
  refine rf_dup X rfl dJ2_clear_1 ?_
  refine rf_bind (fun v1 hv1 => ?_)
  refine rf_getI X fl_J2_63 hv1 dJ2_clear_2 ?_
  refine rf_iconst X (1 : Int32) rfl dJ2_clear_5 ?_
  refine rf_iadd X dJ2_clear_6 ?_
  refine rf_bind (fun A2 hA2 => ?_)
  refine rf_putI X fp_J2_63 (fun h => by cases h) hA2 dJ2_clear_7 ?_
  refine rf_aload_n X rfl dJ2_clear_10 ?_
  refine rf_bind (fun v3 hv3 => ?_)
  refine rf_getR X fl_J2_9 hv3 dJ2_clear_11 ?_
  refine rf_astore_n X (ls' := [some (tR (some a0)), some (tR v3), none, none]) rfl (by decide) dJ2_clear_14 ?_
  refine rf_aload_n X rfl dJ2_clear_15 ?_
  refine rf_bind (fun v4 hv4 => ?_)
  refine rf_getI X fl_J2_48 hv4 dJ2_clear_16 ?_
  refine rf_istore_n X (ls' := [some (tR (some a0)), some (tR v3), some (tI v4), none]) rfl (by decide) dJ2_clear_19 ?_
  refine rf_aload_n X rfl dJ2_clear_20 ?_
  refine rf_iconst X (0 : Int32) rfl dJ2_clear_21 ?_
  refine rf_dup_x1 X rfl rfl dJ2_clear_22 ?_
  refine rf_bind (fun A5 hA5 => ?_)
  refine rf_putI X fp_J2_48 (fun h => by cases h) hA5 dJ2_clear_23 ?_
  refine rf_istore_n X (ls' := [some (tR (some a0)), some (tR v3), some (tI v4), some (tI (0 : Int32))]) rfl (by decide) dJ2_clear_26 ?_
  refine rf_fix (fun i => ∀ (x7 : Int32) (A8 : AH), RfX X l e below wU (i x7 A8) 27 [none, some (tR v3), some (tI v4), some (tI x7)] [] A8) (fun _ _ => rf_none) (fun rc9 hrc9 => ?_) (fun j6 hj6 => ?_)
  · intro x7 A8
    refine rf_iload_n X rfl dJ2_clear_27 ?_
    refine rf_iload_n X rfl dJ2_clear_28 ?_
    refine rf_icmp_ge X (tgt := 42) rfl dJ2_clear_29 (fun c10 => rf_pos c10 ?_) (fun c10 => rf_neg c10 ?_)
    · exact rf_vret X rfl dJ2_clear_42
    refine rf_aload_n X rfl dJ2_clear_32 ?_
    refine rf_iload_n X rfl dJ2_clear_33 ?_
    refine rf_null X dJ2_clear_34 ?_
    refine rf_bind (fun A11 hA11 => ?_)
    refine rf_aast X hA11 dJ2_clear_35 ?_
    refine rf_iinc X (x7 + (1 : Int32)) rfl rfl (ls' := [none, some (tR v3), some (tI v4), some (tI (x7 + (1 : Int32)))]) rfl (by decide) dJ2_clear_36 ?_
    refine rf_goto X (tgt := 27) rfl dJ2_clear_39 ?_
    exact rf_go (hrc9 (x7 + (1 : Int32)) A11) (And.intro rfl (And.intro rfl (And.intro rfl True.intro)))
  exact rf_go (hj6 (0 : Int32) A5) (And.intro rfl (And.intro rfl (And.intro rfl True.intro)))

theorem dJ2_set_0 : decode cJ2_set 0 = .ok (.iload_n 1, 1) := by decide +kernel
theorem dJ2_set_1 : decode cJ2_set 1 = .ok (.aload_n 0, 1) := by decide +kernel
theorem dJ2_set_2 : decode cJ2_set 2 = .ok (.getfield 48, 3) := by decide +kernel
theorem dJ2_set_5 : decode cJ2_set 5 = .ok (.invokestatic 118, 3) := by decide +kernel
theorem dJ2_set_8 : decode cJ2_set 8 = .ok (.pop, 1) := by decide +kernel
theorem dJ2_set_9 : decode cJ2_set 9 = .ok (.aload_n 0, 1) := by decide +kernel
theorem dJ2_set_10 : decode cJ2_set 10 = .ok (.iload_n 1, 1) := by decide +kernel
theorem dJ2_set_11 : decode cJ2_set 11 = .ok (.invokevirtual 123, 3) := by decide +kernel
theorem dJ2_set_14 : decode cJ2_set 14 = .ok (.astore_n 3, 1) := by decide +kernel
theorem dJ2_set_15 : decode cJ2_set 15 = .ok (.aload_n 0, 1) := by decide +kernel
theorem dJ2_set_16 : decode cJ2_set 16 = .ok (.getfield 9, 3) := by decide +kernel
theorem dJ2_set_19 : decode cJ2_set 19 = .ok (.iload_n 1, 1) := by decide +kernel
theorem dJ2_set_20 : decode cJ2_set 20 = .ok (.aload_n 2, 1) := by decide +kernel
theorem dJ2_set_21 : decode cJ2_set 21 = .ok (.aastore, 1) := by decide +kernel
theorem dJ2_set_22 : decode cJ2_set 22 = .ok (.aload_n 3, 1) := by decide +kernel
theorem dJ2_set_23 : decode cJ2_set 23 = .ok (.areturn, 1) := by decide +kernel
def fJ2_set (a0 : Nat) (p1 : Int32) (p2 : Option Nat) (A : AH) : Option (Option Nat × AH) :=
(gI A (some a0) 0 2).bind fun v1 =>
(fJ18_checkIndex p1 v1 A).bind fun g2 =>
(rcv A (some a0) 0).bind fun v3 =>
(fJ2_elementData v3 p1 A).bind fun g4 =>
(gR A (some a0) 0 1).bind fun v5 =>
(sR A v5 p1 p2).bind fun A6 =>
some (g4, A6)

set_option maxHeartbeats 4000000 in
set_option maxRecDepth 100000 in
theorem sJ2_set (l : Launch) (D : DE) (a0 : Nat) (p1 : Int32) (p2 : Option Nat) (A : AH) (g : Option Nat × AH) (hg : fJ2_set a0 p1 p2 A = some g) : Sm l D yJ2_set cJ2_set 4 (some (Jvm.ClassFile.FieldType.object "java/lang/Object")) 2 43 [tR (some a0), tI p1, tR p2] A (wO g).1 (wO g).2 := by
  refine Sm.of (ω := wO) (fJ2_set a0 p1 p2 A) [some (tR (some a0)), some (tI p1), some (tR p2), none] (by decide) (Nat.le_of_ble_eq_true rfl) rfl hg ?_
  intro p e R s m args below meth c X hin
  have X : Cx D cJ2_set RJ2 4 2 43 (some (Jvm.ClassFile.FieldType.object "java/lang/Object")) p R s m args meth c := X
  unfold fJ2_set
  refine rf_iload_n X rfl dJ2_set_0 ?_
  refine rf_aload_n X rfl dJ2_set_1 ?_
  refine rf_bind (fun v1 hv1 => ?_)
  refine rf_getI X fl_J2_48 hv1 dJ2_set_2 ?_
  refine rf_bind (fun g2 hg2 => ?_)
  refine rf_callSI X c_J2_118 ⟨Nat.le_of_ble_eq_true rfl, Nat.le_of_ble_eq_true rfl⟩ [tI p1, tI v1] rfl (Nat.le_of_ble_eq_true rfl) (sJ18_checkIndex l D p1 v1 A g2 hg2) dJ2_set_5 ?_
  refine rf_pop X rfl dJ2_set_8 ?_
  refine rf_aload_n X rfl dJ2_set_9 ?_
  refine rf_iload_n X rfl dJ2_set_10 ?_
  refine rf_bind (fun v3 hv3 => ?_)
  refine rf_bind (fun g4 hg4 => ?_)
  refine rf_callVI X c_J2_123 ⟨Nat.le_of_ble_eq_true rfl, Nat.le_of_ble_eq_true rfl⟩ [tI p1] rfl (Nat.le_of_ble_eq_true rfl) hv3 (sJ2_elementData l D v3 p1 A g4 hg4) dJ2_set_11 ?_
  refine rf_astore_n X (ls' := [some (tR (some a0)), some (tI p1), some (tR p2), some (tR g4)]) rfl (by decide) dJ2_set_14 ?_
  refine rf_aload_n X rfl dJ2_set_15 ?_
  refine rf_bind (fun v5 hv5 => ?_)
  refine rf_getR X fl_J2_9 hv5 dJ2_set_16 ?_
  refine rf_iload_n X rfl dJ2_set_19 ?_
  refine rf_aload_n X rfl dJ2_set_20 ?_
  refine rf_bind (fun A6 hA6 => ?_)
  refine rf_aast X hA6 dJ2_set_21 ?_
  refine rf_aload_n X rfl dJ2_set_22 ?_
  exact rf_aret (Or.inl ⟨_, rfl⟩) X rfl dJ2_set_23

theorem dJ2_isEmpty_0 : decode cJ2_isEmpty 0 = .ok (.aload_n 0, 1) := by decide +kernel
theorem dJ2_isEmpty_1 : decode cJ2_isEmpty 1 = .ok (.getfield 48, 3) := by decide +kernel
theorem dJ2_isEmpty_4 : decode cJ2_isEmpty 4 = .ok (.ifCond .ne 7, 3) := by decide +kernel
theorem dJ2_isEmpty_7 : decode cJ2_isEmpty 7 = .ok (.iconst 1, 1) := by decide +kernel
theorem dJ2_isEmpty_8 : decode cJ2_isEmpty 8 = .ok (.goto 4, 3) := by decide +kernel
theorem dJ2_isEmpty_11 : decode cJ2_isEmpty 11 = .ok (.iconst 0, 1) := by decide +kernel
theorem dJ2_isEmpty_12 : decode cJ2_isEmpty 12 = .ok (.ireturn, 1) := by decide +kernel
def fJ2_isEmpty (a0 : Nat) (A : AH) : Option (Int32) :=
(gI A (some a0) 0 2).bind fun v1 =>
jn (fun (y3 : Int32) =>
some (nb y3)) fun j2 =>
if v1 = 0 then (j2 (1 : Int32)) else
j2 (0 : Int32)

set_option maxHeartbeats 4000000 in
set_option maxRecDepth 100000 in
theorem sJ2_isEmpty (l : Launch) (D : DE) (a0 : Nat) (A : AH) (g : Int32) (hg : fJ2_isEmpty a0 A = some g) : Sm l D yJ2_isEmpty cJ2_isEmpty 1 (some Jvm.ClassFile.FieldType.boolean) 0 0 [tR (some a0)] A (qI A g).1 (qI A g).2 := by
  refine Sm.of (ω := qI A) (fJ2_isEmpty a0 A) [some (tR (some a0))] (by decide) (Nat.le_of_ble_eq_true rfl) rfl hg ?_
  intro p e R s m args below meth c X hin
  have X : Cx D cJ2_isEmpty RJ2 1 0 0 (some Jvm.ClassFile.FieldType.boolean) p R s m args meth c := X
  unfold fJ2_isEmpty
  refine rf_aload_n X rfl dJ2_isEmpty_0 ?_
  refine rf_bind (fun v1 hv1 => ?_)
  refine rf_getI X fl_J2_48 hv1 dJ2_isEmpty_1 ?_
  refine rf_jn2 (fun i => ∀ (y3 : Int32), RfX X l e below (qI A) (i y3) 12 [none] [tI y3] A) ?_ (fun j2 hj2 => ?_)
  · intro y3
    exact rf_zret X rfl dJ2_isEmpty_12
  refine rf_if_ne X (tgt := 11) rfl dJ2_isEmpty_4 (fun c4 => rf_neg c4 ?_) (fun c4 => rf_pos c4 ?_)
  · refine rf_iconst X (0 : Int32) rfl dJ2_isEmpty_11 ?_
    exact rf_go (hj2 (0 : Int32)) True.intro
  refine rf_iconst X (1 : Int32) rfl dJ2_isEmpty_7 ?_
  refine rf_goto X (tgt := 12) rfl dJ2_isEmpty_8 ?_
  exact rf_go (hj2 (1 : Int32)) True.intro

theorem dJ2_fastRemove_0 : decode cJ2_fastRemove 0 = .ok (.aload_n 0, 1) := by decide +kernel
theorem dJ2_fastRemove_1 : decode cJ2_fastRemove 1 = .ok (.dup, 1) := by decide +kernel
theorem dJ2_fastRemove_2 : decode cJ2_fastRemove 2 = .ok (.getfield 63, 3) := by decide +kernel
theorem dJ2_fastRemove_5 : decode cJ2_fastRemove 5 = .ok (.iconst 1, 1) := by decide +kernel
theorem dJ2_fastRemove_6 : decode cJ2_fastRemove 6 = .ok (.iadd, 1) := by decide +kernel
theorem dJ2_fastRemove_7 : decode cJ2_fastRemove 7 = .ok (.putfield 63, 3) := by decide +kernel
theorem dJ2_fastRemove_10 : decode cJ2_fastRemove 10 = .ok (.aload_n 0, 1) := by decide +kernel
theorem dJ2_fastRemove_11 : decode cJ2_fastRemove 11 = .ok (.getfield 48, 3) := by decide +kernel
theorem dJ2_fastRemove_14 : decode cJ2_fastRemove 14 = .ok (.iconst 1, 1) := by decide +kernel
theorem dJ2_fastRemove_15 : decode cJ2_fastRemove 15 = .ok (.isub, 1) := by decide +kernel
theorem dJ2_fastRemove_16 : decode cJ2_fastRemove 16 = .ok (.dup, 1) := by decide +kernel
theorem dJ2_fastRemove_17 : decode cJ2_fastRemove 17 = .ok (.istore_n 3, 1) := by decide +kernel
theorem dJ2_fastRemove_18 : decode cJ2_fastRemove 18 = .ok (.iload_n 2, 1) := by decide +kernel
theorem dJ2_fastRemove_19 : decode cJ2_fastRemove 19 = .ok (.if_icmp .le 15, 3) := by decide +kernel
theorem dJ2_fastRemove_22 : decode cJ2_fastRemove 22 = .ok (.aload_n 1, 1) := by decide +kernel
theorem dJ2_fastRemove_23 : decode cJ2_fastRemove 23 = .ok (.iload_n 2, 1) := by decide +kernel
theorem dJ2_fastRemove_24 : decode cJ2_fastRemove 24 = .ok (.iconst 1, 1) := by decide +kernel
theorem dJ2_fastRemove_25 : decode cJ2_fastRemove 25 = .ok (.iadd, 1) := by decide +kernel
theorem dJ2_fastRemove_26 : decode cJ2_fastRemove 26 = .ok (.aload_n 1, 1) := by decide +kernel
theorem dJ2_fastRemove_27 : decode cJ2_fastRemove 27 = .ok (.iload_n 2, 1) := by decide +kernel
theorem dJ2_fastRemove_28 : decode cJ2_fastRemove 28 = .ok (.iload_n 3, 1) := by decide +kernel
theorem dJ2_fastRemove_29 : decode cJ2_fastRemove 29 = .ok (.iload_n 2, 1) := by decide +kernel
theorem dJ2_fastRemove_30 : decode cJ2_fastRemove 30 = .ok (.isub, 1) := by decide +kernel
theorem dJ2_fastRemove_31 : decode cJ2_fastRemove 31 = .ok (.invokestatic 112, 3) := by decide +kernel
theorem dJ2_fastRemove_34 : decode cJ2_fastRemove 34 = .ok (.aload_n 1, 1) := by decide +kernel
theorem dJ2_fastRemove_35 : decode cJ2_fastRemove 35 = .ok (.aload_n 0, 1) := by decide +kernel
theorem dJ2_fastRemove_36 : decode cJ2_fastRemove 36 = .ok (.iload_n 3, 1) := by decide +kernel
theorem dJ2_fastRemove_37 : decode cJ2_fastRemove 37 = .ok (.dup_x1, 1) := by decide +kernel
theorem dJ2_fastRemove_38 : decode cJ2_fastRemove 38 = .ok (.putfield 48, 3) := by decide +kernel
theorem dJ2_fastRemove_41 : decode cJ2_fastRemove 41 = .ok (.aconst_null, 1) := by decide +kernel
theorem dJ2_fastRemove_42 : decode cJ2_fastRemove 42 = .ok (.aastore, 1) := by decide +kernel
theorem dJ2_fastRemove_43 : decode cJ2_fastRemove 43 = .ok (.return_, 1) := by decide +kernel
def fJ2_fastRemove (a0 : Nat) (p1 : Option Nat) (p2 : Int32) (A : AH) : Option (AH) :=
(gI A (some a0) 0 0).bind fun v1 =>
(pI A (some a0) 0 0 (v1 + (1 : Int32))).bind fun A2 =>
(gI A2 (some a0) 0 2).bind fun v3 =>
jn (fun (A5 : AH) =>
(pI A5 (some a0) 0 2 (v3 - (1 : Int32))).bind fun A6 =>
(sR A6 p1 (v3 - (1 : Int32)) (none : Option Nat)).bind fun A7 =>
some A7) fun j4 =>
if (v3 - (1 : Int32)) ≤ p2 then (j4 A2) else
(cpA A2 p1 (p2 + (1 : Int32)) p1 p2 ((v3 - (1 : Int32)) - p2)).bind fun A9 =>
j4 A9

set_option maxHeartbeats 4000000 in
set_option maxRecDepth 100000 in
theorem sJ2_fastRemove (l : Launch) (D : DE) (a0 : Nat) (p1 : Option Nat) (p2 : Int32) (A : AH) (g : AH) (hg : fJ2_fastRemove a0 p1 p2 A = some g) : Sm l D yJ2_fastRemove cJ2_fastRemove 4 none 1 60 [tR (some a0), tR p1, tI p2] A (wU g).1 (wU g).2 := by
  refine Sm.of (ω := wU) (fJ2_fastRemove a0 p1 p2 A) [some (tR (some a0)), some (tR p1), some (tI p2), none] (by decide) (Nat.le_of_ble_eq_true rfl) rfl hg ?_
  intro p e R s m args below meth c X hin
  have X : Cx D cJ2_fastRemove RJ2 4 1 60 none p R s m args meth c := X
  unfold fJ2_fastRemove
  refine rf_aload_n X rfl dJ2_fastRemove_0 ?_
  refine rf_dup X rfl dJ2_fastRemove_1 ?_
  refine rf_bind (fun v1 hv1 => ?_)
  refine rf_getI X fl_J2_63 hv1 dJ2_fastRemove_2 ?_
  refine rf_iconst X (1 : Int32) rfl dJ2_fastRemove_5 ?_
  refine rf_iadd X dJ2_fastRemove_6 ?_
  refine rf_bind (fun A2 hA2 => ?_)
  refine rf_putI X fp_J2_63 (fun h => by cases h) hA2 dJ2_fastRemove_7 ?_
  refine rf_aload_n X rfl dJ2_fastRemove_10 ?_
  refine rf_bind (fun v3 hv3 => ?_)
  refine rf_getI X fl_J2_48 hv3 dJ2_fastRemove_11 ?_
  refine rf_iconst X (1 : Int32) rfl dJ2_fastRemove_14 ?_
  refine rf_isub X dJ2_fastRemove_15 ?_
  refine rf_dup X rfl dJ2_fastRemove_16 ?_
  refine rf_istore_n X (ls' := [some (tR (some a0)), some (tR p1), some (tI p2), some (tI (v3 - (1 : Int32)))]) rfl (by decide) dJ2_fastRemove_17 ?_
  refine rf_iload_n X rfl dJ2_fastRemove_18 ?_
  refine rf_jn2 (fun i => ∀ (A5 : AH), RfX X l e below wU (i A5) 34 [some (tR (some a0)), some (tR p1), none, some (tI (v3 - (1 : Int32)))] [] A5) ?_ (fun j4 hj4 => ?_)
  · intro A5
    refine rf_aload_n X rfl dJ2_fastRemove_34 ?_
    refine rf_aload_n X rfl dJ2_fastRemove_35 ?_
    refine rf_iload_n X rfl dJ2_fastRemove_36 ?_
    refine rf_dup_x1 X rfl rfl dJ2_fastRemove_37 ?_
    refine rf_bind (fun A6 hA6 => ?_)
    refine rf_putI X fp_J2_48 (fun h => by cases h) hA6 dJ2_fastRemove_38 ?_
    refine rf_null X dJ2_fastRemove_41 ?_
    refine rf_bind (fun A7 hA7 => ?_)
    refine rf_aast X hA7 dJ2_fastRemove_42 ?_
    exact rf_vret X rfl dJ2_fastRemove_43
  refine rf_icmp_le X (tgt := 34) rfl dJ2_fastRemove_19 (fun c8 => rf_pos c8 ?_) (fun c8 => rf_neg c8 ?_)
  · exact rf_go (hj4 A2) (And.intro rfl (And.intro rfl (And.intro rfl True.intro)))
  refine rf_aload_n X rfl dJ2_fastRemove_22 ?_
  refine rf_iload_n X rfl dJ2_fastRemove_23 ?_
  refine rf_iconst X (1 : Int32) rfl dJ2_fastRemove_24 ?_
  refine rf_iadd X dJ2_fastRemove_25 ?_
  refine rf_aload_n X rfl dJ2_fastRemove_26 ?_
  refine rf_iload_n X rfl dJ2_fastRemove_27 ?_
  refine rf_iload_n X rfl dJ2_fastRemove_28 ?_
  refine rf_iload_n X rfl dJ2_fastRemove_29 ?_
  refine rf_isub X dJ2_fastRemove_30 ?_
  refine rf_bind (fun A9 hA9 => ?_)
  refine rf_acopy X q1083 ⟨by decide, by decide⟩ (Nat.le_of_ble_eq_true rfl) hA9 dJ2_fastRemove_31 ?_
  exact rf_go (hj4 A9) (And.intro rfl (And.intro rfl (And.intro rfl True.intro)))

theorem dJ2_remove_0 : decode cJ2_remove 0 = .ok (.iload_n 1, 1) := by decide +kernel
theorem dJ2_remove_1 : decode cJ2_remove 1 = .ok (.aload_n 0, 1) := by decide +kernel
theorem dJ2_remove_2 : decode cJ2_remove 2 = .ok (.getfield 48, 3) := by decide +kernel
theorem dJ2_remove_5 : decode cJ2_remove 5 = .ok (.invokestatic 118, 3) := by decide +kernel
theorem dJ2_remove_8 : decode cJ2_remove 8 = .ok (.pop, 1) := by decide +kernel
theorem dJ2_remove_9 : decode cJ2_remove 9 = .ok (.aload_n 0, 1) := by decide +kernel
theorem dJ2_remove_10 : decode cJ2_remove 10 = .ok (.getfield 9, 3) := by decide +kernel
theorem dJ2_remove_13 : decode cJ2_remove 13 = .ok (.astore_n 2, 1) := by decide +kernel
theorem dJ2_remove_14 : decode cJ2_remove 14 = .ok (.aload_n 2, 1) := by decide +kernel
theorem dJ2_remove_15 : decode cJ2_remove 15 = .ok (.iload_n 1, 1) := by decide +kernel
theorem dJ2_remove_16 : decode cJ2_remove 16 = .ok (.aaload, 1) := by decide +kernel
theorem dJ2_remove_17 : decode cJ2_remove 17 = .ok (.astore_n 3, 1) := by decide +kernel
theorem dJ2_remove_18 : decode cJ2_remove 18 = .ok (.aload_n 0, 1) := by decide +kernel
theorem dJ2_remove_19 : decode cJ2_remove 19 = .ok (.aload_n 2, 1) := by decide +kernel
theorem dJ2_remove_20 : decode cJ2_remove 20 = .ok (.iload_n 1, 1) := by decide +kernel
theorem dJ2_remove_21 : decode cJ2_remove 21 = .ok (.invokevirtual 144, 3) := by decide +kernel
theorem dJ2_remove_24 : decode cJ2_remove 24 = .ok (.aload_n 3, 1) := by decide +kernel
theorem dJ2_remove_25 : decode cJ2_remove 25 = .ok (.areturn, 1) := by decide +kernel
def fJ2_remove (a0 : Nat) (p1 : Int32) (A : AH) : Option (Option Nat × AH) :=
(gI A (some a0) 0 2).bind fun v1 =>
(fJ18_checkIndex p1 v1 A).bind fun g2 =>
(gR A (some a0) 0 1).bind fun v3 =>
(aR A v3 p1).bind fun v4 =>
(rcv A (some a0) 0).bind fun v5 =>
(fJ2_fastRemove v5 v3 p1 A).bind fun g6 =>
some (v4, g6)

set_option maxHeartbeats 4000000 in
set_option maxRecDepth 100000 in
theorem sJ2_remove (l : Launch) (D : DE) (a0 : Nat) (p1 : Int32) (A : AH) (g : Option Nat × AH) (hg : fJ2_remove a0 p1 A = some g) : Sm l D yJ2_remove cJ2_remove 4 (some (Jvm.ClassFile.FieldType.object "java/lang/Object")) 2 83 [tR (some a0), tI p1] A (wO g).1 (wO g).2 := by
  refine Sm.of (ω := wO) (fJ2_remove a0 p1 A) [some (tR (some a0)), some (tI p1), none, none] (by decide) (Nat.le_of_ble_eq_true rfl) rfl hg ?_
  intro p e R s m args below meth c X hin
  have X : Cx D cJ2_remove RJ2 4 2 83 (some (Jvm.ClassFile.FieldType.object "java/lang/Object")) p R s m args meth c := X
  unfold fJ2_remove
  refine rf_iload_n X rfl dJ2_remove_0 ?_
  refine rf_aload_n X rfl dJ2_remove_1 ?_
  refine rf_bind (fun v1 hv1 => ?_)
  refine rf_getI X fl_J2_48 hv1 dJ2_remove_2 ?_
  refine rf_bind (fun g2 hg2 => ?_)
  refine rf_callSI X c_J2_118 ⟨Nat.le_of_ble_eq_true rfl, Nat.le_of_ble_eq_true rfl⟩ [tI p1, tI v1] rfl (Nat.le_of_ble_eq_true rfl) (sJ18_checkIndex l D p1 v1 A g2 hg2) dJ2_remove_5 ?_
  refine rf_pop X rfl dJ2_remove_8 ?_
  refine rf_aload_n X rfl dJ2_remove_9 ?_
  refine rf_bind (fun v3 hv3 => ?_)
  refine rf_getR X fl_J2_9 hv3 dJ2_remove_10 ?_
  refine rf_astore_n X (ls' := [some (tR (some a0)), some (tI p1), some (tR v3), none]) rfl (by decide) dJ2_remove_13 ?_
  refine rf_aload_n X rfl dJ2_remove_14 ?_
  refine rf_iload_n X rfl dJ2_remove_15 ?_
  refine rf_bind (fun v4 hv4 => ?_)
  refine rf_aald X hv4 dJ2_remove_16 ?_
  refine rf_astore_n X (ls' := [some (tR (some a0)), some (tI p1), some (tR v3), some (tR v4)]) rfl (by decide) dJ2_remove_17 ?_
  refine rf_aload_n X rfl dJ2_remove_18 ?_
  refine rf_aload_n X rfl dJ2_remove_19 ?_
  refine rf_iload_n X rfl dJ2_remove_20 ?_
  refine rf_bind (fun v5 hv5 => ?_)
  refine rf_bind (fun g6 hg6 => ?_)
  refine rf_callVU X c_J2_144 ⟨Nat.le_of_ble_eq_true rfl, Nat.le_of_ble_eq_true rfl⟩ [tR v3, tI p1] rfl (Nat.le_of_ble_eq_true rfl) hv5 (sJ2_fastRemove l D v5 v3 p1 A g6 hg6) dJ2_remove_21 ?_
  refine rf_aload_n X rfl dJ2_remove_24 ?_
  exact rf_aret (Or.inl ⟨_, rfl⟩) X rfl dJ2_remove_25

