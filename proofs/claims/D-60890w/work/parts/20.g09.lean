/-! 20.g09: printed by gen/parts.py -/
set_option maxRecDepth 100000
theorem fl_X5_24 : FLr RX5 24 5 4 := ⟨RX5, TX5, 7, "WarpMill$Word", "", rfl, by decide, in_X5, Or.inl q608, Or.inl rfl⟩
theorem fl_X5_18 : FLr RX5 18 5 2 := ⟨RX5, TX5, 7, "WarpMill$Word", "", rfl, by decide, in_X5, Or.inl q602, Or.inl rfl⟩
theorem fl_X5_21 : FLr RX5 21 5 3 := ⟨RX5, TX5, 7, "WarpMill$Word", "", rfl, by decide, in_X5, Or.inl q605, Or.inl rfl⟩
theorem pl_yX6_isMemory : pln yX6_isMemory 0 := ⟨by decide +kernel, by decide +kernel, by decide +kernel⟩
theorem c_X5_68 : CV RX5 68 5 yX5_isGuarded cX5_isGuarded 1 (some Jvm.ClassFile.FieldType.boolean) 0 := ⟨TX5, 7, rfl, q1291, q1292, q1293, q103, q1294, ⟨by decide +kernel, by decide +kernel, by decide +kernel⟩⟩
theorem dX5_readsFirst_0 : decode cX5_readsFirst 0 = .ok (.aload_n 0, 1) := by decide +kernel
theorem dX5_readsFirst_1 : decode cX5_readsFirst 1 = .ok (.getfield 9, 3) := by decide +kernel
theorem dX5_readsFirst_4 : decode cX5_readsFirst 4 = .ok (.iconst 4, 1) := by decide +kernel
theorem dX5_readsFirst_5 : decode cX5_readsFirst 5 = .ok (.if_icmp .lt 12, 3) := by decide +kernel
theorem dX5_readsFirst_8 : decode cX5_readsFirst 8 = .ok (.aload_n 0, 1) := by decide +kernel
theorem dX5_readsFirst_9 : decode cX5_readsFirst 9 = .ok (.getfield 9, 3) := by decide +kernel
theorem dX5_readsFirst_12 : decode cX5_readsFirst 12 = .ok (.bipush 21, 2) := by decide +kernel
theorem dX5_readsFirst_14 : decode cX5_readsFirst 14 = .ok (.if_icmp .le 49, 3) := by decide +kernel
theorem dX5_readsFirst_17 : decode cX5_readsFirst 17 = .ok (.aload_n 0, 1) := by decide +kernel
theorem dX5_readsFirst_18 : decode cX5_readsFirst 18 = .ok (.getfield 9, 3) := by decide +kernel
theorem dX5_readsFirst_21 : decode cX5_readsFirst 21 = .ok (.bipush 30, 2) := by decide +kernel
theorem dX5_readsFirst_23 : decode cX5_readsFirst 23 = .ok (.if_icmp .lt 12, 3) := by decide +kernel
theorem dX5_readsFirst_26 : decode cX5_readsFirst 26 = .ok (.aload_n 0, 1) := by decide +kernel
theorem dX5_readsFirst_27 : decode cX5_readsFirst 27 = .ok (.getfield 9, 3) := by decide +kernel
theorem dX5_readsFirst_30 : decode cX5_readsFirst 30 = .ok (.bipush 33, 2) := by decide +kernel
theorem dX5_readsFirst_32 : decode cX5_readsFirst 32 = .ok (.if_icmp .le 31, 3) := by decide +kernel
theorem dX5_readsFirst_35 : decode cX5_readsFirst 35 = .ok (.aload_n 0, 1) := by decide +kernel
theorem dX5_readsFirst_36 : decode cX5_readsFirst 36 = .ok (.getfield 9, 3) := by decide +kernel
theorem dX5_readsFirst_39 : decode cX5_readsFirst 39 = .ok (.bipush 42, 2) := by decide +kernel
theorem dX5_readsFirst_41 : decode cX5_readsFirst 41 = .ok (.if_icmp .eq 22, 3) := by decide +kernel
theorem dX5_readsFirst_44 : decode cX5_readsFirst 44 = .ok (.aload_n 0, 1) := by decide +kernel
theorem dX5_readsFirst_45 : decode cX5_readsFirst 45 = .ok (.getfield 34, 3) := by decide +kernel
theorem dX5_readsFirst_48 : decode cX5_readsFirst 48 = .ok (.invokevirtual 64, 3) := by decide +kernel
theorem dX5_readsFirst_51 : decode cX5_readsFirst 51 = .ok (.ifCond .ne 12, 3) := by decide +kernel
theorem dX5_readsFirst_54 : decode cX5_readsFirst 54 = .ok (.aload_n 0, 1) := by decide +kernel
theorem dX5_readsFirst_55 : decode cX5_readsFirst 55 = .ok (.getfield 9, 3) := by decide +kernel
theorem dX5_readsFirst_58 : decode cX5_readsFirst 58 = .ok (.bipush 73, 2) := by decide +kernel
theorem dX5_readsFirst_60 : decode cX5_readsFirst 60 = .ok (.if_icmp .ne 7, 3) := by decide +kernel
theorem dX5_readsFirst_63 : decode cX5_readsFirst 63 = .ok (.iconst 1, 1) := by decide +kernel
theorem dX5_readsFirst_64 : decode cX5_readsFirst 64 = .ok (.goto 4, 3) := by decide +kernel
theorem dX5_readsFirst_67 : decode cX5_readsFirst 67 = .ok (.iconst 0, 1) := by decide +kernel
theorem dX5_readsFirst_68 : decode cX5_readsFirst 68 = .ok (.ireturn, 1) := by decide +kernel
def fX5_readsFirst (a0 : Nat) (A : AH) : Option (Int32) :=
(gI A (some a0) 5 0).bind fun v1 =>
jn (fun (y3 : Int32) =>
some (nb y3)) fun j2 =>
jn (j2 (1 : Int32)) fun j4 =>
if (((v1 < (4 : Int32)) ∨ (¬ (v1 ≤ (21 : Int32)))) ∧ (((v1 < (30 : Int32)) ∨ (¬ (v1 ≤ (33 : Int32)))) ∧ (¬ (v1 = (42 : Int32))))) then ((gR A (some a0) 5 6).bind fun v5 =>
(rcS A v5).bind fun v6 =>
(fX6_isMemory v6 A).bind fun g7 =>
if ((g7 = 0) ∧ (¬ (v1 = (73 : Int32)))) then (j2 (0 : Int32)) else
j4) else
j4

set_option maxHeartbeats 4000000 in
set_option maxRecDepth 100000 in
theorem sX5_readsFirst (l : Launch) (D : DE) (a0 : Nat) (A : AH) (g : Int32) (hg : fX5_readsFirst a0 A = some g) : Sm l D yX5_readsFirst cX5_readsFirst 1 (some Jvm.ClassFile.FieldType.boolean) 1 20 [tR (some a0)] A (qI A g).1 (qI A g).2 := by
  refine Sm.of (ω := qI A) (fX5_readsFirst a0 A) [some (tR (some a0))] (by decide) (Nat.le_of_ble_eq_true rfl) rfl hg ?_
  intro p e R s m args below meth c X hin
  have X : Cx D cX5_readsFirst RX5 1 1 20 (some Jvm.ClassFile.FieldType.boolean) p R s m args meth c := X
  unfold fX5_readsFirst
  refine rf_aload_n X rfl dX5_readsFirst_0 ?_
  refine rf_bind (fun v1 hv1 => ?_)
  refine rf_getI X fl_X5_9 hv1 dX5_readsFirst_1 ?_
  refine rf_iconst X (4 : Int32) rfl dX5_readsFirst_4 ?_
  refine rf_jn2 (fun i => ∀ (y3 : Int32), RfX X l e below (qI A) (i y3) 68 [none] [tI y3] A) ?_ (fun j2 hj2 => ?_)
  · intro y3
    exact rf_zret X rfl dX5_readsFirst_68
  refine rf_jn2 (fun i => RfX X l e below (qI A) i 63 [none] [] A) ?_ (fun j4 hj4 => ?_)
  · show RfX X l e below _ _ _ _ _ _
    refine rf_iconst X (1 : Int32) rfl dX5_readsFirst_63 ?_
    refine rf_goto X (tgt := 68) rfl dX5_readsFirst_64 ?_
    exact rf_go (hj2 (1 : Int32)) True.intro
  refine rf_br 44 63 [some (tR (some a0))] [some (tR (some a0))] [] [] (fun _ => ?_) (fun _ => ?_) (fun _ jT jF => ?_)
  · refine rf_aload_n X rfl dX5_readsFirst_44 ?_
    refine rf_bind (fun v5 hv5 => ?_)
    refine rf_getR X fl_X5_34 hv5 dX5_readsFirst_45 ?_
    refine rf_bind (fun v6 hv6 => ?_)
    refine rf_bind (fun g7 hg7 => ?_)
    refine rf_callSort X rfl q1265 q1266 q1267 q105 q1268 pl_yX6_isMemory ⟨Nat.le_of_ble_eq_true rfl, Nat.le_of_ble_eq_true rfl⟩ (Nat.le_of_ble_eq_true rfl) hv6 (sX6_isMemory l D v6 A g7 hg7) dX5_readsFirst_48 ?_
    refine rf_br 67 63 [some (tR (some a0))] [some (tR (some a0))] [] [] (fun _ => ?_) (fun _ => ?_) (fun _ jT jF => ?_)
    · refine rf_iconst X (0 : Int32) rfl dX5_readsFirst_67 ?_
      exact rf_go (hj2 (0 : Int32)) True.intro
    · exact rf_go hj4 True.intro
    refine rf_if_ne X (tgt := 63) rfl dX5_readsFirst_51 (fun c8 => ?_) (fun c8 => ?_)
    · exact jF (fun z => c8 z.1)
    refine rf_aload_n X rfl dX5_readsFirst_54 ?_
    refine rf_getI X fl_X5_9 hv1 dX5_readsFirst_55 ?_
    refine rf_bipush X (73 : Int32) rfl dX5_readsFirst_58 ?_
    refine rf_icmp_ne X (tgt := 67) rfl dX5_readsFirst_60 (fun c9 => ?_) (fun c9 => ?_)
    · exact jT ⟨c8, c9⟩
    exact jF (fun z => (fun z => z c9) z.2)
  · exact rf_go hj4 True.intro
  refine rf_icmp_lt X (tgt := 17) rfl dX5_readsFirst_5 (fun c10 => ?_) (fun c10 => ?_)
  · refine rf_aload_n X rfl dX5_readsFirst_17 ?_
    refine rf_getI X fl_X5_9 hv1 dX5_readsFirst_18 ?_
    refine rf_bipush X (30 : Int32) rfl dX5_readsFirst_21 ?_
    refine rf_icmp_lt X (tgt := 35) rfl dX5_readsFirst_23 (fun c11 => ?_) (fun c11 => ?_)
    · refine rf_aload_n X rfl dX5_readsFirst_35 ?_
      refine rf_getI X fl_X5_9 hv1 dX5_readsFirst_36 ?_
      refine rf_bipush X (42 : Int32) rfl dX5_readsFirst_39 ?_
      refine rf_icmp_eq X (tgt := 63) rfl dX5_readsFirst_41 (fun c12 => ?_) (fun c12 => ?_)
      · exact jF (fun z => (fun z => (fun z => z c12) z.2) z.2)
      exact jT ⟨(Or.inl c10), ⟨(Or.inl c11), c12⟩⟩
    refine rf_aload_n X rfl dX5_readsFirst_26 ?_
    refine rf_getI X fl_X5_9 hv1 dX5_readsFirst_27 ?_
    refine rf_bipush X (33 : Int32) rfl dX5_readsFirst_30 ?_
    refine rf_icmp_le X (tgt := 63) rfl dX5_readsFirst_32 (fun c13 => ?_) (fun c13 => ?_)
    · exact jF (fun z => (fun z => (fun z => z.elim c11 (fun z => z c13)) z.1) z.2)
    refine rf_aload_n X rfl dX5_readsFirst_35 ?_
    refine rf_getI X fl_X5_9 hv1 dX5_readsFirst_36 ?_
    refine rf_bipush X (42 : Int32) rfl dX5_readsFirst_39 ?_
    refine rf_icmp_eq X (tgt := 63) rfl dX5_readsFirst_41 (fun c14 => ?_) (fun c14 => ?_)
    · exact jF (fun z => (fun z => (fun z => z c14) z.2) z.2)
    exact jT ⟨(Or.inl c10), ⟨(Or.inr c13), c14⟩⟩
  refine rf_aload_n X rfl dX5_readsFirst_8 ?_
  refine rf_getI X fl_X5_9 hv1 dX5_readsFirst_9 ?_
  refine rf_bipush X (21 : Int32) rfl dX5_readsFirst_12 ?_
  refine rf_icmp_le X (tgt := 63) rfl dX5_readsFirst_14 (fun c15 => ?_) (fun c15 => ?_)
  · exact jF (fun z => (fun z => z.elim c10 (fun z => z c15)) z.1)
  refine rf_aload_n X rfl dX5_readsFirst_17 ?_
  refine rf_getI X fl_X5_9 hv1 dX5_readsFirst_18 ?_
  refine rf_bipush X (30 : Int32) rfl dX5_readsFirst_21 ?_
  refine rf_icmp_lt X (tgt := 35) rfl dX5_readsFirst_23 (fun c16 => ?_) (fun c16 => ?_)
  · refine rf_aload_n X rfl dX5_readsFirst_35 ?_
    refine rf_getI X fl_X5_9 hv1 dX5_readsFirst_36 ?_
    refine rf_bipush X (42 : Int32) rfl dX5_readsFirst_39 ?_
    refine rf_icmp_eq X (tgt := 63) rfl dX5_readsFirst_41 (fun c17 => ?_) (fun c17 => ?_)
    · exact jF (fun z => (fun z => (fun z => z c17) z.2) z.2)
    exact jT ⟨(Or.inr c15), ⟨(Or.inl c16), c17⟩⟩
  refine rf_aload_n X rfl dX5_readsFirst_26 ?_
  refine rf_getI X fl_X5_9 hv1 dX5_readsFirst_27 ?_
  refine rf_bipush X (33 : Int32) rfl dX5_readsFirst_30 ?_
  refine rf_icmp_le X (tgt := 63) rfl dX5_readsFirst_32 (fun c18 => ?_) (fun c18 => ?_)
  · exact jF (fun z => (fun z => (fun z => z.elim c16 (fun z => z c18)) z.1) z.2)
  refine rf_aload_n X rfl dX5_readsFirst_35 ?_
  refine rf_getI X fl_X5_9 hv1 dX5_readsFirst_36 ?_
  refine rf_bipush X (42 : Int32) rfl dX5_readsFirst_39 ?_
  refine rf_icmp_eq X (tgt := 63) rfl dX5_readsFirst_41 (fun c19 => ?_) (fun c19 => ?_)
  · exact jF (fun z => (fun z => (fun z => z c19) z.2) z.2)
  exact jT ⟨(Or.inr c15), ⟨(Or.inr c18), c19⟩⟩

theorem dX5_readsSecond_0 : decode cX5_readsSecond 0 = .ok (.aload_n 0, 1) := by decide +kernel
theorem dX5_readsSecond_1 : decode cX5_readsSecond 1 = .ok (.getfield 9, 3) := by decide +kernel
theorem dX5_readsSecond_4 : decode cX5_readsSecond 4 = .ok (.iconst 4, 1) := by decide +kernel
theorem dX5_readsSecond_5 : decode cX5_readsSecond 5 = .ok (.if_icmp .lt 12, 3) := by decide +kernel
theorem dX5_readsSecond_8 : decode cX5_readsSecond 8 = .ok (.aload_n 0, 1) := by decide +kernel
theorem dX5_readsSecond_9 : decode cX5_readsSecond 9 = .ok (.getfield 9, 3) := by decide +kernel
theorem dX5_readsSecond_12 : decode cX5_readsSecond 12 = .ok (.bipush 17, 2) := by decide +kernel
theorem dX5_readsSecond_14 : decode cX5_readsSecond 14 = .ok (.if_icmp .le 57, 3) := by decide +kernel
theorem dX5_readsSecond_17 : decode cX5_readsSecond 17 = .ok (.aload_n 0, 1) := by decide +kernel
theorem dX5_readsSecond_18 : decode cX5_readsSecond 18 = .ok (.getfield 9, 3) := by decide +kernel
theorem dX5_readsSecond_21 : decode cX5_readsSecond 21 = .ok (.bipush 21, 2) := by decide +kernel
theorem dX5_readsSecond_23 : decode cX5_readsSecond 23 = .ok (.if_icmp .eq 48, 3) := by decide +kernel
theorem dX5_readsSecond_26 : decode cX5_readsSecond 26 = .ok (.aload_n 0, 1) := by decide +kernel
theorem dX5_readsSecond_27 : decode cX5_readsSecond 27 = .ok (.getfield 9, 3) := by decide +kernel
theorem dX5_readsSecond_30 : decode cX5_readsSecond 30 = .ok (.bipush 30, 2) := by decide +kernel
theorem dX5_readsSecond_32 : decode cX5_readsSecond 32 = .ok (.if_icmp .eq 39, 3) := by decide +kernel
theorem dX5_readsSecond_35 : decode cX5_readsSecond 35 = .ok (.aload_n 0, 1) := by decide +kernel
theorem dX5_readsSecond_36 : decode cX5_readsSecond 36 = .ok (.getfield 9, 3) := by decide +kernel
theorem dX5_readsSecond_39 : decode cX5_readsSecond 39 = .ok (.bipush 31, 2) := by decide +kernel
theorem dX5_readsSecond_41 : decode cX5_readsSecond 41 = .ok (.if_icmp .eq 30, 3) := by decide +kernel
theorem dX5_readsSecond_44 : decode cX5_readsSecond 44 = .ok (.aload_n 0, 1) := by decide +kernel
theorem dX5_readsSecond_45 : decode cX5_readsSecond 45 = .ok (.getfield 9, 3) := by decide +kernel
theorem dX5_readsSecond_48 : decode cX5_readsSecond 48 = .ok (.bipush 51, 2) := by decide +kernel
theorem dX5_readsSecond_50 : decode cX5_readsSecond 50 = .ok (.if_icmp .eq 21, 3) := by decide +kernel
theorem dX5_readsSecond_53 : decode cX5_readsSecond 53 = .ok (.aload_n 0, 1) := by decide +kernel
theorem dX5_readsSecond_54 : decode cX5_readsSecond 54 = .ok (.getfield 9, 3) := by decide +kernel
theorem dX5_readsSecond_57 : decode cX5_readsSecond 57 = .ok (.bipush 53, 2) := by decide +kernel
theorem dX5_readsSecond_59 : decode cX5_readsSecond 59 = .ok (.if_icmp .lt 16, 3) := by decide +kernel
theorem dX5_readsSecond_62 : decode cX5_readsSecond 62 = .ok (.aload_n 0, 1) := by decide +kernel
theorem dX5_readsSecond_63 : decode cX5_readsSecond 63 = .ok (.getfield 9, 3) := by decide +kernel
theorem dX5_readsSecond_66 : decode cX5_readsSecond 66 = .ok (.bipush 59, 2) := by decide +kernel
theorem dX5_readsSecond_68 : decode cX5_readsSecond 68 = .ok (.if_icmp .gt 7, 3) := by decide +kernel
theorem dX5_readsSecond_71 : decode cX5_readsSecond 71 = .ok (.iconst 1, 1) := by decide +kernel
theorem dX5_readsSecond_72 : decode cX5_readsSecond 72 = .ok (.goto 4, 3) := by decide +kernel
theorem dX5_readsSecond_75 : decode cX5_readsSecond 75 = .ok (.iconst 0, 1) := by decide +kernel
theorem dX5_readsSecond_76 : decode cX5_readsSecond 76 = .ok (.ireturn, 1) := by decide +kernel
def fX5_readsSecond (a0 : Nat) (A : AH) : Option (Int32) :=
(gI A (some a0) 5 0).bind fun v1 =>
jn (fun (y3 : Int32) =>
some (nb y3)) fun j2 =>
if (((((((v1 < (4 : Int32)) ∨ (¬ (v1 ≤ (17 : Int32)))) ∧ (¬ (v1 = (21 : Int32)))) ∧ (¬ (v1 = (30 : Int32)))) ∧ (¬ (v1 = (31 : Int32)))) ∧ (¬ (v1 = (51 : Int32)))) ∧ ((v1 < (53 : Int32)) ∨ ((59 : Int32) < v1))) then (j2 (0 : Int32)) else
j2 (1 : Int32)

set_option maxHeartbeats 4000000 in
set_option maxRecDepth 100000 in
theorem sX5_readsSecond (l : Launch) (D : DE) (a0 : Nat) (A : AH) (g : Int32) (hg : fX5_readsSecond a0 A = some g) : Sm l D yX5_readsSecond cX5_readsSecond 1 (some Jvm.ClassFile.FieldType.boolean) 0 0 [tR (some a0)] A (qI A g).1 (qI A g).2 := by
  refine Sm.of (ω := qI A) (fX5_readsSecond a0 A) [some (tR (some a0))] (by decide) (Nat.le_of_ble_eq_true rfl) rfl hg ?_
  intro p e R s m args below meth c X hin
  have X : Cx D cX5_readsSecond RX5 1 0 0 (some Jvm.ClassFile.FieldType.boolean) p R s m args meth c := X
  unfold fX5_readsSecond
  refine rf_aload_n X rfl dX5_readsSecond_0 ?_
  refine rf_bind (fun v1 hv1 => ?_)
  refine rf_getI X fl_X5_9 hv1 dX5_readsSecond_1 ?_
  refine rf_iconst X (4 : Int32) rfl dX5_readsSecond_4 ?_
  refine rf_jn2 (fun i => ∀ (y3 : Int32), RfX X l e below (qI A) (i y3) 76 [none] [tI y3] A) ?_ (fun j2 hj2 => ?_)
  · intro y3
    exact rf_zret X rfl dX5_readsSecond_76
  refine rf_br 75 71 [some (tR (some a0))] [some (tR (some a0))] [] [] (fun _ => ?_) (fun _ => ?_) (fun _ jT jF => ?_)
  · refine rf_iconst X (0 : Int32) rfl dX5_readsSecond_75 ?_
    exact rf_go (hj2 (0 : Int32)) True.intro
  · refine rf_iconst X (1 : Int32) rfl dX5_readsSecond_71 ?_
    refine rf_goto X (tgt := 76) rfl dX5_readsSecond_72 ?_
    exact rf_go (hj2 (1 : Int32)) True.intro
  refine rf_icmp_lt X (tgt := 17) rfl dX5_readsSecond_5 (fun c4 => ?_) (fun c4 => ?_)
  · refine rf_aload_n X rfl dX5_readsSecond_17 ?_
    refine rf_getI X fl_X5_9 hv1 dX5_readsSecond_18 ?_
    refine rf_bipush X (21 : Int32) rfl dX5_readsSecond_21 ?_
    refine rf_icmp_eq X (tgt := 71) rfl dX5_readsSecond_23 (fun c5 => ?_) (fun c5 => ?_)
    · exact jF (fun z => (fun z => (fun z => (fun z => (fun z => (fun z => z c5) z.2) z.1) z.1) z.1) z.1)
    refine rf_aload_n X rfl dX5_readsSecond_26 ?_
    refine rf_getI X fl_X5_9 hv1 dX5_readsSecond_27 ?_
    refine rf_bipush X (30 : Int32) rfl dX5_readsSecond_30 ?_
    refine rf_icmp_eq X (tgt := 71) rfl dX5_readsSecond_32 (fun c6 => ?_) (fun c6 => ?_)
    · exact jF (fun z => (fun z => (fun z => (fun z => (fun z => z c6) z.2) z.1) z.1) z.1)
    refine rf_aload_n X rfl dX5_readsSecond_35 ?_
    refine rf_getI X fl_X5_9 hv1 dX5_readsSecond_36 ?_
    refine rf_bipush X (31 : Int32) rfl dX5_readsSecond_39 ?_
    refine rf_icmp_eq X (tgt := 71) rfl dX5_readsSecond_41 (fun c7 => ?_) (fun c7 => ?_)
    · exact jF (fun z => (fun z => (fun z => (fun z => z c7) z.2) z.1) z.1)
    refine rf_aload_n X rfl dX5_readsSecond_44 ?_
    refine rf_getI X fl_X5_9 hv1 dX5_readsSecond_45 ?_
    refine rf_bipush X (51 : Int32) rfl dX5_readsSecond_48 ?_
    refine rf_icmp_eq X (tgt := 71) rfl dX5_readsSecond_50 (fun c8 => ?_) (fun c8 => ?_)
    · exact jF (fun z => (fun z => (fun z => z c8) z.2) z.1)
    refine rf_aload_n X rfl dX5_readsSecond_53 ?_
    refine rf_getI X fl_X5_9 hv1 dX5_readsSecond_54 ?_
    refine rf_bipush X (53 : Int32) rfl dX5_readsSecond_57 ?_
    refine rf_icmp_lt X (tgt := 75) rfl dX5_readsSecond_59 (fun c9 => ?_) (fun c9 => ?_)
    · exact jT ⟨⟨⟨⟨⟨(Or.inl c4), c5⟩, c6⟩, c7⟩, c8⟩, (Or.inl c9)⟩
    refine rf_aload_n X rfl dX5_readsSecond_62 ?_
    refine rf_getI X fl_X5_9 hv1 dX5_readsSecond_63 ?_
    refine rf_bipush X (59 : Int32) rfl dX5_readsSecond_66 ?_
    refine rf_icmp_gt X (tgt := 75) rfl dX5_readsSecond_68 (fun c10 => ?_) (fun c10 => ?_)
    · exact jT ⟨⟨⟨⟨⟨(Or.inl c4), c5⟩, c6⟩, c7⟩, c8⟩, (Or.inr c10)⟩
    exact jF (fun z => (fun z => z.elim c9 c10) z.2)
  refine rf_aload_n X rfl dX5_readsSecond_8 ?_
  refine rf_getI X fl_X5_9 hv1 dX5_readsSecond_9 ?_
  refine rf_bipush X (17 : Int32) rfl dX5_readsSecond_12 ?_
  refine rf_icmp_le X (tgt := 71) rfl dX5_readsSecond_14 (fun c11 => ?_) (fun c11 => ?_)
  · exact jF (fun z => (fun z => (fun z => (fun z => (fun z => (fun z => z.elim c4 (fun z => z c11)) z.1) z.1) z.1) z.1) z.1)
  refine rf_aload_n X rfl dX5_readsSecond_17 ?_
  refine rf_getI X fl_X5_9 hv1 dX5_readsSecond_18 ?_
  refine rf_bipush X (21 : Int32) rfl dX5_readsSecond_21 ?_
  refine rf_icmp_eq X (tgt := 71) rfl dX5_readsSecond_23 (fun c12 => ?_) (fun c12 => ?_)
  · exact jF (fun z => (fun z => (fun z => (fun z => (fun z => (fun z => z c12) z.2) z.1) z.1) z.1) z.1)
  refine rf_aload_n X rfl dX5_readsSecond_26 ?_
  refine rf_getI X fl_X5_9 hv1 dX5_readsSecond_27 ?_
  refine rf_bipush X (30 : Int32) rfl dX5_readsSecond_30 ?_
  refine rf_icmp_eq X (tgt := 71) rfl dX5_readsSecond_32 (fun c13 => ?_) (fun c13 => ?_)
  · exact jF (fun z => (fun z => (fun z => (fun z => (fun z => z c13) z.2) z.1) z.1) z.1)
  refine rf_aload_n X rfl dX5_readsSecond_35 ?_
  refine rf_getI X fl_X5_9 hv1 dX5_readsSecond_36 ?_
  refine rf_bipush X (31 : Int32) rfl dX5_readsSecond_39 ?_
  refine rf_icmp_eq X (tgt := 71) rfl dX5_readsSecond_41 (fun c14 => ?_) (fun c14 => ?_)
  · exact jF (fun z => (fun z => (fun z => (fun z => z c14) z.2) z.1) z.1)
  refine rf_aload_n X rfl dX5_readsSecond_44 ?_
  refine rf_getI X fl_X5_9 hv1 dX5_readsSecond_45 ?_
  refine rf_bipush X (51 : Int32) rfl dX5_readsSecond_48 ?_
  refine rf_icmp_eq X (tgt := 71) rfl dX5_readsSecond_50 (fun c15 => ?_) (fun c15 => ?_)
  · exact jF (fun z => (fun z => (fun z => z c15) z.2) z.1)
  refine rf_aload_n X rfl dX5_readsSecond_53 ?_
  refine rf_getI X fl_X5_9 hv1 dX5_readsSecond_54 ?_
  refine rf_bipush X (53 : Int32) rfl dX5_readsSecond_57 ?_
  refine rf_icmp_lt X (tgt := 75) rfl dX5_readsSecond_59 (fun c16 => ?_) (fun c16 => ?_)
  · exact jT ⟨⟨⟨⟨⟨(Or.inr c11), c12⟩, c13⟩, c14⟩, c15⟩, (Or.inl c16)⟩
  refine rf_aload_n X rfl dX5_readsSecond_62 ?_
  refine rf_getI X fl_X5_9 hv1 dX5_readsSecond_63 ?_
  refine rf_bipush X (59 : Int32) rfl dX5_readsSecond_66 ?_
  refine rf_icmp_gt X (tgt := 75) rfl dX5_readsSecond_68 (fun c17 => ?_) (fun c17 => ?_)
  · exact jT ⟨⟨⟨⟨⟨(Or.inr c11), c12⟩, c13⟩, c14⟩, c15⟩, (Or.inr c17)⟩
  exact jF (fun z => (fun z => z.elim c16 c17) z.2)

theorem dX5_writes_0 : decode cX5_writes 0 = .ok (.aload_n 0, 1) := by decide +kernel
theorem dX5_writes_1 : decode cX5_writes 1 = .ok (.getfield 9, 3) := by decide +kernel
theorem dX5_writes_4 : decode cX5_writes 4 = .ok (.iconst 2, 1) := by decide +kernel
theorem dX5_writes_5 : decode cX5_writes 5 = .ok (.if_icmp .lt 12, 3) := by decide +kernel
theorem dX5_writes_8 : decode cX5_writes 8 = .ok (.aload_n 0, 1) := by decide +kernel
theorem dX5_writes_9 : decode cX5_writes 9 = .ok (.getfield 9, 3) := by decide +kernel
theorem dX5_writes_12 : decode cX5_writes 12 = .ok (.bipush 21, 2) := by decide +kernel
theorem dX5_writes_14 : decode cX5_writes 14 = .ok (.if_icmp .le 66, 3) := by decide +kernel
theorem dX5_writes_17 : decode cX5_writes 17 = .ok (.aload_n 0, 1) := by decide +kernel
theorem dX5_writes_18 : decode cX5_writes 18 = .ok (.getfield 9, 3) := by decide +kernel
theorem dX5_writes_21 : decode cX5_writes 21 = .ok (.bipush 41, 2) := by decide +kernel
theorem dX5_writes_23 : decode cX5_writes 23 = .ok (.if_icmp .eq 57, 3) := by decide +kernel
theorem dX5_writes_26 : decode cX5_writes 26 = .ok (.aload_n 0, 1) := by decide +kernel
theorem dX5_writes_27 : decode cX5_writes 27 = .ok (.getfield 9, 3) := by decide +kernel
theorem dX5_writes_30 : decode cX5_writes 30 = .ok (.bipush 50, 2) := by decide +kernel
theorem dX5_writes_32 : decode cX5_writes 32 = .ok (.if_icmp .eq 48, 3) := by decide +kernel
theorem dX5_writes_35 : decode cX5_writes 35 = .ok (.aload_n 0, 1) := by decide +kernel
theorem dX5_writes_36 : decode cX5_writes 36 = .ok (.getfield 9, 3) := by decide +kernel
theorem dX5_writes_39 : decode cX5_writes 39 = .ok (.bipush 52, 2) := by decide +kernel
theorem dX5_writes_41 : decode cX5_writes 41 = .ok (.if_icmp .eq 39, 3) := by decide +kernel
theorem dX5_writes_44 : decode cX5_writes 44 = .ok (.aload_n 0, 1) := by decide +kernel
theorem dX5_writes_45 : decode cX5_writes 45 = .ok (.getfield 9, 3) := by decide +kernel
theorem dX5_writes_48 : decode cX5_writes 48 = .ok (.bipush 54, 2) := by decide +kernel
theorem dX5_writes_50 : decode cX5_writes 50 = .ok (.if_icmp .lt 12, 3) := by decide +kernel
theorem dX5_writes_53 : decode cX5_writes 53 = .ok (.aload_n 0, 1) := by decide +kernel
theorem dX5_writes_54 : decode cX5_writes 54 = .ok (.getfield 9, 3) := by decide +kernel
theorem dX5_writes_57 : decode cX5_writes 57 = .ok (.bipush 59, 2) := by decide +kernel
theorem dX5_writes_59 : decode cX5_writes 59 = .ok (.if_icmp .le 21, 3) := by decide +kernel
theorem dX5_writes_62 : decode cX5_writes 62 = .ok (.aload_n 0, 1) := by decide +kernel
theorem dX5_writes_63 : decode cX5_writes 63 = .ok (.getfield 9, 3) := by decide +kernel
theorem dX5_writes_66 : decode cX5_writes 66 = .ok (.bipush 72, 2) := by decide +kernel
theorem dX5_writes_68 : decode cX5_writes 68 = .ok (.if_icmp .eq 12, 3) := by decide +kernel
theorem dX5_writes_71 : decode cX5_writes 71 = .ok (.aload_n 0, 1) := by decide +kernel
theorem dX5_writes_72 : decode cX5_writes 72 = .ok (.getfield 9, 3) := by decide +kernel
theorem dX5_writes_75 : decode cX5_writes 75 = .ok (.bipush 73, 2) := by decide +kernel
theorem dX5_writes_77 : decode cX5_writes 77 = .ok (.if_icmp .ne 7, 3) := by decide +kernel
theorem dX5_writes_80 : decode cX5_writes 80 = .ok (.iconst 1, 1) := by decide +kernel
theorem dX5_writes_81 : decode cX5_writes 81 = .ok (.goto 4, 3) := by decide +kernel
theorem dX5_writes_84 : decode cX5_writes 84 = .ok (.iconst 0, 1) := by decide +kernel
theorem dX5_writes_85 : decode cX5_writes 85 = .ok (.ireturn, 1) := by decide +kernel
def fX5_writes (a0 : Nat) (A : AH) : Option (Int32) :=
(gI A (some a0) 5 0).bind fun v1 =>
jn (fun (y3 : Int32) =>
some (nb y3)) fun j2 =>
if ((((((v1 < (2 : Int32)) ∨ (¬ (v1 ≤ (21 : Int32)))) ∧ (¬ (v1 = (41 : Int32)))) ∧ (¬ (v1 = (50 : Int32)))) ∧ (¬ (v1 = (52 : Int32)))) ∧ ((((v1 < (54 : Int32)) ∨ (¬ (v1 ≤ (59 : Int32)))) ∧ (¬ (v1 = (72 : Int32)))) ∧ (¬ (v1 = (73 : Int32))))) then (j2 (0 : Int32)) else
j2 (1 : Int32)

set_option maxHeartbeats 4000000 in
set_option maxRecDepth 100000 in
theorem sX5_writes (l : Launch) (D : DE) (a0 : Nat) (A : AH) (g : Int32) (hg : fX5_writes a0 A = some g) : Sm l D yX5_writes cX5_writes 1 (some Jvm.ClassFile.FieldType.boolean) 0 0 [tR (some a0)] A (qI A g).1 (qI A g).2 := by
  refine Sm.of (ω := qI A) (fX5_writes a0 A) [some (tR (some a0))] (by decide) (Nat.le_of_ble_eq_true rfl) rfl hg ?_
  intro p e R s m args below meth c X hin
  have X : Cx D cX5_writes RX5 1 0 0 (some Jvm.ClassFile.FieldType.boolean) p R s m args meth c := X
  unfold fX5_writes
  refine rf_aload_n X rfl dX5_writes_0 ?_
  refine rf_bind (fun v1 hv1 => ?_)
  refine rf_getI X fl_X5_9 hv1 dX5_writes_1 ?_
  refine rf_iconst X (2 : Int32) rfl dX5_writes_4 ?_
  refine rf_jn2 (fun i => ∀ (y3 : Int32), RfX X l e below (qI A) (i y3) 85 [none] [tI y3] A) ?_ (fun j2 hj2 => ?_)
  · intro y3
    exact rf_zret X rfl dX5_writes_85
  refine rf_br 84 80 [some (tR (some a0))] [some (tR (some a0))] [] [] (fun _ => ?_) (fun _ => ?_) (fun _ jT jF => ?_)
  · refine rf_iconst X (0 : Int32) rfl dX5_writes_84 ?_
    exact rf_go (hj2 (0 : Int32)) True.intro
  · refine rf_iconst X (1 : Int32) rfl dX5_writes_80 ?_
    refine rf_goto X (tgt := 85) rfl dX5_writes_81 ?_
    exact rf_go (hj2 (1 : Int32)) True.intro
  refine rf_icmp_lt X (tgt := 17) rfl dX5_writes_5 (fun c4 => ?_) (fun c4 => ?_)
  · refine rf_aload_n X rfl dX5_writes_17 ?_
    refine rf_getI X fl_X5_9 hv1 dX5_writes_18 ?_
    refine rf_bipush X (41 : Int32) rfl dX5_writes_21 ?_
    refine rf_icmp_eq X (tgt := 80) rfl dX5_writes_23 (fun c5 => ?_) (fun c5 => ?_)
    · exact jF (fun z => (fun z => (fun z => (fun z => (fun z => z c5) z.2) z.1) z.1) z.1)
    refine rf_aload_n X rfl dX5_writes_26 ?_
    refine rf_getI X fl_X5_9 hv1 dX5_writes_27 ?_
    refine rf_bipush X (50 : Int32) rfl dX5_writes_30 ?_
    refine rf_icmp_eq X (tgt := 80) rfl dX5_writes_32 (fun c6 => ?_) (fun c6 => ?_)
    · exact jF (fun z => (fun z => (fun z => (fun z => z c6) z.2) z.1) z.1)
    refine rf_aload_n X rfl dX5_writes_35 ?_
    refine rf_getI X fl_X5_9 hv1 dX5_writes_36 ?_
    refine rf_bipush X (52 : Int32) rfl dX5_writes_39 ?_
    refine rf_icmp_eq X (tgt := 80) rfl dX5_writes_41 (fun c7 => ?_) (fun c7 => ?_)
    · exact jF (fun z => (fun z => (fun z => z c7) z.2) z.1)
    refine rf_aload_n X rfl dX5_writes_44 ?_
    refine rf_getI X fl_X5_9 hv1 dX5_writes_45 ?_
    refine rf_bipush X (54 : Int32) rfl dX5_writes_48 ?_
    refine rf_icmp_lt X (tgt := 62) rfl dX5_writes_50 (fun c8 => ?_) (fun c8 => ?_)
    · refine rf_aload_n X rfl dX5_writes_62 ?_
      refine rf_getI X fl_X5_9 hv1 dX5_writes_63 ?_
      refine rf_bipush X (72 : Int32) rfl dX5_writes_66 ?_
      refine rf_icmp_eq X (tgt := 80) rfl dX5_writes_68 (fun c9 => ?_) (fun c9 => ?_)
      · exact jF (fun z => (fun z => (fun z => (fun z => z c9) z.2) z.1) z.2)
      refine rf_aload_n X rfl dX5_writes_71 ?_
      refine rf_getI X fl_X5_9 hv1 dX5_writes_72 ?_
      refine rf_bipush X (73 : Int32) rfl dX5_writes_75 ?_
      refine rf_icmp_ne X (tgt := 84) rfl dX5_writes_77 (fun c10 => ?_) (fun c10 => ?_)
      · exact jT ⟨⟨⟨⟨(Or.inl c4), c5⟩, c6⟩, c7⟩, ⟨⟨(Or.inl c8), c9⟩, c10⟩⟩
      exact jF (fun z => (fun z => (fun z => z c10) z.2) z.2)
    refine rf_aload_n X rfl dX5_writes_53 ?_
    refine rf_getI X fl_X5_9 hv1 dX5_writes_54 ?_
    refine rf_bipush X (59 : Int32) rfl dX5_writes_57 ?_
    refine rf_icmp_le X (tgt := 80) rfl dX5_writes_59 (fun c11 => ?_) (fun c11 => ?_)
    · exact jF (fun z => (fun z => (fun z => (fun z => z.elim c8 (fun z => z c11)) z.1) z.1) z.2)
    refine rf_aload_n X rfl dX5_writes_62 ?_
    refine rf_getI X fl_X5_9 hv1 dX5_writes_63 ?_
    refine rf_bipush X (72 : Int32) rfl dX5_writes_66 ?_
    refine rf_icmp_eq X (tgt := 80) rfl dX5_writes_68 (fun c12 => ?_) (fun c12 => ?_)
    · exact jF (fun z => (fun z => (fun z => (fun z => z c12) z.2) z.1) z.2)
    refine rf_aload_n X rfl dX5_writes_71 ?_
    refine rf_getI X fl_X5_9 hv1 dX5_writes_72 ?_
    refine rf_bipush X (73 : Int32) rfl dX5_writes_75 ?_
    refine rf_icmp_ne X (tgt := 84) rfl dX5_writes_77 (fun c13 => ?_) (fun c13 => ?_)
    · exact jT ⟨⟨⟨⟨(Or.inl c4), c5⟩, c6⟩, c7⟩, ⟨⟨(Or.inr c11), c12⟩, c13⟩⟩
    exact jF (fun z => (fun z => (fun z => z c13) z.2) z.2)
  refine rf_aload_n X rfl dX5_writes_8 ?_
  refine rf_getI X fl_X5_9 hv1 dX5_writes_9 ?_
  refine rf_bipush X (21 : Int32) rfl dX5_writes_12 ?_
  refine rf_icmp_le X (tgt := 80) rfl dX5_writes_14 (fun c14 => ?_) (fun c14 => ?_)
  · exact jF (fun z => (fun z => (fun z => (fun z => (fun z => z.elim c4 (fun z => z c14)) z.1) z.1) z.1) z.1)
  refine rf_aload_n X rfl dX5_writes_17 ?_
  refine rf_getI X fl_X5_9 hv1 dX5_writes_18 ?_
  refine rf_bipush X (41 : Int32) rfl dX5_writes_21 ?_
  refine rf_icmp_eq X (tgt := 80) rfl dX5_writes_23 (fun c15 => ?_) (fun c15 => ?_)
  · exact jF (fun z => (fun z => (fun z => (fun z => (fun z => z c15) z.2) z.1) z.1) z.1)
  refine rf_aload_n X rfl dX5_writes_26 ?_
  refine rf_getI X fl_X5_9 hv1 dX5_writes_27 ?_
  refine rf_bipush X (50 : Int32) rfl dX5_writes_30 ?_
  refine rf_icmp_eq X (tgt := 80) rfl dX5_writes_32 (fun c16 => ?_) (fun c16 => ?_)
  · exact jF (fun z => (fun z => (fun z => (fun z => z c16) z.2) z.1) z.1)
  refine rf_aload_n X rfl dX5_writes_35 ?_
  refine rf_getI X fl_X5_9 hv1 dX5_writes_36 ?_
  refine rf_bipush X (52 : Int32) rfl dX5_writes_39 ?_
  refine rf_icmp_eq X (tgt := 80) rfl dX5_writes_41 (fun c17 => ?_) (fun c17 => ?_)
  · exact jF (fun z => (fun z => (fun z => z c17) z.2) z.1)
  refine rf_aload_n X rfl dX5_writes_44 ?_
  refine rf_getI X fl_X5_9 hv1 dX5_writes_45 ?_
  refine rf_bipush X (54 : Int32) rfl dX5_writes_48 ?_
  refine rf_icmp_lt X (tgt := 62) rfl dX5_writes_50 (fun c18 => ?_) (fun c18 => ?_)
  · refine rf_aload_n X rfl dX5_writes_62 ?_
    refine rf_getI X fl_X5_9 hv1 dX5_writes_63 ?_
    refine rf_bipush X (72 : Int32) rfl dX5_writes_66 ?_
    refine rf_icmp_eq X (tgt := 80) rfl dX5_writes_68 (fun c19 => ?_) (fun c19 => ?_)
    · exact jF (fun z => (fun z => (fun z => (fun z => z c19) z.2) z.1) z.2)
    refine rf_aload_n X rfl dX5_writes_71 ?_
    refine rf_getI X fl_X5_9 hv1 dX5_writes_72 ?_
    refine rf_bipush X (73 : Int32) rfl dX5_writes_75 ?_
    refine rf_icmp_ne X (tgt := 84) rfl dX5_writes_77 (fun c20 => ?_) (fun c20 => ?_)
    · exact jT ⟨⟨⟨⟨(Or.inr c14), c15⟩, c16⟩, c17⟩, ⟨⟨(Or.inl c18), c19⟩, c20⟩⟩
    exact jF (fun z => (fun z => (fun z => z c20) z.2) z.2)
  refine rf_aload_n X rfl dX5_writes_53 ?_
  refine rf_getI X fl_X5_9 hv1 dX5_writes_54 ?_
  refine rf_bipush X (59 : Int32) rfl dX5_writes_57 ?_
  refine rf_icmp_le X (tgt := 80) rfl dX5_writes_59 (fun c21 => ?_) (fun c21 => ?_)
  · exact jF (fun z => (fun z => (fun z => (fun z => z.elim c18 (fun z => z c21)) z.1) z.1) z.2)
  refine rf_aload_n X rfl dX5_writes_62 ?_
  refine rf_getI X fl_X5_9 hv1 dX5_writes_63 ?_
  refine rf_bipush X (72 : Int32) rfl dX5_writes_66 ?_
  refine rf_icmp_eq X (tgt := 80) rfl dX5_writes_68 (fun c22 => ?_) (fun c22 => ?_)
  · exact jF (fun z => (fun z => (fun z => (fun z => z c22) z.2) z.1) z.2)
  refine rf_aload_n X rfl dX5_writes_71 ?_
  refine rf_getI X fl_X5_9 hv1 dX5_writes_72 ?_
  refine rf_bipush X (73 : Int32) rfl dX5_writes_75 ?_
  refine rf_icmp_ne X (tgt := 84) rfl dX5_writes_77 (fun c23 => ?_) (fun c23 => ?_)
  · exact jT ⟨⟨⟨⟨(Or.inr c14), c15⟩, c16⟩, c17⟩, ⟨⟨(Or.inr c21), c22⟩, c23⟩⟩
  exact jF (fun z => (fun z => (fun z => z c23) z.2) z.2)

theorem dX5_readsOwn_0 : decode cX5_readsOwn 0 = .ok (.aload_n 0, 1) := by decide +kernel
theorem dX5_readsOwn_1 : decode cX5_readsOwn 1 = .ok (.getfield 9, 3) := by decide +kernel
theorem dX5_readsOwn_4 : decode cX5_readsOwn 4 = .ok (.bipush 57, 2) := by decide +kernel
theorem dX5_readsOwn_6 : decode cX5_readsOwn 6 = .ok (.if_icmp .ne 7, 3) := by decide +kernel
theorem dX5_readsOwn_9 : decode cX5_readsOwn 9 = .ok (.iconst 1, 1) := by decide +kernel
theorem dX5_readsOwn_10 : decode cX5_readsOwn 10 = .ok (.goto 4, 3) := by decide +kernel
theorem dX5_readsOwn_13 : decode cX5_readsOwn 13 = .ok (.iconst 0, 1) := by decide +kernel
theorem dX5_readsOwn_14 : decode cX5_readsOwn 14 = .ok (.ireturn, 1) := by decide +kernel
def fX5_readsOwn (a0 : Nat) (A : AH) : Option (Int32) :=
(gI A (some a0) 5 0).bind fun v1 =>
jn (fun (y3 : Int32) =>
some (nb y3)) fun j2 =>
if v1 = (57 : Int32) then (j2 (1 : Int32)) else
j2 (0 : Int32)

set_option maxHeartbeats 4000000 in
set_option maxRecDepth 100000 in
theorem sX5_readsOwn (l : Launch) (D : DE) (a0 : Nat) (A : AH) (g : Int32) (hg : fX5_readsOwn a0 A = some g) : Sm l D yX5_readsOwn cX5_readsOwn 1 (some Jvm.ClassFile.FieldType.boolean) 0 0 [tR (some a0)] A (qI A g).1 (qI A g).2 := by
  refine Sm.of (ω := qI A) (fX5_readsOwn a0 A) [some (tR (some a0))] (by decide) (Nat.le_of_ble_eq_true rfl) rfl hg ?_
  intro p e R s m args below meth c X hin
  have X : Cx D cX5_readsOwn RX5 1 0 0 (some Jvm.ClassFile.FieldType.boolean) p R s m args meth c := X
  unfold fX5_readsOwn
  refine rf_aload_n X rfl dX5_readsOwn_0 ?_
  refine rf_bind (fun v1 hv1 => ?_)
  refine rf_getI X fl_X5_9 hv1 dX5_readsOwn_1 ?_
  refine rf_bipush X (57 : Int32) rfl dX5_readsOwn_4 ?_
  refine rf_jn2 (fun i => ∀ (y3 : Int32), RfX X l e below (qI A) (i y3) 14 [none] [tI y3] A) ?_ (fun j2 hj2 => ?_)
  · intro y3
    exact rf_zret X rfl dX5_readsOwn_14
  refine rf_icmp_ne X (tgt := 13) rfl dX5_readsOwn_6 (fun c4 => rf_neg c4 ?_) (fun c4 => rf_pos c4 ?_)
  · refine rf_iconst X (0 : Int32) rfl dX5_readsOwn_13 ?_
    exact rf_go (hj2 (0 : Int32)) True.intro
  refine rf_iconst X (1 : Int32) rfl dX5_readsOwn_9 ?_
  refine rf_goto X (tgt := 14) rfl dX5_readsOwn_10 ?_
  exact rf_go (hj2 (1 : Int32)) True.intro

theorem dX5_decides_0 : decode cX5_decides 0 = .ok (.aload_n 0, 1) := by decide +kernel
theorem dX5_decides_1 : decode cX5_decides 1 = .ok (.getfield 9, 3) := by decide +kernel
theorem dX5_decides_4 : decode cX5_decides 4 = .ok (.bipush 30, 2) := by decide +kernel
theorem dX5_decides_6 : decode cX5_decides 6 = .ok (.if_icmp .lt 12, 3) := by decide +kernel
theorem dX5_decides_9 : decode cX5_decides 9 = .ok (.aload_n 0, 1) := by decide +kernel
theorem dX5_decides_10 : decode cX5_decides 10 = .ok (.getfield 9, 3) := by decide +kernel
theorem dX5_decides_13 : decode cX5_decides 13 = .ok (.bipush 36, 2) := by decide +kernel
theorem dX5_decides_15 : decode cX5_decides 15 = .ok (.if_icmp .le 21, 3) := by decide +kernel
theorem dX5_decides_18 : decode cX5_decides 18 = .ok (.aload_n 0, 1) := by decide +kernel
theorem dX5_decides_19 : decode cX5_decides 19 = .ok (.getfield 9, 3) := by decide +kernel
theorem dX5_decides_22 : decode cX5_decides 22 = .ok (.bipush 70, 2) := by decide +kernel
theorem dX5_decides_24 : decode cX5_decides 24 = .ok (.if_icmp .eq 12, 3) := by decide +kernel
theorem dX5_decides_27 : decode cX5_decides 27 = .ok (.aload_n 0, 1) := by decide +kernel
theorem dX5_decides_28 : decode cX5_decides 28 = .ok (.getfield 9, 3) := by decide +kernel
theorem dX5_decides_31 : decode cX5_decides 31 = .ok (.bipush 71, 2) := by decide +kernel
theorem dX5_decides_33 : decode cX5_decides 33 = .ok (.if_icmp .ne 7, 3) := by decide +kernel
theorem dX5_decides_36 : decode cX5_decides 36 = .ok (.iconst 1, 1) := by decide +kernel
theorem dX5_decides_37 : decode cX5_decides 37 = .ok (.goto 4, 3) := by decide +kernel
theorem dX5_decides_40 : decode cX5_decides 40 = .ok (.iconst 0, 1) := by decide +kernel
theorem dX5_decides_41 : decode cX5_decides 41 = .ok (.ireturn, 1) := by decide +kernel
def fX5_decides (a0 : Nat) (A : AH) : Option (Int32) :=
(gI A (some a0) 5 0).bind fun v1 =>
jn (fun (y3 : Int32) =>
some (nb y3)) fun j2 =>
if ((((v1 < (30 : Int32)) ∨ (¬ (v1 ≤ (36 : Int32)))) ∧ (¬ (v1 = (70 : Int32)))) ∧ (¬ (v1 = (71 : Int32)))) then (j2 (0 : Int32)) else
j2 (1 : Int32)

set_option maxHeartbeats 4000000 in
set_option maxRecDepth 100000 in
theorem sX5_decides (l : Launch) (D : DE) (a0 : Nat) (A : AH) (g : Int32) (hg : fX5_decides a0 A = some g) : Sm l D yX5_decides cX5_decides 1 (some Jvm.ClassFile.FieldType.boolean) 0 0 [tR (some a0)] A (qI A g).1 (qI A g).2 := by
  refine Sm.of (ω := qI A) (fX5_decides a0 A) [some (tR (some a0))] (by decide) (Nat.le_of_ble_eq_true rfl) rfl hg ?_
  intro p e R s m args below meth c X hin
  have X : Cx D cX5_decides RX5 1 0 0 (some Jvm.ClassFile.FieldType.boolean) p R s m args meth c := X
  unfold fX5_decides
  refine rf_aload_n X rfl dX5_decides_0 ?_
  refine rf_bind (fun v1 hv1 => ?_)
  refine rf_getI X fl_X5_9 hv1 dX5_decides_1 ?_
  refine rf_bipush X (30 : Int32) rfl dX5_decides_4 ?_
  refine rf_jn2 (fun i => ∀ (y3 : Int32), RfX X l e below (qI A) (i y3) 41 [none] [tI y3] A) ?_ (fun j2 hj2 => ?_)
  · intro y3
    exact rf_zret X rfl dX5_decides_41
  refine rf_br 40 36 [some (tR (some a0))] [some (tR (some a0))] [] [] (fun _ => ?_) (fun _ => ?_) (fun _ jT jF => ?_)
  · refine rf_iconst X (0 : Int32) rfl dX5_decides_40 ?_
    exact rf_go (hj2 (0 : Int32)) True.intro
  · refine rf_iconst X (1 : Int32) rfl dX5_decides_36 ?_
    refine rf_goto X (tgt := 41) rfl dX5_decides_37 ?_
    exact rf_go (hj2 (1 : Int32)) True.intro
  refine rf_icmp_lt X (tgt := 18) rfl dX5_decides_6 (fun c4 => ?_) (fun c4 => ?_)
  · refine rf_aload_n X rfl dX5_decides_18 ?_
    refine rf_getI X fl_X5_9 hv1 dX5_decides_19 ?_
    refine rf_bipush X (70 : Int32) rfl dX5_decides_22 ?_
    refine rf_icmp_eq X (tgt := 36) rfl dX5_decides_24 (fun c5 => ?_) (fun c5 => ?_)
    · exact jF (fun z => (fun z => (fun z => z c5) z.2) z.1)
    refine rf_aload_n X rfl dX5_decides_27 ?_
    refine rf_getI X fl_X5_9 hv1 dX5_decides_28 ?_
    refine rf_bipush X (71 : Int32) rfl dX5_decides_31 ?_
    refine rf_icmp_ne X (tgt := 40) rfl dX5_decides_33 (fun c6 => ?_) (fun c6 => ?_)
    · exact jT ⟨⟨(Or.inl c4), c5⟩, c6⟩
    exact jF (fun z => (fun z => z c6) z.2)
  refine rf_aload_n X rfl dX5_decides_9 ?_
  refine rf_getI X fl_X5_9 hv1 dX5_decides_10 ?_
  refine rf_bipush X (36 : Int32) rfl dX5_decides_13 ?_
  refine rf_icmp_le X (tgt := 36) rfl dX5_decides_15 (fun c7 => ?_) (fun c7 => ?_)
  · exact jF (fun z => (fun z => (fun z => z.elim c4 (fun z => z c7)) z.1) z.1)
  refine rf_aload_n X rfl dX5_decides_18 ?_
  refine rf_getI X fl_X5_9 hv1 dX5_decides_19 ?_
  refine rf_bipush X (70 : Int32) rfl dX5_decides_22 ?_
  refine rf_icmp_eq X (tgt := 36) rfl dX5_decides_24 (fun c8 => ?_) (fun c8 => ?_)
  · exact jF (fun z => (fun z => (fun z => z c8) z.2) z.1)
  refine rf_aload_n X rfl dX5_decides_27 ?_
  refine rf_getI X fl_X5_9 hv1 dX5_decides_28 ?_
  refine rf_bipush X (71 : Int32) rfl dX5_decides_31 ?_
  refine rf_icmp_ne X (tgt := 40) rfl dX5_decides_33 (fun c9 => ?_) (fun c9 => ?_)
  · exact jT ⟨⟨(Or.inr c7), c8⟩, c9⟩
  exact jF (fun z => (fun z => z c9) z.2)

theorem dX5_isGuarded_0 : decode cX5_isGuarded 0 = .ok (.aload_n 0, 1) := by decide +kernel
theorem dX5_isGuarded_1 : decode cX5_isGuarded 1 = .ok (.getfield 24, 3) := by decide +kernel
theorem dX5_isGuarded_4 : decode cX5_isGuarded 4 = .ok (.bipush 8, 2) := by decide +kernel
theorem dX5_isGuarded_6 : decode cX5_isGuarded 6 = .ok (.if_icmp .lt 7, 3) := by decide +kernel
theorem dX5_isGuarded_9 : decode cX5_isGuarded 9 = .ok (.iconst 1, 1) := by decide +kernel
theorem dX5_isGuarded_10 : decode cX5_isGuarded 10 = .ok (.goto 4, 3) := by decide +kernel
theorem dX5_isGuarded_13 : decode cX5_isGuarded 13 = .ok (.iconst 0, 1) := by decide +kernel
theorem dX5_isGuarded_14 : decode cX5_isGuarded 14 = .ok (.ireturn, 1) := by decide +kernel
def fX5_isGuarded (a0 : Nat) (A : AH) : Option (Int32) :=
(gI A (some a0) 5 4).bind fun v1 =>
jn (fun (y3 : Int32) =>
some (nb y3)) fun j2 =>
if v1 < (8 : Int32) then (j2 (0 : Int32)) else
j2 (1 : Int32)

set_option maxHeartbeats 4000000 in
set_option maxRecDepth 100000 in
theorem sX5_isGuarded (l : Launch) (D : DE) (a0 : Nat) (A : AH) (g : Int32) (hg : fX5_isGuarded a0 A = some g) : Sm l D yX5_isGuarded cX5_isGuarded 1 (some Jvm.ClassFile.FieldType.boolean) 0 0 [tR (some a0)] A (qI A g).1 (qI A g).2 := by
  refine Sm.of (ω := qI A) (fX5_isGuarded a0 A) [some (tR (some a0))] (by decide) (Nat.le_of_ble_eq_true rfl) rfl hg ?_
  intro p e R s m args below meth c X hin
  have X : Cx D cX5_isGuarded RX5 1 0 0 (some Jvm.ClassFile.FieldType.boolean) p R s m args meth c := X
  unfold fX5_isGuarded
  refine rf_aload_n X rfl dX5_isGuarded_0 ?_
  refine rf_bind (fun v1 hv1 => ?_)
  refine rf_getI X fl_X5_24 hv1 dX5_isGuarded_1 ?_
  refine rf_bipush X (8 : Int32) rfl dX5_isGuarded_4 ?_
  refine rf_jn2 (fun i => ∀ (y3 : Int32), RfX X l e below (qI A) (i y3) 14 [none] [tI y3] A) ?_ (fun j2 hj2 => ?_)
  · intro y3
    exact rf_zret X rfl dX5_isGuarded_14
  refine rf_icmp_lt X (tgt := 13) rfl dX5_isGuarded_6 (fun c4 => rf_pos c4 ?_) (fun c4 => rf_neg c4 ?_)
  · refine rf_iconst X (0 : Int32) rfl dX5_isGuarded_13 ?_
    exact rf_go (hj2 (0 : Int32)) True.intro
  refine rf_iconst X (1 : Int32) rfl dX5_isGuarded_9 ?_
  refine rf_goto X (tgt := 14) rfl dX5_isGuarded_10 ?_
  exact rf_go (hj2 (1 : Int32)) True.intro

theorem dX5_asked_0 : decode cX5_asked 0 = .ok (.aload_n 0, 1) := by decide +kernel
theorem dX5_asked_1 : decode cX5_asked 1 = .ok (.invokevirtual 68, 3) := by decide +kernel
theorem dX5_asked_4 : decode cX5_asked 4 = .ok (.ifCond .eq 14, 3) := by decide +kernel
theorem dX5_asked_7 : decode cX5_asked 7 = .ok (.iconst 1, 1) := by decide +kernel
theorem dX5_asked_8 : decode cX5_asked 8 = .ok (.aload_n 0, 1) := by decide +kernel
theorem dX5_asked_9 : decode cX5_asked 9 = .ok (.getfield 24, 3) := by decide +kernel
theorem dX5_asked_12 : decode cX5_asked 12 = .ok (.iconst 3, 1) := by decide +kernel
theorem dX5_asked_13 : decode cX5_asked 13 = .ok (.iand, 1) := by decide +kernel
theorem dX5_asked_14 : decode cX5_asked 14 = .ok (.ishl, 1) := by decide +kernel
theorem dX5_asked_15 : decode cX5_asked 15 = .ok (.goto 4, 3) := by decide +kernel
theorem dX5_asked_18 : decode cX5_asked 18 = .ok (.iconst 0, 1) := by decide +kernel
theorem dX5_asked_19 : decode cX5_asked 19 = .ok (.istore_n 1, 1) := by decide +kernel
theorem dX5_asked_20 : decode cX5_asked 20 = .ok (.aload_n 0, 1) := by decide +kernel
theorem dX5_asked_21 : decode cX5_asked 21 = .ok (.getfield 9, 3) := by decide +kernel
theorem dX5_asked_24 : decode cX5_asked 24 = .ok (.bipush 21, 2) := by decide +kernel
theorem dX5_asked_26 : decode cX5_asked 26 = .ok (.if_icmp .ne 14, 3) := by decide +kernel
theorem dX5_asked_29 : decode cX5_asked 29 = .ok (.iload_n 1, 1) := by decide +kernel
theorem dX5_asked_30 : decode cX5_asked 30 = .ok (.iconst 1, 1) := by decide +kernel
theorem dX5_asked_31 : decode cX5_asked 31 = .ok (.aload_n 0, 1) := by decide +kernel
theorem dX5_asked_32 : decode cX5_asked 32 = .ok (.getfield 27, 3) := by decide +kernel
theorem dX5_asked_35 : decode cX5_asked 35 = .ok (.iconst 3, 1) := by decide +kernel
theorem dX5_asked_36 : decode cX5_asked 36 = .ok (.iand, 1) := by decide +kernel
theorem dX5_asked_37 : decode cX5_asked 37 = .ok (.ishl, 1) := by decide +kernel
theorem dX5_asked_38 : decode cX5_asked 38 = .ok (.ior, 1) := by decide +kernel
theorem dX5_asked_39 : decode cX5_asked 39 = .ok (.istore_n 1, 1) := by decide +kernel
theorem dX5_asked_40 : decode cX5_asked 40 = .ok (.aload_n 0, 1) := by decide +kernel
theorem dX5_asked_41 : decode cX5_asked 41 = .ok (.getfield 9, 3) := by decide +kernel
theorem dX5_asked_44 : decode cX5_asked 44 = .ok (.bipush 34, 2) := by decide +kernel
theorem dX5_asked_46 : decode cX5_asked 46 = .ok (.if_icmp .eq 12, 3) := by decide +kernel
theorem dX5_asked_49 : decode cX5_asked 49 = .ok (.aload_n 0, 1) := by decide +kernel
theorem dX5_asked_50 : decode cX5_asked 50 = .ok (.getfield 9, 3) := by decide +kernel
theorem dX5_asked_53 : decode cX5_asked 53 = .ok (.bipush 35, 2) := by decide +kernel
theorem dX5_asked_55 : decode cX5_asked 55 = .ok (.if_icmp .ne 14, 3) := by decide +kernel
theorem dX5_asked_58 : decode cX5_asked 58 = .ok (.iload_n 1, 1) := by decide +kernel
theorem dX5_asked_59 : decode cX5_asked 59 = .ok (.iconst 1, 1) := by decide +kernel
theorem dX5_asked_60 : decode cX5_asked 60 = .ok (.aload_n 0, 1) := by decide +kernel
theorem dX5_asked_61 : decode cX5_asked 61 = .ok (.getfield 21, 3) := by decide +kernel
theorem dX5_asked_64 : decode cX5_asked 64 = .ok (.iconst 3, 1) := by decide +kernel
theorem dX5_asked_65 : decode cX5_asked 65 = .ok (.iand, 1) := by decide +kernel
theorem dX5_asked_66 : decode cX5_asked 66 = .ok (.ishl, 1) := by decide +kernel
theorem dX5_asked_67 : decode cX5_asked 67 = .ok (.ior, 1) := by decide +kernel
theorem dX5_asked_68 : decode cX5_asked 68 = .ok (.istore_n 1, 1) := by decide +kernel
theorem dX5_asked_69 : decode cX5_asked 69 = .ok (.aload_n 0, 1) := by decide +kernel
theorem dX5_asked_70 : decode cX5_asked 70 = .ok (.getfield 9, 3) := by decide +kernel
theorem dX5_asked_73 : decode cX5_asked 73 = .ok (.bipush 34, 2) := by decide +kernel
theorem dX5_asked_75 : decode cX5_asked 75 = .ok (.if_icmp .lt 12, 3) := by decide +kernel
theorem dX5_asked_78 : decode cX5_asked 78 = .ok (.aload_n 0, 1) := by decide +kernel
theorem dX5_asked_79 : decode cX5_asked 79 = .ok (.getfield 9, 3) := by decide +kernel
theorem dX5_asked_82 : decode cX5_asked 82 = .ok (.bipush 36, 2) := by decide +kernel
theorem dX5_asked_84 : decode cX5_asked 84 = .ok (.if_icmp .le 21, 3) := by decide +kernel
theorem dX5_asked_87 : decode cX5_asked 87 = .ok (.aload_n 0, 1) := by decide +kernel
theorem dX5_asked_88 : decode cX5_asked 88 = .ok (.getfield 9, 3) := by decide +kernel
theorem dX5_asked_91 : decode cX5_asked 91 = .ok (.bipush 70, 2) := by decide +kernel
theorem dX5_asked_93 : decode cX5_asked 93 = .ok (.if_icmp .lt 23, 3) := by decide +kernel
theorem dX5_asked_96 : decode cX5_asked 96 = .ok (.aload_n 0, 1) := by decide +kernel
theorem dX5_asked_97 : decode cX5_asked 97 = .ok (.getfield 9, 3) := by decide +kernel
theorem dX5_asked_100 : decode cX5_asked 100 = .ok (.bipush 72, 2) := by decide +kernel
theorem dX5_asked_102 : decode cX5_asked 102 = .ok (.if_icmp .gt 14, 3) := by decide +kernel
theorem dX5_asked_105 : decode cX5_asked 105 = .ok (.iload_n 1, 1) := by decide +kernel
theorem dX5_asked_106 : decode cX5_asked 106 = .ok (.iconst 1, 1) := by decide +kernel
theorem dX5_asked_107 : decode cX5_asked 107 = .ok (.aload_n 0, 1) := by decide +kernel
theorem dX5_asked_108 : decode cX5_asked 108 = .ok (.getfield 18, 3) := by decide +kernel
theorem dX5_asked_111 : decode cX5_asked 111 = .ok (.iconst 3, 1) := by decide +kernel
theorem dX5_asked_112 : decode cX5_asked 112 = .ok (.iand, 1) := by decide +kernel
theorem dX5_asked_113 : decode cX5_asked 113 = .ok (.ishl, 1) := by decide +kernel
theorem dX5_asked_114 : decode cX5_asked 114 = .ok (.ior, 1) := by decide +kernel
theorem dX5_asked_115 : decode cX5_asked 115 = .ok (.istore_n 1, 1) := by decide +kernel
theorem dX5_asked_116 : decode cX5_asked 116 = .ok (.iload_n 1, 1) := by decide +kernel
theorem dX5_asked_117 : decode cX5_asked 117 = .ok (.ireturn, 1) := by decide +kernel
def fX5_asked (a0 : Nat) (A : AH) : Option (Int32) :=
(rcv A (some a0) 5).bind fun v1 =>
(fX5_isGuarded v1 A).bind fun g2 =>
jn (fun (y4 : Int32) =>
(gI A (some a0) 5 0).bind fun v5 =>
jn (fun (x7 : Int32) =>
jn (fun (x9 : Int32) =>
jn (fun (x11 : Int32) =>
some x11) fun j10 =>
if (((v5 < (34 : Int32)) ∨ (¬ (v5 ≤ (36 : Int32)))) ∧ ((v5 < (70 : Int32)) ∨ ((72 : Int32) < v5))) then (j10 x9) else
(gI A (some a0) 5 2).bind fun v12 =>
j10 (x9 ||| ((1 : Int32) <<< ((v12 &&& (3 : Int32)) &&& 31)))) fun j8 =>
if ((v5 = (34 : Int32)) ∨ (v5 = (35 : Int32))) then ((gI A (some a0) 5 3).bind fun v19 =>
j8 (x7 ||| ((1 : Int32) <<< ((v19 &&& (3 : Int32)) &&& 31)))) else
j8 x7) fun j6 =>
if v5 = (21 : Int32) then ((gI A (some a0) 5 5).bind fun v23 =>
j6 (y4 ||| ((1 : Int32) <<< ((v23 &&& (3 : Int32)) &&& 31)))) else
j6 y4) fun j3 =>
if g2 = 0 then (j3 (0 : Int32)) else
(gI A (some a0) 5 4).bind fun v25 =>
j3 ((1 : Int32) <<< ((v25 &&& (3 : Int32)) &&& 31))

set_option maxHeartbeats 4000000 in
set_option maxRecDepth 100000 in
theorem sX5_asked (l : Launch) (D : DE) (a0 : Nat) (A : AH) (g : Int32) (hg : fX5_asked a0 A = some g) : Sm l D yX5_asked cX5_asked 2 (some Jvm.ClassFile.FieldType.int) 1 20 [tR (some a0)] A (qI A g).1 (qI A g).2 := by
  refine Sm.of (ω := qI A) (fX5_asked a0 A) [some (tR (some a0)), none] (by decide) (Nat.le_of_ble_eq_true rfl) rfl hg ?_
  intro p e R s m args below meth c X hin
  have X : Cx D cX5_asked RX5 2 1 20 (some Jvm.ClassFile.FieldType.int) p R s m args meth c := X
  unfold fX5_asked
  refine rf_aload_n X rfl dX5_asked_0 ?_
  refine rf_bind (fun v1 hv1 => ?_)
  refine rf_bind (fun g2 hg2 => ?_)
  refine rf_callVI X c_X5_68 ⟨Nat.le_of_ble_eq_true rfl, Nat.le_of_ble_eq_true rfl⟩ [] rfl (Nat.le_of_ble_eq_true rfl) hv1 (sX5_isGuarded l D v1 A g2 hg2) dX5_asked_1 ?_
  refine rf_jn2 (fun i => ∀ (y4 : Int32), RfX X l e below (qI A) (i y4) 19 [some (tR (some a0)), none] [tI y4] A) ?_ (fun j3 hj3 => ?_)
  · intro y4
    refine rf_istore_n X (ls' := [some (tR (some a0)), some (tI y4)]) rfl (by decide) dX5_asked_19 ?_
    refine rf_aload_n X rfl dX5_asked_20 ?_
    refine rf_bind (fun v5 hv5 => ?_)
    refine rf_getI X fl_X5_9 hv5 dX5_asked_21 ?_
    refine rf_bipush X (21 : Int32) rfl dX5_asked_24 ?_
    refine rf_jn2 (fun i => ∀ (x7 : Int32), RfX X l e below (qI A) (i x7) 40 [some (tR (some a0)), some (tI x7)] [] A) ?_ (fun j6 hj6 => ?_)
    · intro x7
      refine rf_aload_n X rfl dX5_asked_40 ?_
      refine rf_getI X fl_X5_9 hv5 dX5_asked_41 ?_
      refine rf_bipush X (34 : Int32) rfl dX5_asked_44 ?_
      refine rf_jn2 (fun i => ∀ (x9 : Int32), RfX X l e below (qI A) (i x9) 69 [some (tR (some a0)), some (tI x9)] [] A) ?_ (fun j8 hj8 => ?_)
      · intro x9
        refine rf_aload_n X rfl dX5_asked_69 ?_
        refine rf_getI X fl_X5_9 hv5 dX5_asked_70 ?_
        refine rf_bipush X (34 : Int32) rfl dX5_asked_73 ?_
        refine rf_jn2 (fun i => ∀ (x11 : Int32), RfX X l e below (qI A) (i x11) 116 [none, some (tI x11)] [] A) ?_ (fun j10 hj10 => ?_)
        · intro x11
          refine rf_iload_n X rfl dX5_asked_116 ?_
          exact rf_iret X rfl dX5_asked_117
        refine rf_br 116 105 [some (tR (some a0)), some (tI x9)] [some (tR (some a0)), some (tI x9)] [] [] (fun _ => ?_) (fun _ => ?_) (fun _ jT jF => ?_)
        · exact rf_go (hj10 x9) (And.intro rfl True.intro)
        · refine rf_iload_n X rfl dX5_asked_105 ?_
          refine rf_iconst X (1 : Int32) rfl dX5_asked_106 ?_
          refine rf_aload_n X rfl dX5_asked_107 ?_
          refine rf_bind (fun v12 hv12 => ?_)
          refine rf_getI X fl_X5_18 hv12 dX5_asked_108 ?_
          refine rf_iconst X (3 : Int32) rfl dX5_asked_111 ?_
          refine rf_iand X dX5_asked_112 ?_
          refine rf_ishl X dX5_asked_113 ?_
          refine rf_ior X dX5_asked_114 ?_
          refine rf_istore_n X (ls' := [some (tR (some a0)), some (tI (x9 ||| ((1 : Int32) <<< ((v12 &&& (3 : Int32)) &&& 31))))]) rfl (by decide) dX5_asked_115 ?_
          exact rf_go (hj10 (x9 ||| ((1 : Int32) <<< ((v12 &&& (3 : Int32)) &&& 31)))) (And.intro rfl True.intro)
        refine rf_icmp_lt X (tgt := 87) rfl dX5_asked_75 (fun c13 => ?_) (fun c13 => ?_)
        · refine rf_aload_n X rfl dX5_asked_87 ?_
          refine rf_getI X fl_X5_9 hv5 dX5_asked_88 ?_
          refine rf_bipush X (70 : Int32) rfl dX5_asked_91 ?_
          refine rf_icmp_lt X (tgt := 116) rfl dX5_asked_93 (fun c14 => ?_) (fun c14 => ?_)
          · exact jT ⟨(Or.inl c13), (Or.inl c14)⟩
          refine rf_aload_n X rfl dX5_asked_96 ?_
          refine rf_getI X fl_X5_9 hv5 dX5_asked_97 ?_
          refine rf_bipush X (72 : Int32) rfl dX5_asked_100 ?_
          refine rf_icmp_gt X (tgt := 116) rfl dX5_asked_102 (fun c15 => ?_) (fun c15 => ?_)
          · exact jT ⟨(Or.inl c13), (Or.inr c15)⟩
          exact jF (fun z => (fun z => z.elim c14 c15) z.2)
        refine rf_aload_n X rfl dX5_asked_78 ?_
        refine rf_getI X fl_X5_9 hv5 dX5_asked_79 ?_
        refine rf_bipush X (36 : Int32) rfl dX5_asked_82 ?_
        refine rf_icmp_le X (tgt := 105) rfl dX5_asked_84 (fun c16 => ?_) (fun c16 => ?_)
        · exact jF (fun z => (fun z => z.elim c13 (fun z => z c16)) z.1)
        refine rf_aload_n X rfl dX5_asked_87 ?_
        refine rf_getI X fl_X5_9 hv5 dX5_asked_88 ?_
        refine rf_bipush X (70 : Int32) rfl dX5_asked_91 ?_
        refine rf_icmp_lt X (tgt := 116) rfl dX5_asked_93 (fun c17 => ?_) (fun c17 => ?_)
        · exact jT ⟨(Or.inr c16), (Or.inl c17)⟩
        refine rf_aload_n X rfl dX5_asked_96 ?_
        refine rf_getI X fl_X5_9 hv5 dX5_asked_97 ?_
        refine rf_bipush X (72 : Int32) rfl dX5_asked_100 ?_
        refine rf_icmp_gt X (tgt := 116) rfl dX5_asked_102 (fun c18 => ?_) (fun c18 => ?_)
        · exact jT ⟨(Or.inr c16), (Or.inr c18)⟩
        exact jF (fun z => (fun z => z.elim c17 c18) z.2)
      refine rf_br 58 69 [some (tR (some a0)), some (tI x7)] [some (tR (some a0)), some (tI x7)] [] [] (fun _ => ?_) (fun _ => ?_) (fun _ jT jF => ?_)
      · refine rf_iload_n X rfl dX5_asked_58 ?_
        refine rf_iconst X (1 : Int32) rfl dX5_asked_59 ?_
        refine rf_aload_n X rfl dX5_asked_60 ?_
        refine rf_bind (fun v19 hv19 => ?_)
        refine rf_getI X fl_X5_21 hv19 dX5_asked_61 ?_
        refine rf_iconst X (3 : Int32) rfl dX5_asked_64 ?_
        refine rf_iand X dX5_asked_65 ?_
        refine rf_ishl X dX5_asked_66 ?_
        refine rf_ior X dX5_asked_67 ?_
        refine rf_istore_n X (ls' := [some (tR (some a0)), some (tI (x7 ||| ((1 : Int32) <<< ((v19 &&& (3 : Int32)) &&& 31))))]) rfl (by decide) dX5_asked_68 ?_
        exact rf_go (hj8 (x7 ||| ((1 : Int32) <<< ((v19 &&& (3 : Int32)) &&& 31)))) (And.intro rfl (And.intro rfl True.intro))
      · exact rf_go (hj8 x7) (And.intro rfl (And.intro rfl True.intro))
      refine rf_icmp_eq X (tgt := 58) rfl dX5_asked_46 (fun c20 => ?_) (fun c20 => ?_)
      · exact jT (Or.inl c20)
      refine rf_aload_n X rfl dX5_asked_49 ?_
      refine rf_getI X fl_X5_9 hv5 dX5_asked_50 ?_
      refine rf_bipush X (35 : Int32) rfl dX5_asked_53 ?_
      refine rf_icmp_ne X (tgt := 69) rfl dX5_asked_55 (fun c21 => ?_) (fun c21 => ?_)
      · exact jF (fun z => z.elim c20 c21)
      exact jT (Or.inr c21)
    refine rf_icmp_ne X (tgt := 40) rfl dX5_asked_26 (fun c22 => rf_neg c22 ?_) (fun c22 => rf_pos c22 ?_)
    · exact rf_go (hj6 y4) (And.intro rfl (And.intro rfl True.intro))
    refine rf_iload_n X rfl dX5_asked_29 ?_
    refine rf_iconst X (1 : Int32) rfl dX5_asked_30 ?_
    refine rf_aload_n X rfl dX5_asked_31 ?_
    refine rf_bind (fun v23 hv23 => ?_)
    refine rf_getI X fl_X5_27 hv23 dX5_asked_32 ?_
    refine rf_iconst X (3 : Int32) rfl dX5_asked_35 ?_
    refine rf_iand X dX5_asked_36 ?_
    refine rf_ishl X dX5_asked_37 ?_
    refine rf_ior X dX5_asked_38 ?_
    refine rf_istore_n X (ls' := [some (tR (some a0)), some (tI (y4 ||| ((1 : Int32) <<< ((v23 &&& (3 : Int32)) &&& 31))))]) rfl (by decide) dX5_asked_39 ?_
    exact rf_go (hj6 (y4 ||| ((1 : Int32) <<< ((v23 &&& (3 : Int32)) &&& 31)))) (And.intro rfl (And.intro rfl True.intro))
  refine rf_if_eq X (tgt := 18) rfl dX5_asked_4 (fun c24 => rf_pos c24 ?_) (fun c24 => rf_neg c24 ?_)
  · refine rf_iconst X (0 : Int32) rfl dX5_asked_18 ?_
    exact rf_go (hj3 (0 : Int32)) (And.intro rfl True.intro)
  refine rf_iconst X (1 : Int32) rfl dX5_asked_7 ?_
  refine rf_aload_n X rfl dX5_asked_8 ?_
  refine rf_bind (fun v25 hv25 => ?_)
  refine rf_getI X fl_X5_24 hv25 dX5_asked_9 ?_
  refine rf_iconst X (3 : Int32) rfl dX5_asked_12 ?_
  refine rf_iand X dX5_asked_13 ?_
  refine rf_ishl X dX5_asked_14 ?_
  refine rf_goto X (tgt := 19) rfl dX5_asked_15 ?_
  exact rf_go (hj3 ((1 : Int32) <<< ((v25 &&& (3 : Int32)) &&& 31))) (And.intro rfl True.intro)

