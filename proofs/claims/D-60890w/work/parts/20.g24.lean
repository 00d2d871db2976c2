/-! 20.g24: printed by gen/parts.py -/
set_option maxRecDepth 100000
theorem dX11_jump_0 : decode cX11_jump 0 = .ok (.aload_n 0, 1) := by decide +kernel
theorem dX11_jump_1 : decode cX11_jump 1 = .ok (.getfield 73, 3) := by decide +kernel
theorem dX11_jump_4 : decode cX11_jump 4 = .ok (.iload_n 1, 1) := by decide +kernel
theorem dX11_jump_5 : decode cX11_jump 5 = .ok (.aload_n 0, 1) := by decide +kernel
theorem dX11_jump_6 : decode cX11_jump 6 = .ok (.getfield 220, 3) := by decide +kernel
theorem dX11_jump_9 : decode cX11_jump 9 = .ok (.bipush 42, 2) := by decide +kernel
theorem dX11_jump_11 : decode cX11_jump 11 = .ok (.if_icmp .ne 7, 3) := by decide +kernel
theorem dX11_jump_14 : decode cX11_jump 14 = .ok (.iload_n 3, 1) := by decide +kernel
theorem dX11_jump_15 : decode cX11_jump 15 = .ok (.goto 7, 3) := by decide +kernel
theorem dX11_jump_18 : decode cX11_jump 18 = .ok (.aload_n 0, 1) := by decide +kernel
theorem dX11_jump_19 : decode cX11_jump 19 = .ok (.getfield 237, 3) := by decide +kernel
theorem dX11_jump_22 : decode cX11_jump 22 = .ok (.iastore, 1) := by decide +kernel
theorem dX11_jump_23 : decode cX11_jump 23 = .ok (.aload_n 0, 1) := by decide +kernel
theorem dX11_jump_24 : decode cX11_jump 24 = .ok (.getfield 220, 3) := by decide +kernel
theorem dX11_jump_27 : decode cX11_jump 27 = .ok (.bipush 41, 2) := by decide +kernel
theorem dX11_jump_29 : decode cX11_jump 29 = .ok (.if_icmp .ne 13, 3) := by decide +kernel
theorem dX11_jump_32 : decode cX11_jump 32 = .ok (.aload_n 0, 1) := by decide +kernel
theorem dX11_jump_33 : decode cX11_jump 33 = .ok (.getfield 67, 3) := by decide +kernel
theorem dX11_jump_36 : decode cX11_jump 36 = .ok (.iload_n 2, 1) := by decide +kernel
theorem dX11_jump_37 : decode cX11_jump 37 = .ok (.iload 4, 2) := by decide +kernel
theorem dX11_jump_39 : decode cX11_jump 39 = .ok (.iconst 1, 1) := by decide +kernel
theorem dX11_jump_40 : decode cX11_jump 40 = .ok (.iadd, 1) := by decide +kernel
theorem dX11_jump_41 : decode cX11_jump 41 = .ok (.iastore, 1) := by decide +kernel
theorem dX11_jump_42 : decode cX11_jump 42 = .ok (.return_, 1) := by decide +kernel
def fX11_jump (a0 : Nat) (p1 : Int32) (p2 : Int32) (p3 : Int32) (p4 : Int32) (A : AH) : Option (AH) :=
(gR A (some a0) 11 37).bind fun v1 =>
(gI A (some a0) 11 52).bind fun v2 =>
jn (fun (y4 : Int32) =>
(sI A v1 p1 y4).bind fun A5 =>
(gI A5 (some a0) 11 52).bind fun v6 =>
jn (fun (A8 : AH) =>
some A8) fun j7 =>
if v6 = (41 : Int32) then ((gR A5 (some a0) 11 35).bind fun v10 =>
(sI A5 v10 p2 (p4 + (1 : Int32))).bind fun A11 =>
j7 A11) else
j7 A5) fun j3 =>
if v2 = (42 : Int32) then (j3 p3) else
(gI A (some a0) 11 57).bind fun v13 =>
j3 v13

set_option maxHeartbeats 4000000 in
set_option maxRecDepth 100000 in
theorem sX11_jump (l : Launch) (D : DE) (a0 : Nat) (p1 : Int32) (p2 : Int32) (p3 : Int32) (p4 : Int32) (A : AH) (g : AH) (hg : fX11_jump a0 p1 p2 p3 p4 A = some g) : Sm l D yX11_jump cX11_jump 5 none 0 0 [tR (some a0), tI p1, tI p2, tI p3, tI p4] A (wU g).1 (wU g).2 := by
  refine Sm.of (ω := wU) (fX11_jump a0 p1 p2 p3 p4 A) [some (tR (some a0)), some (tI p1), some (tI p2), some (tI p3), some (tI p4)] (by decide) (Nat.le_of_ble_eq_true rfl) rfl hg ?_
  intro p e R s m args below meth c X hin
  have X : Cx D cX11_jump RX11 5 0 0 none p R s m args meth c := X
  unfold fX11_jump
  refine rf_aload_n X rfl dX11_jump_0 ?_
  refine rf_bind (fun v1 hv1 => ?_)
  refine rf_getR X fl_X11_73 hv1 dX11_jump_1 ?_
  refine rf_iload_n X rfl dX11_jump_4 ?_
  refine rf_aload_n X rfl dX11_jump_5 ?_
  refine rf_bind (fun v2 hv2 => ?_)
  refine rf_getI X fl_X11_220 hv2 dX11_jump_6 ?_
  refine rf_bipush X (42 : Int32) rfl dX11_jump_9 ?_
  refine rf_jn2 (fun i => ∀ (y4 : Int32), RfX X l e below wU (i y4) 22 [some (tR (some a0)), none, some (tI p2), none, some (tI p4)] [tI y4, tI p1, tR v1] A) ?_ (fun j3 hj3 => ?_)
  · intro y4
    refine rf_bind (fun A5 hA5 => ?_)
    refine rf_iast X hA5 dX11_jump_22 ?_
    refine rf_aload_n X rfl dX11_jump_23 ?_
    refine rf_bind (fun v6 hv6 => ?_)
    refine rf_getI X fl_X11_220 hv6 dX11_jump_24 ?_
    refine rf_bipush X (41 : Int32) rfl dX11_jump_27 ?_
    refine rf_jn2 (fun i => ∀ (A8 : AH), RfX X l e below wU (i A8) 42 [none, none, none, none, none] [] A8) ?_ (fun j7 hj7 => ?_)
    · intro A8
      exact rf_vret X rfl dX11_jump_42
    refine rf_icmp_ne X (tgt := 42) rfl dX11_jump_29 (fun c9 => rf_neg c9 ?_) (fun c9 => rf_pos c9 ?_)
    · exact rf_go (hj7 A5) True.intro
    refine rf_aload_n X rfl dX11_jump_32 ?_
    refine rf_bind (fun v10 hv10 => ?_)
    refine rf_getR X fl_X11_67 hv10 dX11_jump_33 ?_
    refine rf_iload_n X rfl dX11_jump_36 ?_
    refine rf_iload X rfl dX11_jump_37 ?_
    refine rf_iconst X (1 : Int32) rfl dX11_jump_39 ?_
    refine rf_iadd X dX11_jump_40 ?_
    refine rf_bind (fun A11 hA11 => ?_)
    refine rf_iast X hA11 dX11_jump_41 ?_
    exact rf_go (hj7 A11) True.intro
  refine rf_icmp_ne X (tgt := 18) rfl dX11_jump_11 (fun c12 => rf_neg c12 ?_) (fun c12 => rf_pos c12 ?_)
  · refine rf_aload_n X rfl dX11_jump_18 ?_
    refine rf_bind (fun v13 hv13 => ?_)
    refine rf_getI X fl_X11_237 hv13 dX11_jump_19 ?_
    exact rf_go (hj3 v13) (And.intro rfl (And.intro rfl (And.intro rfl True.intro)))
  refine rf_iload_n X rfl dX11_jump_14 ?_
  refine rf_goto X (tgt := 22) rfl dX11_jump_15 ?_
  exact rf_go (hj3 p3) (And.intro rfl (And.intro rfl (And.intro rfl True.intro)))

theorem dX11_ask_0 : decode cX11_ask 0 = .ok (.aload_n 0, 1) := by decide +kernel
theorem dX11_ask_1 : decode cX11_ask 1 = .ok (.getfield 87, 3) := by decide +kernel
theorem dX11_ask_4 : decode cX11_ask 4 = .ok (.aload_n 0, 1) := by decide +kernel
theorem dX11_ask_5 : decode cX11_ask 5 = .ok (.getfield 129, 3) := by decide +kernel
theorem dX11_ask_8 : decode cX11_ask 8 = .ok (.aload_n 0, 1) := by decide +kernel
theorem dX11_ask_9 : decode cX11_ask 9 = .ok (.getfield 105, 3) := by decide +kernel
theorem dX11_ask_12 : decode cX11_ask 12 = .ok (.iload_n 2, 1) := by decide +kernel
theorem dX11_ask_13 : decode cX11_ask 13 = .ok (.iaload, 1) := by decide +kernel
theorem dX11_ask_14 : decode cX11_ask 14 = .ok (.iastore, 1) := by decide +kernel
theorem dX11_ask_15 : decode cX11_ask 15 = .ok (.aload_n 0, 1) := by decide +kernel
theorem dX11_ask_16 : decode cX11_ask 16 = .ok (.aload_n 0, 1) := by decide +kernel
theorem dX11_ask_17 : decode cX11_ask 17 = .ok (.getfield 105, 3) := by decide +kernel
theorem dX11_ask_20 : decode cX11_ask 20 = .ok (.iload_n 2, 1) := by decide +kernel
theorem dX11_ask_21 : decode cX11_ask 21 = .ok (.iaload, 1) := by decide +kernel
theorem dX11_ask_22 : decode cX11_ask 22 = .ok (.aload_n 0, 1) := by decide +kernel
theorem dX11_ask_23 : decode cX11_ask 23 = .ok (.getfield 133, 3) := by decide +kernel
theorem dX11_ask_26 : decode cX11_ask 26 = .ok (.if_icmp .ge 12, 3) := by decide +kernel
theorem dX11_ask_29 : decode cX11_ask 29 = .ok (.aload_n 0, 1) := by decide +kernel
theorem dX11_ask_30 : decode cX11_ask 30 = .ok (.getfield 105, 3) := by decide +kernel
theorem dX11_ask_33 : decode cX11_ask 33 = .ok (.iload_n 2, 1) := by decide +kernel
theorem dX11_ask_34 : decode cX11_ask 34 = .ok (.iaload, 1) := by decide +kernel
theorem dX11_ask_35 : decode cX11_ask 35 = .ok (.goto 7, 3) := by decide +kernel
theorem dX11_ask_38 : decode cX11_ask 38 = .ok (.aload_n 0, 1) := by decide +kernel
theorem dX11_ask_39 : decode cX11_ask 39 = .ok (.getfield 133, 3) := by decide +kernel
theorem dX11_ask_42 : decode cX11_ask 42 = .ok (.putfield 133, 3) := by decide +kernel
theorem dX11_ask_45 : decode cX11_ask 45 = .ok (.aload_n 0, 1) := by decide +kernel
theorem dX11_ask_46 : decode cX11_ask 46 = .ok (.getfield 90, 3) := by decide +kernel
theorem dX11_ask_49 : decode cX11_ask 49 = .ok (.aload_n 0, 1) := by decide +kernel
theorem dX11_ask_50 : decode cX11_ask 50 = .ok (.getfield 129, 3) := by decide +kernel
theorem dX11_ask_53 : decode cX11_ask 53 = .ok (.bipush 32, 2) := by decide +kernel
theorem dX11_ask_55 : decode cX11_ask 55 = .ok (.sipush 128, 3) := by decide +kernel
theorem dX11_ask_58 : decode cX11_ask 58 = .ok (.aload_n 0, 1) := by decide +kernel
theorem dX11_ask_59 : decode cX11_ask 59 = .ok (.getfield 54, 3) := by decide +kernel
theorem dX11_ask_62 : decode cX11_ask 62 = .ok (.iload_n 1, 1) := by decide +kernel
theorem dX11_ask_63 : decode cX11_ask 63 = .ok (.iaload, 1) := by decide +kernel
theorem dX11_ask_64 : decode cX11_ask 64 = .ok (.imul, 1) := by decide +kernel
theorem dX11_ask_65 : decode cX11_ask 65 = .ok (.iload_n 1, 1) := by decide +kernel
theorem dX11_ask_66 : decode cX11_ask 66 = .ok (.iadd, 1) := by decide +kernel
theorem dX11_ask_67 : decode cX11_ask 67 = .ok (.imul, 1) := by decide +kernel
theorem dX11_ask_68 : decode cX11_ask 68 = .ok (.iload_n 2, 1) := by decide +kernel
theorem dX11_ask_69 : decode cX11_ask 69 = .ok (.iadd, 1) := by decide +kernel
theorem dX11_ask_70 : decode cX11_ask 70 = .ok (.iastore, 1) := by decide +kernel
theorem dX11_ask_71 : decode cX11_ask 71 = .ok (.aload_n 0, 1) := by decide +kernel
theorem dX11_ask_72 : decode cX11_ask 72 = .ok (.getfield 93, 3) := by decide +kernel
theorem dX11_ask_75 : decode cX11_ask 75 = .ok (.aload_n 0, 1) := by decide +kernel
theorem dX11_ask_76 : decode cX11_ask 76 = .ok (.getfield 129, 3) := by decide +kernel
theorem dX11_ask_79 : decode cX11_ask 79 = .ok (.bipush 16, 2) := by decide +kernel
theorem dX11_ask_81 : decode cX11_ask 81 = .ok (.aload_n 0, 1) := by decide +kernel
theorem dX11_ask_82 : decode cX11_ask 82 = .ok (.getfield 220, 3) := by decide +kernel
theorem dX11_ask_85 : decode cX11_ask 85 = .ok (.imul, 1) := by decide +kernel
theorem dX11_ask_86 : decode cX11_ask 86 = .ok (.aload_n 0, 1) := by decide +kernel
theorem dX11_ask_87 : decode cX11_ask 87 = .ok (.getfield 225, 3) := by decide +kernel
theorem dX11_ask_90 : decode cX11_ask 90 = .ok (.iadd, 1) := by decide +kernel
theorem dX11_ask_91 : decode cX11_ask 91 = .ok (.iastore, 1) := by decide +kernel
theorem dX11_ask_92 : decode cX11_ask 92 = .ok (.aload_n 0, 1) := by decide +kernel
theorem dX11_ask_93 : decode cX11_ask 93 = .ok (.getfield 96, 3) := by decide +kernel
theorem dX11_ask_96 : decode cX11_ask 96 = .ok (.aload_n 0, 1) := by decide +kernel
theorem dX11_ask_97 : decode cX11_ask 97 = .ok (.getfield 129, 3) := by decide +kernel
theorem dX11_ask_100 : decode cX11_ask 100 = .ok (.iload_n 3, 1) := by decide +kernel
theorem dX11_ask_101 : decode cX11_ask 101 = .ok (.iastore, 1) := by decide +kernel
theorem dX11_ask_102 : decode cX11_ask 102 = .ok (.aload_n 0, 1) := by decide +kernel
theorem dX11_ask_103 : decode cX11_ask 103 = .ok (.getfield 99, 3) := by decide +kernel
theorem dX11_ask_106 : decode cX11_ask 106 = .ok (.aload_n 0, 1) := by decide +kernel
theorem dX11_ask_107 : decode cX11_ask 107 = .ok (.getfield 129, 3) := by decide +kernel
theorem dX11_ask_110 : decode cX11_ask 110 = .ok (.iload 4, 2) := by decide +kernel
theorem dX11_ask_112 : decode cX11_ask 112 = .ok (.iastore, 1) := by decide +kernel
theorem dX11_ask_113 : decode cX11_ask 113 = .ok (.aload_n 0, 1) := by decide +kernel
theorem dX11_ask_114 : decode cX11_ask 114 = .ok (.getfield 102, 3) := by decide +kernel
theorem dX11_ask_117 : decode cX11_ask 117 = .ok (.aload_n 0, 1) := by decide +kernel
theorem dX11_ask_118 : decode cX11_ask 118 = .ok (.getfield 129, 3) := by decide +kernel
theorem dX11_ask_121 : decode cX11_ask 121 = .ok (.iload 5, 2) := by decide +kernel
theorem dX11_ask_123 : decode cX11_ask 123 = .ok (.iastore, 1) := by decide +kernel
theorem dX11_ask_124 : decode cX11_ask 124 = .ok (.aload_n 0, 1) := by decide +kernel
theorem dX11_ask_125 : decode cX11_ask 125 = .ok (.dup, 1) := by decide +kernel
theorem dX11_ask_126 : decode cX11_ask 126 = .ok (.getfield 129, 3) := by decide +kernel
theorem dX11_ask_129 : decode cX11_ask 129 = .ok (.iconst 1, 1) := by decide +kernel
theorem dX11_ask_130 : decode cX11_ask 130 = .ok (.iadd, 1) := by decide +kernel
theorem dX11_ask_131 : decode cX11_ask 131 = .ok (.putfield 129, 3) := by decide +kernel
theorem dX11_ask_134 : decode cX11_ask 134 = .ok (.return_, 1) := by decide +kernel
def fX11_ask (a0 : Nat) (p1 : Int32) (p2 : Int32) (p3 : Int32) (p4 : Int32) (p5 : Int32) (A : AH) : Option (AH) :=
(gR A (some a0) 11 43).bind fun v1 =>
(gI A (some a0) 11 41).bind fun v2 =>
(gR A (some a0) 11 49).bind fun v3 =>
(aI A v3 p2).bind fun v4 =>
(sI A v1 v2 v4).bind fun A5 =>
(gR A5 (some a0) 11 49).bind fun v6 =>
(aI A5 v6 p2).bind fun v7 =>
(gI A5 (some a0) 11 42).bind fun v8 =>
jn (fun (y10 : Int32) =>
(pI A5 (some a0) 11 42 y10).bind fun A11 =>
(gR A11 (some a0) 11 44).bind fun v12 =>
(gI A11 (some a0) 11 41).bind fun v13 =>
(gR A11 (some a0) 11 31).bind fun v14 =>
(aI A11 v14 p1).bind fun v15 =>
(sI A11 v12 v13 (((32 : Int32) * (((128 : Int32) * v15) + p1)) + p2)).bind fun A16 =>
(gR A16 (some a0) 11 45).bind fun v17 =>
(gI A16 (some a0) 11 41).bind fun v18 =>
(gI A16 (some a0) 11 52).bind fun v19 =>
(gI A16 (some a0) 11 53).bind fun v20 =>
(sI A16 v17 v18 (((16 : Int32) * v19) + v20)).bind fun A21 =>
(gR A21 (some a0) 11 46).bind fun v22 =>
(gI A21 (some a0) 11 41).bind fun v23 =>
(sI A21 v22 v23 p3).bind fun A24 =>
(gR A24 (some a0) 11 47).bind fun v25 =>
(gI A24 (some a0) 11 41).bind fun v26 =>
(sI A24 v25 v26 p4).bind fun A27 =>
(gR A27 (some a0) 11 48).bind fun v28 =>
(gI A27 (some a0) 11 41).bind fun v29 =>
(sI A27 v28 v29 p5).bind fun A30 =>
(gI A30 (some a0) 11 41).bind fun v31 =>
(pI A30 (some a0) 11 41 (v31 + (1 : Int32))).bind fun A32 =>
some A32) fun j9 =>
if v8 ≤ v7 then (j9 v8) else
j9 v7

set_option maxHeartbeats 4000000 in
set_option maxRecDepth 100000 in
theorem sX11_ask (l : Launch) (D : DE) (a0 : Nat) (p1 : Int32) (p2 : Int32) (p3 : Int32) (p4 : Int32) (p5 : Int32) (A : AH) (g : AH) (hg : fX11_ask a0 p1 p2 p3 p4 p5 A = some g) : Sm l D yX11_ask cX11_ask 6 none 0 0 [tR (some a0), tI p1, tI p2, tI p3, tI p4, tI p5] A (wU g).1 (wU g).2 := by
  refine Sm.of (ω := wU) (fX11_ask a0 p1 p2 p3 p4 p5 A) [some (tR (some a0)), some (tI p1), some (tI p2), some (tI p3), some (tI p4), some (tI p5)] (by decide) (Nat.le_of_ble_eq_true rfl) rfl hg ?_
  intro p e R s m args below meth c X hin
  have X : Cx D cX11_ask RX11 6 0 0 none p R s m args meth c := X
  unfold fX11_ask
  refine rf_aload_n X rfl dX11_ask_0 ?_
  refine rf_bind (fun v1 hv1 => ?_)
  refine rf_getR X fl_X11_87 hv1 dX11_ask_1 ?_
  refine rf_aload_n X rfl dX11_ask_4 ?_
  refine rf_bind (fun v2 hv2 => ?_)
  refine rf_getI X fl_X11_129 hv2 dX11_ask_5 ?_
  refine rf_aload_n X rfl dX11_ask_8 ?_
  refine rf_bind (fun v3 hv3 => ?_)
  refine rf_getR X fl_X11_105 hv3 dX11_ask_9 ?_
  refine rf_iload_n X rfl dX11_ask_12 ?_
  refine rf_bind (fun v4 hv4 => ?_)
  refine rf_iald X hv4 dX11_ask_13 ?_
  refine rf_bind (fun A5 hA5 => ?_)
  refine rf_iast X hA5 dX11_ask_14 ?_
  refine rf_aload_n X rfl dX11_ask_15 ?_
  refine rf_aload_n X rfl dX11_ask_16 ?_
  refine rf_bind (fun v6 hv6 => ?_)
  refine rf_getR X fl_X11_105 hv6 dX11_ask_17 ?_
  refine rf_iload_n X rfl dX11_ask_20 ?_
  refine rf_bind (fun v7 hv7 => ?_)
  refine rf_iald X hv7 dX11_ask_21 ?_
  refine rf_aload_n X rfl dX11_ask_22 ?_
  refine rf_bind (fun v8 hv8 => ?_)
  refine rf_getI X fl_X11_133 hv8 dX11_ask_23 ?_
  refine rf_jn2 (fun i => ∀ (y10 : Int32), RfX X l e below wU (i y10) 42 [some (tR (some a0)), some (tI p1), some (tI p2), some (tI p3), some (tI p4), some (tI p5)] [tI y10, tR (some a0)] A5) ?_ (fun j9 hj9 => ?_)
  · intro y10
    refine rf_bind (fun A11 hA11 => ?_)
    refine rf_putI X fp_X11_133 (fun h => by cases h) hA11 dX11_ask_42 ?_
    refine rf_aload_n X rfl dX11_ask_45 ?_
    refine rf_bind (fun v12 hv12 => ?_)
    refine rf_getR X fl_X11_90 hv12 dX11_ask_46 ?_
    refine rf_aload_n X rfl dX11_ask_49 ?_
    refine rf_bind (fun v13 hv13 => ?_)
    refine rf_getI X fl_X11_129 hv13 dX11_ask_50 ?_
    refine rf_bipush X (32 : Int32) rfl dX11_ask_53 ?_
    refine rf_sipush X (128 : Int32) rfl dX11_ask_55 ?_
    refine rf_aload_n X rfl dX11_ask_58 ?_
    refine rf_bind (fun v14 hv14 => ?_)
    refine rf_getR X fl_X11_54 hv14 dX11_ask_59 ?_
    refine rf_iload_n X rfl dX11_ask_62 ?_
    refine rf_bind (fun v15 hv15 => ?_)
    refine rf_iald X hv15 dX11_ask_63 ?_
    refine rf_imul X dX11_ask_64 ?_
    refine rf_iload_n X rfl dX11_ask_65 ?_
    refine rf_iadd X dX11_ask_66 ?_
    refine rf_imul X dX11_ask_67 ?_
    refine rf_iload_n X rfl dX11_ask_68 ?_
    refine rf_iadd X dX11_ask_69 ?_
    refine rf_bind (fun A16 hA16 => ?_)
    refine rf_iast X hA16 dX11_ask_70 ?_
    refine rf_aload_n X rfl dX11_ask_71 ?_
    refine rf_bind (fun v17 hv17 => ?_)
    refine rf_getR X fl_X11_93 hv17 dX11_ask_72 ?_
    refine rf_aload_n X rfl dX11_ask_75 ?_
    refine rf_bind (fun v18 hv18 => ?_)
    refine rf_getI X fl_X11_129 hv18 dX11_ask_76 ?_
    refine rf_bipush X (16 : Int32) rfl dX11_ask_79 ?_
    refine rf_aload_n X rfl dX11_ask_81 ?_
    refine rf_bind (fun v19 hv19 => ?_)
    refine rf_getI X fl_X11_220 hv19 dX11_ask_82 ?_
    refine rf_imul X dX11_ask_85 ?_
    refine rf_aload_n X rfl dX11_ask_86 ?_
    refine rf_bind (fun v20 hv20 => ?_)
    refine rf_getI X fl_X11_225 hv20 dX11_ask_87 ?_
    refine rf_iadd X dX11_ask_90 ?_
    refine rf_bind (fun A21 hA21 => ?_)
    refine rf_iast X hA21 dX11_ask_91 ?_
    refine rf_aload_n X rfl dX11_ask_92 ?_
    refine rf_bind (fun v22 hv22 => ?_)
    refine rf_getR X fl_X11_96 hv22 dX11_ask_93 ?_
    refine rf_aload_n X rfl dX11_ask_96 ?_
    refine rf_bind (fun v23 hv23 => ?_)
    refine rf_getI X fl_X11_129 hv23 dX11_ask_97 ?_
    refine rf_iload_n X rfl dX11_ask_100 ?_
    refine rf_bind (fun A24 hA24 => ?_)
    refine rf_iast X hA24 dX11_ask_101 ?_
    refine rf_aload_n X rfl dX11_ask_102 ?_
    refine rf_bind (fun v25 hv25 => ?_)
    refine rf_getR X fl_X11_99 hv25 dX11_ask_103 ?_
    refine rf_aload_n X rfl dX11_ask_106 ?_
    refine rf_bind (fun v26 hv26 => ?_)
    refine rf_getI X fl_X11_129 hv26 dX11_ask_107 ?_
    refine rf_iload X rfl dX11_ask_110 ?_
    refine rf_bind (fun A27 hA27 => ?_)
    refine rf_iast X hA27 dX11_ask_112 ?_
    refine rf_aload_n X rfl dX11_ask_113 ?_
    refine rf_bind (fun v28 hv28 => ?_)
    refine rf_getR X fl_X11_102 hv28 dX11_ask_114 ?_
    refine rf_aload_n X rfl dX11_ask_117 ?_
    refine rf_bind (fun v29 hv29 => ?_)
    refine rf_getI X fl_X11_129 hv29 dX11_ask_118 ?_
    refine rf_iload X rfl dX11_ask_121 ?_
    refine rf_bind (fun A30 hA30 => ?_)
    refine rf_iast X hA30 dX11_ask_123 ?_
    refine rf_aload_n X rfl dX11_ask_124 ?_
    refine rf_dup X rfl dX11_ask_125 ?_
    refine rf_bind (fun v31 hv31 => ?_)
    refine rf_getI X fl_X11_129 hv31 dX11_ask_126 ?_
    refine rf_iconst X (1 : Int32) rfl dX11_ask_129 ?_
    refine rf_iadd X dX11_ask_130 ?_
    refine rf_bind (fun A32 hA32 => ?_)
    refine rf_putI X fp_X11_129 (fun h => by cases h) hA32 dX11_ask_131 ?_
    exact rf_vret X rfl dX11_ask_134
  refine rf_icmp_ge X (tgt := 38) rfl dX11_ask_26 (fun c33 => rf_pos c33 ?_) (fun c33 => rf_neg c33 ?_)
  · refine rf_aload_n X rfl dX11_ask_38 ?_
    refine rf_getI X fl_X11_133 hv8 dX11_ask_39 ?_
    exact rf_go (hj9 v8) (And.intro rfl (And.intro rfl (And.intro rfl (And.intro rfl (And.intro rfl (And.intro rfl True.intro))))))
  refine rf_aload_n X rfl dX11_ask_29 ?_
  refine rf_getR X fl_X11_105 hv6 dX11_ask_30 ?_
  refine rf_iload_n X rfl dX11_ask_33 ?_
  refine rf_iald X hv7 dX11_ask_34 ?_
  refine rf_goto X (tgt := 42) rfl dX11_ask_35 ?_
  exact rf_go (hj9 v7) (And.intro rfl (And.intro rfl (And.intro rfl (And.intro rfl (And.intro rfl (And.intro rfl True.intro))))))

theorem dX11_touch_0 : decode cX11_touch 0 = .ok (.bipush 64, 2) := by decide +kernel
theorem dX11_touch_2 : decode cX11_touch 2 = .ok (.aload_n 0, 1) := by decide +kernel
theorem dX11_touch_3 : decode cX11_touch 3 = .ok (.getfield 54, 3) := by decide +kernel
theorem dX11_touch_6 : decode cX11_touch 6 = .ok (.iload_n 1, 1) := by decide +kernel
theorem dX11_touch_7 : decode cX11_touch 7 = .ok (.iaload, 1) := by decide +kernel
theorem dX11_touch_8 : decode cX11_touch 8 = .ok (.imul, 1) := by decide +kernel
theorem dX11_touch_9 : decode cX11_touch 9 = .ok (.iload_n 3, 1) := by decide +kernel
theorem dX11_touch_10 : decode cX11_touch 10 = .ok (.iadd, 1) := by decide +kernel
theorem dX11_touch_11 : decode cX11_touch 11 = .ok (.istore 5, 2) := by decide +kernel
theorem dX11_touch_13 : decode cX11_touch 13 = .ok (.aload_n 0, 1) := by decide +kernel
theorem dX11_touch_14 : decode cX11_touch 14 = .ok (.getfield 83, 3) := by decide +kernel
theorem dX11_touch_17 : decode cX11_touch 17 = .ok (.iload 5, 2) := by decide +kernel
theorem dX11_touch_19 : decode cX11_touch 19 = .ok (.iaload, 1) := by decide +kernel
theorem dX11_touch_20 : decode cX11_touch 20 = .ok (.istore 6, 2) := by decide +kernel
theorem dX11_touch_22 : decode cX11_touch 22 = .ok (.aload_n 0, 1) := by decide +kernel
theorem dX11_touch_23 : decode cX11_touch 23 = .ok (.getfield 220, 3) := by decide +kernel
theorem dX11_touch_26 : decode cX11_touch 26 = .ok (.bipush 53, 2) := by decide +kernel
theorem dX11_touch_28 : decode cX11_touch 28 = .ok (.if_icmp .eq 11, 3) := by decide +kernel
theorem dX11_touch_31 : decode cX11_touch 31 = .ok (.aload_n 0, 1) := by decide +kernel
theorem dX11_touch_32 : decode cX11_touch 32 = .ok (.getfield 67, 3) := by decide +kernel
theorem dX11_touch_35 : decode cX11_touch 35 = .ok (.iload_n 2, 1) := by decide +kernel
theorem dX11_touch_36 : decode cX11_touch 36 = .ok (.iload 6, 2) := by decide +kernel
theorem dX11_touch_38 : decode cX11_touch 38 = .ok (.iastore, 1) := by decide +kernel
theorem dX11_touch_39 : decode cX11_touch 39 = .ok (.aload_n 0, 1) := by decide +kernel
theorem dX11_touch_40 : decode cX11_touch 40 = .ok (.getfield 83, 3) := by decide +kernel
theorem dX11_touch_43 : decode cX11_touch 43 = .ok (.iload 5, 2) := by decide +kernel
theorem dX11_touch_45 : decode cX11_touch 45 = .ok (.aload_n 0, 1) := by decide +kernel
theorem dX11_touch_46 : decode cX11_touch 46 = .ok (.getfield 220, 3) := by decide +kernel
theorem dX11_touch_49 : decode cX11_touch 49 = .ok (.iload 6, 2) := by decide +kernel
theorem dX11_touch_51 : decode cX11_touch 51 = .ok (.iload 4, 2) := by decide +kernel
theorem dX11_touch_53 : decode cX11_touch 53 = .ok (.iconst 0, 1) := by decide +kernel
theorem dX11_touch_54 : decode cX11_touch 54 = .ok (.invokestatic 352, 3) := by decide +kernel
theorem dX11_touch_57 : decode cX11_touch 57 = .ok (.iastore, 1) := by decide +kernel
theorem dX11_touch_58 : decode cX11_touch 58 = .ok (.return_, 1) := by decide +kernel
def fX11_touch (a0 : Nat) (p1 : Int32) (p2 : Int32) (p3 : Int32) (p4 : Int32) (A : AH) : Option (AH) :=
(gR A (some a0) 11 31).bind fun v1 =>
(aI A v1 p1).bind fun v2 =>
(gR A (some a0) 11 40).bind fun v3 =>
(aI A v3 (((64 : Int32) * v2) + p3)).bind fun v4 =>
(gI A (some a0) 11 52).bind fun v5 =>
jn (fun (A7 : AH) =>
(gR A7 (some a0) 11 40).bind fun v8 =>
(gI A7 (some a0) 11 52).bind fun v9 =>
(fX11_left v9 v4 p4 (0 : Int32) A7).bind fun g10 =>
(sI A7 v8 (((64 : Int32) * v2) + p3) g10).bind fun A11 =>
some A11) fun j6 =>
if v5 = (53 : Int32) then (j6 A) else
(gR A (some a0) 11 35).bind fun v13 =>
(sI A v13 p2 v4).bind fun A14 =>
j6 A14

set_option maxHeartbeats 4000000 in
set_option maxRecDepth 100000 in
theorem sX11_touch (l : Launch) (D : DE) (a0 : Nat) (p1 : Int32) (p2 : Int32) (p3 : Int32) (p4 : Int32) (A : AH) (g : AH) (hg : fX11_touch a0 p1 p2 p3 p4 A = some g) : Sm l D yX11_touch cX11_touch 7 none 1 23 [tR (some a0), tI p1, tI p2, tI p3, tI p4] A (wU g).1 (wU g).2 := by
  refine Sm.of (ω := wU) (fX11_touch a0 p1 p2 p3 p4 A) [some (tR (some a0)), some (tI p1), some (tI p2), some (tI p3), some (tI p4), none, none] (by decide) (Nat.le_of_ble_eq_true rfl) rfl hg ?_
  intro p e R s m args below meth c X hin
  have X : Cx D cX11_touch RX11 7 1 23 none p R s m args meth c := X
  unfold fX11_touch
  refine rf_bipush X (64 : Int32) rfl dX11_touch_0 ?_
  refine rf_aload_n X rfl dX11_touch_2 ?_
  refine rf_bind (fun v1 hv1 => ?_)
  refine rf_getR X fl_X11_54 hv1 dX11_touch_3 ?_
  refine rf_iload_n X rfl dX11_touch_6 ?_
  refine rf_bind (fun v2 hv2 => ?_)
  refine rf_iald X hv2 dX11_touch_7 ?_
  refine rf_imul X dX11_touch_8 ?_
  refine rf_iload_n X rfl dX11_touch_9 ?_
  refine rf_iadd X dX11_touch_10 ?_
  refine rf_istore X (ls' := [some (tR (some a0)), some (tI p1), some (tI p2), some (tI p3), some (tI p4), some (tI (((64 : Int32) * v2) + p3)), none]) rfl (by decide) dX11_touch_11 ?_
  refine rf_aload_n X rfl dX11_touch_13 ?_
  refine rf_bind (fun v3 hv3 => ?_)
  refine rf_getR X fl_X11_83 hv3 dX11_touch_14 ?_
  refine rf_iload X rfl dX11_touch_17 ?_
  refine rf_bind (fun v4 hv4 => ?_)
  refine rf_iald X hv4 dX11_touch_19 ?_
  refine rf_istore X (ls' := [some (tR (some a0)), some (tI p1), some (tI p2), some (tI p3), some (tI p4), some (tI (((64 : Int32) * v2) + p3)), some (tI v4)]) rfl (by decide) dX11_touch_20 ?_
  refine rf_aload_n X rfl dX11_touch_22 ?_
  refine rf_bind (fun v5 hv5 => ?_)
  refine rf_getI X fl_X11_220 hv5 dX11_touch_23 ?_
  refine rf_bipush X (53 : Int32) rfl dX11_touch_26 ?_
  refine rf_jn2 (fun i => ∀ (A7 : AH), RfX X l e below wU (i A7) 39 [some (tR (some a0)), none, none, none, some (tI p4), some (tI (((64 : Int32) * v2) + p3)), some (tI v4)] [] A7) ?_ (fun j6 hj6 => ?_)
  · intro A7
    refine rf_aload_n X rfl dX11_touch_39 ?_
    refine rf_bind (fun v8 hv8 => ?_)
    refine rf_getR X fl_X11_83 hv8 dX11_touch_40 ?_
    refine rf_iload X rfl dX11_touch_43 ?_
    refine rf_aload_n X rfl dX11_touch_45 ?_
    refine rf_bind (fun v9 hv9 => ?_)
    refine rf_getI X fl_X11_220 hv9 dX11_touch_46 ?_
    refine rf_iload X rfl dX11_touch_49 ?_
    refine rf_iload X rfl dX11_touch_51 ?_
    refine rf_iconst X (0 : Int32) rfl dX11_touch_53 ?_
    refine rf_bind (fun g10 hg10 => ?_)
    refine rf_callSI X c_X11_352 ⟨Nat.le_of_ble_eq_true rfl, Nat.le_of_ble_eq_true rfl⟩ [tI v9, tI v4, tI p4, tI (0 : Int32)] rfl (Nat.le_of_ble_eq_true rfl) (sX11_left l D v9 v4 p4 (0 : Int32) A7 g10 hg10) dX11_touch_54 ?_
    refine rf_bind (fun A11 hA11 => ?_)
    refine rf_iast X hA11 dX11_touch_57 ?_
    exact rf_vret X rfl dX11_touch_58
  refine rf_icmp_eq X (tgt := 39) rfl dX11_touch_28 (fun c12 => rf_pos c12 ?_) (fun c12 => rf_neg c12 ?_)
  · exact rf_go (hj6 A) (And.intro rfl (And.intro rfl (And.intro rfl (And.intro rfl True.intro))))
  refine rf_aload_n X rfl dX11_touch_31 ?_
  refine rf_bind (fun v13 hv13 => ?_)
  refine rf_getR X fl_X11_67 hv13 dX11_touch_32 ?_
  refine rf_iload_n X rfl dX11_touch_35 ?_
  refine rf_iload X rfl dX11_touch_36 ?_
  refine rf_bind (fun A14 hA14 => ?_)
  refine rf_iast X hA14 dX11_touch_38 ?_
  exact rf_go (hj6 A14) (And.intro rfl (And.intro rfl (And.intro rfl (And.intro rfl True.intro))))

theorem dX11_from_0 : decode cX11_from 0 = .ok (.iload_n 1, 1) := by decide +kernel
theorem dX11_from_1 : decode cX11_from 1 = .ok (.aload_n 0, 1) := by decide +kernel
theorem dX11_from_2 : decode cX11_from 2 = .ok (.getfield 237, 3) := by decide +kernel
theorem dX11_from_5 : decode cX11_from 5 = .ok (.aload_n 0, 1) := by decide +kernel
theorem dX11_from_6 : decode cX11_from 6 = .ok (.getfield 7, 3) := by decide +kernel
theorem dX11_from_9 : decode cX11_from 9 = .ok (.iconst 1, 1) := by decide +kernel
theorem dX11_from_10 : decode cX11_from 10 = .ok (.isub, 1) := by decide +kernel
theorem dX11_from_11 : decode cX11_from 11 = .ok (.iand, 1) := by decide +kernel
theorem dX11_from_12 : decode cX11_from 12 = .ok (.ixor, 1) := by decide +kernel
theorem dX11_from_13 : decode cX11_from 13 = .ok (.istore_n 2, 1) := by decide +kernel
theorem dX11_from_14 : decode cX11_from 14 = .ok (.aload_n 0, 1) := by decide +kernel
theorem dX11_from_15 : decode cX11_from 15 = .ok (.getfield 111, 3) := by decide +kernel
theorem dX11_from_18 : decode cX11_from 18 = .ok (.iload_n 2, 1) := by decide +kernel
theorem dX11_from_19 : decode cX11_from 19 = .ok (.baload, 1) := by decide +kernel
theorem dX11_from_20 : decode cX11_from 20 = .ok (.ifCond .eq 12, 3) := by decide +kernel
theorem dX11_from_23 : decode cX11_from 23 = .ok (.aload_n 0, 1) := by decide +kernel
theorem dX11_from_24 : decode cX11_from 24 = .ok (.getfield 114, 3) := by decide +kernel
theorem dX11_from_27 : decode cX11_from 27 = .ok (.iload_n 2, 1) := by decide +kernel
theorem dX11_from_28 : decode cX11_from 28 = .ok (.iaload, 1) := by decide +kernel
theorem dX11_from_29 : decode cX11_from 29 = .ok (.goto 9, 3) := by decide +kernel
theorem dX11_from_32 : decode cX11_from 32 = .ok (.aload_n 0, 1) := by decide +kernel
theorem dX11_from_33 : decode cX11_from 33 = .ok (.getfield 114, 3) := by decide +kernel
theorem dX11_from_36 : decode cX11_from 36 = .ok (.iload_n 1, 1) := by decide +kernel
theorem dX11_from_37 : decode cX11_from 37 = .ok (.iaload, 1) := by decide +kernel
theorem dX11_from_38 : decode cX11_from 38 = .ok (.ireturn, 1) := by decide +kernel
def fX11_from (a0 : Nat) (p1 : Int32) (A : AH) : Option (Int32) :=
(gI A (some a0) 11 57).bind fun v1 =>
(gI A (some a0) 11 1).bind fun v2 =>
(gR A (some a0) 11 51).bind fun v3 =>
(aZ A v3 (p1 ^^^ (v1 &&& (v2 - (1 : Int32))))).bind fun v4 =>
jn (fun (y6 : Int32) =>
some y6) fun j5 =>
if v4 = 0 then ((gR A (some a0) 11 59).bind fun v8 =>
(aI A v8 p1).bind fun v9 =>
j5 v9) else
(gR A (some a0) 11 59).bind fun v10 =>
(aI A v10 (p1 ^^^ (v1 &&& (v2 - (1 : Int32))))).bind fun v11 =>
j5 v11

set_option maxHeartbeats 4000000 in
set_option maxRecDepth 100000 in
theorem sX11_from (l : Launch) (D : DE) (a0 : Nat) (p1 : Int32) (A : AH) (g : Int32) (hg : fX11_from a0 p1 A = some g) : Sm l D yX11_from cX11_from 3 (some Jvm.ClassFile.FieldType.int) 0 0 [tR (some a0), tI p1] A (qI A g).1 (qI A g).2 := by
  refine Sm.of (ω := qI A) (fX11_from a0 p1 A) [some (tR (some a0)), some (tI p1), none] (by decide) (Nat.le_of_ble_eq_true rfl) rfl hg ?_
  intro p e R s m args below meth c X hin
  have X : Cx D cX11_from RX11 3 0 0 (some Jvm.ClassFile.FieldType.int) p R s m args meth c := X
  unfold fX11_from
  refine rf_iload_n X rfl dX11_from_0 ?_
  refine rf_aload_n X rfl dX11_from_1 ?_
  refine rf_bind (fun v1 hv1 => ?_)
  refine rf_getI X fl_X11_237 hv1 dX11_from_2 ?_
  refine rf_aload_n X rfl dX11_from_5 ?_
  refine rf_bind (fun v2 hv2 => ?_)
  refine rf_getI X fl_X11_7 hv2 dX11_from_6 ?_
  refine rf_iconst X (1 : Int32) rfl dX11_from_9 ?_
  refine rf_isub X dX11_from_10 ?_
  refine rf_iand X dX11_from_11 ?_
  refine rf_ixor X dX11_from_12 ?_
  refine rf_istore_n X (ls' := [some (tR (some a0)), some (tI p1), some (tI (p1 ^^^ (v1 &&& (v2 - (1 : Int32)))))]) rfl (by decide) dX11_from_13 ?_
  refine rf_aload_n X rfl dX11_from_14 ?_
  refine rf_bind (fun v3 hv3 => ?_)
  refine rf_getR X fl_X11_111 hv3 dX11_from_15 ?_
  refine rf_iload_n X rfl dX11_from_18 ?_
  refine rf_bind (fun v4 hv4 => ?_)
  refine rf_zald X hv4 dX11_from_19 ?_
  refine rf_jn2 (fun i => ∀ (y6 : Int32), RfX X l e below (qI A) (i y6) 38 [none, none, none] [tI y6] A) ?_ (fun j5 hj5 => ?_)
  · intro y6
    exact rf_iret X rfl dX11_from_38
  refine rf_if_eq X (tgt := 32) rfl dX11_from_20 (fun c7 => rf_pos c7 ?_) (fun c7 => rf_neg c7 ?_)
  · refine rf_aload_n X rfl dX11_from_32 ?_
    refine rf_bind (fun v8 hv8 => ?_)
    refine rf_getR X fl_X11_114 hv8 dX11_from_33 ?_
    refine rf_iload_n X rfl dX11_from_36 ?_
    refine rf_bind (fun v9 hv9 => ?_)
    refine rf_iald X hv9 dX11_from_37 ?_
    exact rf_go (hj5 v9) True.intro
  refine rf_aload_n X rfl dX11_from_23 ?_
  refine rf_bind (fun v10 hv10 => ?_)
  refine rf_getR X fl_X11_114 hv10 dX11_from_24 ?_
  refine rf_iload_n X rfl dX11_from_27 ?_
  refine rf_bind (fun v11 hv11 => ?_)
  refine rf_iald X hv11 dX11_from_28 ?_
  refine rf_goto X (tgt := 38) rfl dX11_from_29 ?_
  exact rf_go (hj5 v11) True.intro

