/-! 20.g13: printed by gen/parts.py -/
set_option maxRecDepth 100000
theorem dX7_isSo_0 : decode cX7_isSo 0 = .ok (.aload_n 0, 1) := by decide +kernel
theorem dX7_isSo_1 : decode cX7_isSo 1 = .ok (.getfield 400, 3) := by decide +kernel
theorem dX7_isSo_4 : decode cX7_isSo 4 = .ok (.aload_n 1, 1) := by decide +kernel
theorem dX7_isSo_5 : decode cX7_isSo 5 = .ok (.getfield 325, 3) := by decide +kernel
theorem dX7_isSo_8 : decode cX7_isSo 8 = .ok (.iconst 3, 1) := by decide +kernel
theorem dX7_isSo_9 : decode cX7_isSo 9 = .ok (.iand, 1) := by decide +kernel
theorem dX7_isSo_10 : decode cX7_isSo 10 = .ok (.baload, 1) := by decide +kernel
theorem dX7_isSo_11 : decode cX7_isSo 11 = .ok (.istore_n 2, 1) := by decide +kernel
theorem dX7_isSo_12 : decode cX7_isSo 12 = .ok (.aload_n 0, 1) := by decide +kernel
theorem dX7_isSo_13 : decode cX7_isSo 13 = .ok (.getfield 209, 3) := by decide +kernel
theorem dX7_isSo_16 : decode cX7_isSo 16 = .ok (.aload_n 1, 1) := by decide +kernel
theorem dX7_isSo_17 : decode cX7_isSo 17 = .ok (.getfield 325, 3) := by decide +kernel
theorem dX7_isSo_20 : decode cX7_isSo 20 = .ok (.iaload, 1) := by decide +kernel
theorem dX7_isSo_21 : decode cX7_isSo 21 = .ok (.istore_n 3, 1) := by decide +kernel
theorem dX7_isSo_22 : decode cX7_isSo 22 = .ok (.aload_n 1, 1) := by decide +kernel
theorem dX7_isSo_23 : decode cX7_isSo 23 = .ok (.getfield 313, 3) := by decide +kernel
theorem dX7_isSo_26 : decode cX7_isSo 26 = .ok (.tableswitch 152 30 35 #[38, 57, 76, 90, 104, 128], 38) := by decide +kernel
theorem dX7_isSo_64 : decode cX7_isSo 64 = .ok (.iload_n 3, 1) := by decide +kernel
theorem dX7_isSo_65 : decode cX7_isSo 65 = .ok (.aload_n 0, 1) := by decide +kernel
theorem dX7_isSo_66 : decode cX7_isSo 66 = .ok (.getfield 209, 3) := by decide +kernel
theorem dX7_isSo_69 : decode cX7_isSo 69 = .ok (.aload_n 1, 1) := by decide +kernel
theorem dX7_isSo_70 : decode cX7_isSo 70 = .ok (.getfield 334, 3) := by decide +kernel
theorem dX7_isSo_73 : decode cX7_isSo 73 = .ok (.iaload, 1) := by decide +kernel
theorem dX7_isSo_74 : decode cX7_isSo 74 = .ok (.if_icmp .ge 7, 3) := by decide +kernel
theorem dX7_isSo_77 : decode cX7_isSo 77 = .ok (.iconst 1, 1) := by decide +kernel
theorem dX7_isSo_78 : decode cX7_isSo 78 = .ok (.goto 4, 3) := by decide +kernel
theorem dX7_isSo_81 : decode cX7_isSo 81 = .ok (.iconst 0, 1) := by decide +kernel
theorem dX7_isSo_82 : decode cX7_isSo 82 = .ok (.ireturn, 1) := by decide +kernel
theorem dX7_isSo_83 : decode cX7_isSo 83 = .ok (.iload_n 3, 1) := by decide +kernel
theorem dX7_isSo_84 : decode cX7_isSo 84 = .ok (.aload_n 0, 1) := by decide +kernel
theorem dX7_isSo_85 : decode cX7_isSo 85 = .ok (.getfield 209, 3) := by decide +kernel
theorem dX7_isSo_88 : decode cX7_isSo 88 = .ok (.aload_n 1, 1) := by decide +kernel
theorem dX7_isSo_89 : decode cX7_isSo 89 = .ok (.getfield 334, 3) := by decide +kernel
theorem dX7_isSo_92 : decode cX7_isSo 92 = .ok (.iaload, 1) := by decide +kernel
theorem dX7_isSo_93 : decode cX7_isSo 93 = .ok (.if_icmp .ne 7, 3) := by decide +kernel
theorem dX7_isSo_96 : decode cX7_isSo 96 = .ok (.iconst 1, 1) := by decide +kernel
theorem dX7_isSo_97 : decode cX7_isSo 97 = .ok (.goto 4, 3) := by decide +kernel
theorem dX7_isSo_100 : decode cX7_isSo 100 = .ok (.iconst 0, 1) := by decide +kernel
theorem dX7_isSo_101 : decode cX7_isSo 101 = .ok (.ireturn, 1) := by decide +kernel
theorem dX7_isSo_102 : decode cX7_isSo 102 = .ok (.iload_n 3, 1) := by decide +kernel
theorem dX7_isSo_103 : decode cX7_isSo 103 = .ok (.aload_n 1, 1) := by decide +kernel
theorem dX7_isSo_104 : decode cX7_isSo 104 = .ok (.getfield 328, 3) := by decide +kernel
theorem dX7_isSo_107 : decode cX7_isSo 107 = .ok (.if_icmp .ge 7, 3) := by decide +kernel
theorem dX7_isSo_110 : decode cX7_isSo 110 = .ok (.iconst 1, 1) := by decide +kernel
theorem dX7_isSo_111 : decode cX7_isSo 111 = .ok (.goto 4, 3) := by decide +kernel
theorem dX7_isSo_114 : decode cX7_isSo 114 = .ok (.iconst 0, 1) := by decide +kernel
theorem dX7_isSo_115 : decode cX7_isSo 115 = .ok (.ireturn, 1) := by decide +kernel
theorem dX7_isSo_116 : decode cX7_isSo 116 = .ok (.iload_n 3, 1) := by decide +kernel
theorem dX7_isSo_117 : decode cX7_isSo 117 = .ok (.aload_n 1, 1) := by decide +kernel
theorem dX7_isSo_118 : decode cX7_isSo 118 = .ok (.getfield 328, 3) := by decide +kernel
theorem dX7_isSo_121 : decode cX7_isSo 121 = .ok (.if_icmp .ne 7, 3) := by decide +kernel
theorem dX7_isSo_124 : decode cX7_isSo 124 = .ok (.iconst 1, 1) := by decide +kernel
theorem dX7_isSo_125 : decode cX7_isSo 125 = .ok (.goto 4, 3) := by decide +kernel
theorem dX7_isSo_128 : decode cX7_isSo 128 = .ok (.iconst 0, 1) := by decide +kernel
theorem dX7_isSo_129 : decode cX7_isSo 129 = .ok (.ireturn, 1) := by decide +kernel
theorem dX7_isSo_130 : decode cX7_isSo 130 = .ok (.iload_n 2, 1) := by decide +kernel
theorem dX7_isSo_131 : decode cX7_isSo 131 = .ok (.ifCond .eq 21, 3) := by decide +kernel
theorem dX7_isSo_134 : decode cX7_isSo 134 = .ok (.aload_n 0, 1) := by decide +kernel
theorem dX7_isSo_135 : decode cX7_isSo 135 = .ok (.getfield 400, 3) := by decide +kernel
theorem dX7_isSo_138 : decode cX7_isSo 138 = .ok (.aload_n 1, 1) := by decide +kernel
theorem dX7_isSo_139 : decode cX7_isSo 139 = .ok (.getfield 334, 3) := by decide +kernel
theorem dX7_isSo_142 : decode cX7_isSo 142 = .ok (.iconst 3, 1) := by decide +kernel
theorem dX7_isSo_143 : decode cX7_isSo 143 = .ok (.iand, 1) := by decide +kernel
theorem dX7_isSo_144 : decode cX7_isSo 144 = .ok (.baload, 1) := by decide +kernel
theorem dX7_isSo_145 : decode cX7_isSo 145 = .ok (.ifCond .eq 7, 3) := by decide +kernel
theorem dX7_isSo_148 : decode cX7_isSo 148 = .ok (.iconst 1, 1) := by decide +kernel
theorem dX7_isSo_149 : decode cX7_isSo 149 = .ok (.goto 4, 3) := by decide +kernel
theorem dX7_isSo_152 : decode cX7_isSo 152 = .ok (.iconst 0, 1) := by decide +kernel
theorem dX7_isSo_153 : decode cX7_isSo 153 = .ok (.ireturn, 1) := by decide +kernel
theorem dX7_isSo_154 : decode cX7_isSo 154 = .ok (.iload_n 2, 1) := by decide +kernel
theorem dX7_isSo_155 : decode cX7_isSo 155 = .ok (.ifCond .ne 17, 3) := by decide +kernel
theorem dX7_isSo_158 : decode cX7_isSo 158 = .ok (.aload_n 0, 1) := by decide +kernel
theorem dX7_isSo_159 : decode cX7_isSo 159 = .ok (.getfield 400, 3) := by decide +kernel
theorem dX7_isSo_162 : decode cX7_isSo 162 = .ok (.aload_n 1, 1) := by decide +kernel
theorem dX7_isSo_163 : decode cX7_isSo 163 = .ok (.getfield 334, 3) := by decide +kernel
theorem dX7_isSo_166 : decode cX7_isSo 166 = .ok (.iconst 3, 1) := by decide +kernel
theorem dX7_isSo_167 : decode cX7_isSo 167 = .ok (.iand, 1) := by decide +kernel
theorem dX7_isSo_168 : decode cX7_isSo 168 = .ok (.baload, 1) := by decide +kernel
theorem dX7_isSo_169 : decode cX7_isSo 169 = .ok (.ifCond .eq 7, 3) := by decide +kernel
theorem dX7_isSo_172 : decode cX7_isSo 172 = .ok (.iconst 1, 1) := by decide +kernel
theorem dX7_isSo_173 : decode cX7_isSo 173 = .ok (.goto 4, 3) := by decide +kernel
theorem dX7_isSo_176 : decode cX7_isSo 176 = .ok (.iconst 0, 1) := by decide +kernel
theorem dX7_isSo_177 : decode cX7_isSo 177 = .ok (.ireturn, 1) := by decide +kernel
theorem dX7_isSo_178 : decode cX7_isSo 178 = .ok (.iload_n 2, 1) := by decide +kernel
theorem dX7_isSo_179 : decode cX7_isSo 179 = .ok (.ifCond .ne 7, 3) := by decide +kernel
theorem dX7_isSo_182 : decode cX7_isSo 182 = .ok (.iconst 1, 1) := by decide +kernel
theorem dX7_isSo_183 : decode cX7_isSo 183 = .ok (.goto 4, 3) := by decide +kernel
theorem dX7_isSo_186 : decode cX7_isSo 186 = .ok (.iconst 0, 1) := by decide +kernel
theorem dX7_isSo_187 : decode cX7_isSo 187 = .ok (.ireturn, 1) := by decide +kernel
def fX7_isSo (p1 : Option Nat) (p2 : Option Nat) (A : AH) : Option (Int32) :=
(gR A p1 14 1).bind fun v1 =>
(gI A p2 5 2).bind fun v2 =>
(aZ A v1 (v2 &&& (3 : Int32))).bind fun v3 =>
(gR A p1 14 0).bind fun v4 =>
(aI A v4 v2).bind fun v5 =>
(gI A p2 5 0).bind fun v6 =>
if v6 = (30 : Int32) then ((gI A p2 5 3).bind fun v8 =>
(aI A v4 v8).bind fun v9 =>
jn (fun (y11 : Int32) =>
some (nb y11)) fun j10 =>
if v9 ≤ v5 then (j10 (0 : Int32)) else
j10 (1 : Int32)) else
if v6 = (31 : Int32) then ((gI A p2 5 3).bind fun v14 =>
(aI A v4 v14).bind fun v15 =>
jn (fun (y17 : Int32) =>
some (nb y17)) fun j16 =>
if v5 = v15 then (j16 (1 : Int32)) else
j16 (0 : Int32)) else
if v6 = (32 : Int32) then ((gI A p2 5 5).bind fun v20 =>
jn (fun (y22 : Int32) =>
some (nb y22)) fun j21 =>
if v20 ≤ v5 then (j21 (0 : Int32)) else
j21 (1 : Int32)) else
if v6 = (33 : Int32) then ((gI A p2 5 5).bind fun v25 =>
jn (fun (y27 : Int32) =>
some (nb y27)) fun j26 =>
if v5 = v25 then (j26 (1 : Int32)) else
j26 (0 : Int32)) else
if v6 = (34 : Int32) then (jn (fun (y31 : Int32) =>
some (nb y31)) fun j30 =>
jn (j30 (0 : Int32)) fun j32 =>
if v3 = 0 then (j32) else
(gI A p2 5 3).bind fun v34 =>
(aZ A v1 (v34 &&& (3 : Int32))).bind fun v35 =>
if v35 = 0 then (j32) else
j30 (1 : Int32)) else
if v6 = (35 : Int32) then (jn (fun (y39 : Int32) =>
some (nb y39)) fun j38 =>
jn (j38 (1 : Int32)) fun j40 =>
if v3 = 0 then ((gI A p2 5 3).bind fun v42 =>
(aZ A v1 (v42 &&& (3 : Int32))).bind fun v43 =>
if v43 = 0 then (j38 (0 : Int32)) else
j40) else
j40) else
jn (fun (y46 : Int32) =>
some (nb y46)) fun j45 =>
if v3 = 0 then (j45 (1 : Int32)) else
j45 (0 : Int32)

set_option maxHeartbeats 4000000 in
set_option maxRecDepth 100000 in
theorem sX7_isSo (l : Launch) (D : DE) (p1 : Option Nat) (p2 : Option Nat) (A : AH) (g : Int32) (hg : fX7_isSo p1 p2 A = some g) : Sm l D yX7_isSo cX7_isSo 4 (some Jvm.ClassFile.FieldType.boolean) 0 0 [tR p1, tR p2] A (qI A g).1 (qI A g).2 := by
  refine Sm.of (ω := qI A) (fX7_isSo p1 p2 A) [some (tR p1), some (tR p2), none, none] (by decide) (Nat.le_of_ble_eq_true rfl) rfl hg ?_
  intro p e R s m args below meth c X hin
  have X : Cx D cX7_isSo RX7 4 0 0 (some Jvm.ClassFile.FieldType.boolean) p R s m args meth c := X
  unfold fX7_isSo
  refine rf_aload_n X rfl dX7_isSo_0 ?_
  refine rf_bind (fun v1 hv1 => ?_)
  refine rf_getR X fl_X7_400 hv1 dX7_isSo_1 ?_
  refine rf_aload_n X rfl dX7_isSo_4 ?_
  refine rf_bind (fun v2 hv2 => ?_)
  refine rf_getI X fl_X7_325 hv2 dX7_isSo_5 ?_
  refine rf_iconst X (3 : Int32) rfl dX7_isSo_8 ?_
  refine rf_iand X dX7_isSo_9 ?_
  refine rf_bind (fun v3 hv3 => ?_)
  refine rf_zald X hv3 dX7_isSo_10 ?_
  refine rf_istore_n X (ls' := [some (tR p1), some (tR p2), some (tI v3), none]) rfl (by decide) dX7_isSo_11 ?_
  refine rf_aload_n X rfl dX7_isSo_12 ?_
  refine rf_bind (fun v4 hv4 => ?_)
  refine rf_getR X fl_X7_209 hv4 dX7_isSo_13 ?_
  refine rf_aload_n X rfl dX7_isSo_16 ?_
  refine rf_getI X fl_X7_325 hv2 dX7_isSo_17 ?_
  refine rf_bind (fun v5 hv5 => ?_)
  refine rf_iald X hv5 dX7_isSo_20 ?_
  refine rf_istore_n X (ls' := [some (tR p1), some (tR p2), some (tI v3), some (tI v5)]) rfl (by decide) dX7_isSo_21 ?_
  refine rf_aload_n X rfl dX7_isSo_22 ?_
  refine rf_bind (fun v6 hv6 => ?_)
  refine rf_getI X fl_X7_313 hv6 dX7_isSo_23 ?_
  by_cases c7 : v6 = (30 : Int32)
  · refine rf_pos c7 ?_
    refine rf_tsIn X (30 : Int32) c7 (by decide) (by decide) (tgt := 64) rfl rfl dX7_isSo_26 ?_
    refine rf_iload_n X rfl dX7_isSo_64 ?_
    refine rf_aload_n X rfl dX7_isSo_65 ?_
    refine rf_getR X fl_X7_209 hv4 dX7_isSo_66 ?_
    refine rf_aload_n X rfl dX7_isSo_69 ?_
    refine rf_bind (fun v8 hv8 => ?_)
    refine rf_getI X fl_X7_334 hv8 dX7_isSo_70 ?_
    refine rf_bind (fun v9 hv9 => ?_)
    refine rf_iald X hv9 dX7_isSo_73 ?_
    refine rf_jn2 (fun i => ∀ (y11 : Int32), RfX X l e below (qI A) (i y11) 82 [none, none, none, none] [tI y11] A) ?_ (fun j10 hj10 => ?_)
    · intro y11
      exact rf_zret X rfl dX7_isSo_82
    refine rf_icmp_ge X (tgt := 81) rfl dX7_isSo_74 (fun c12 => rf_pos c12 ?_) (fun c12 => rf_neg c12 ?_)
    · refine rf_iconst X (0 : Int32) rfl dX7_isSo_81 ?_
      exact rf_go (hj10 (0 : Int32)) True.intro
    refine rf_iconst X (1 : Int32) rfl dX7_isSo_77 ?_
    refine rf_goto X (tgt := 82) rfl dX7_isSo_78 ?_
    exact rf_go (hj10 (1 : Int32)) True.intro
  refine rf_neg c7 ?_
  by_cases c13 : v6 = (31 : Int32)
  · refine rf_pos c13 ?_
    refine rf_tsIn X (31 : Int32) c13 (by decide) (by decide) (tgt := 83) rfl rfl dX7_isSo_26 ?_
    refine rf_iload_n X rfl dX7_isSo_83 ?_
    refine rf_aload_n X rfl dX7_isSo_84 ?_
    refine rf_getR X fl_X7_209 hv4 dX7_isSo_85 ?_
    refine rf_aload_n X rfl dX7_isSo_88 ?_
    refine rf_bind (fun v14 hv14 => ?_)
    refine rf_getI X fl_X7_334 hv14 dX7_isSo_89 ?_
    refine rf_bind (fun v15 hv15 => ?_)
    refine rf_iald X hv15 dX7_isSo_92 ?_
    refine rf_jn2 (fun i => ∀ (y17 : Int32), RfX X l e below (qI A) (i y17) 101 [none, none, none, none] [tI y17] A) ?_ (fun j16 hj16 => ?_)
    · intro y17
      exact rf_zret X rfl dX7_isSo_101
    refine rf_icmp_ne X (tgt := 100) rfl dX7_isSo_93 (fun c18 => rf_neg c18 ?_) (fun c18 => rf_pos c18 ?_)
    · refine rf_iconst X (0 : Int32) rfl dX7_isSo_100 ?_
      exact rf_go (hj16 (0 : Int32)) True.intro
    refine rf_iconst X (1 : Int32) rfl dX7_isSo_96 ?_
    refine rf_goto X (tgt := 101) rfl dX7_isSo_97 ?_
    exact rf_go (hj16 (1 : Int32)) True.intro
  refine rf_neg c13 ?_
  by_cases c19 : v6 = (32 : Int32)
  · refine rf_pos c19 ?_
    refine rf_tsIn X (32 : Int32) c19 (by decide) (by decide) (tgt := 102) rfl rfl dX7_isSo_26 ?_
    refine rf_iload_n X rfl dX7_isSo_102 ?_
    refine rf_aload_n X rfl dX7_isSo_103 ?_
    refine rf_bind (fun v20 hv20 => ?_)
    refine rf_getI X fl_X7_328 hv20 dX7_isSo_104 ?_
    refine rf_jn2 (fun i => ∀ (y22 : Int32), RfX X l e below (qI A) (i y22) 115 [none, none, none, none] [tI y22] A) ?_ (fun j21 hj21 => ?_)
    · intro y22
      exact rf_zret X rfl dX7_isSo_115
    refine rf_icmp_ge X (tgt := 114) rfl dX7_isSo_107 (fun c23 => rf_pos c23 ?_) (fun c23 => rf_neg c23 ?_)
    · refine rf_iconst X (0 : Int32) rfl dX7_isSo_114 ?_
      exact rf_go (hj21 (0 : Int32)) True.intro
    refine rf_iconst X (1 : Int32) rfl dX7_isSo_110 ?_
    refine rf_goto X (tgt := 115) rfl dX7_isSo_111 ?_
    exact rf_go (hj21 (1 : Int32)) True.intro
  refine rf_neg c19 ?_
  by_cases c24 : v6 = (33 : Int32)
  · refine rf_pos c24 ?_
    refine rf_tsIn X (33 : Int32) c24 (by decide) (by decide) (tgt := 116) rfl rfl dX7_isSo_26 ?_
    refine rf_iload_n X rfl dX7_isSo_116 ?_
    refine rf_aload_n X rfl dX7_isSo_117 ?_
    refine rf_bind (fun v25 hv25 => ?_)
    refine rf_getI X fl_X7_328 hv25 dX7_isSo_118 ?_
    refine rf_jn2 (fun i => ∀ (y27 : Int32), RfX X l e below (qI A) (i y27) 129 [none, none, none, none] [tI y27] A) ?_ (fun j26 hj26 => ?_)
    · intro y27
      exact rf_zret X rfl dX7_isSo_129
    refine rf_icmp_ne X (tgt := 128) rfl dX7_isSo_121 (fun c28 => rf_neg c28 ?_) (fun c28 => rf_pos c28 ?_)
    · refine rf_iconst X (0 : Int32) rfl dX7_isSo_128 ?_
      exact rf_go (hj26 (0 : Int32)) True.intro
    refine rf_iconst X (1 : Int32) rfl dX7_isSo_124 ?_
    refine rf_goto X (tgt := 129) rfl dX7_isSo_125 ?_
    exact rf_go (hj26 (1 : Int32)) True.intro
  refine rf_neg c24 ?_
  by_cases c29 : v6 = (34 : Int32)
  · refine rf_pos c29 ?_
    refine rf_tsIn X (34 : Int32) c29 (by decide) (by decide) (tgt := 130) rfl rfl dX7_isSo_26 ?_
    refine rf_iload_n X rfl dX7_isSo_130 ?_
    refine rf_jn2 (fun i => ∀ (y31 : Int32), RfX X l e below (qI A) (i y31) 153 [none, none, none, none] [tI y31] A) ?_ (fun j30 hj30 => ?_)
    · intro y31
      exact rf_zret X rfl dX7_isSo_153
    refine rf_jn2 (fun i => RfX X l e below (qI A) i 152 [none, none, none, none] [] A) ?_ (fun j32 hj32 => ?_)
    · show RfX X l e below _ _ _ _ _ _
      refine rf_iconst X (0 : Int32) rfl dX7_isSo_152 ?_
      exact rf_go (hj30 (0 : Int32)) True.intro
    refine rf_if_eq X (tgt := 152) rfl dX7_isSo_131 (fun c33 => rf_pos c33 ?_) (fun c33 => rf_neg c33 ?_)
    · exact rf_go hj32 True.intro
    refine rf_aload_n X rfl dX7_isSo_134 ?_
    refine rf_getR X fl_X7_400 hv1 dX7_isSo_135 ?_
    refine rf_aload_n X rfl dX7_isSo_138 ?_
    refine rf_bind (fun v34 hv34 => ?_)
    refine rf_getI X fl_X7_334 hv34 dX7_isSo_139 ?_
    refine rf_iconst X (3 : Int32) rfl dX7_isSo_142 ?_
    refine rf_iand X dX7_isSo_143 ?_
    refine rf_bind (fun v35 hv35 => ?_)
    refine rf_zald X hv35 dX7_isSo_144 ?_
    refine rf_if_eq X (tgt := 152) rfl dX7_isSo_145 (fun c36 => rf_pos c36 ?_) (fun c36 => rf_neg c36 ?_)
    · exact rf_go hj32 True.intro
    refine rf_iconst X (1 : Int32) rfl dX7_isSo_148 ?_
    refine rf_goto X (tgt := 153) rfl dX7_isSo_149 ?_
    exact rf_go (hj30 (1 : Int32)) True.intro
  refine rf_neg c29 ?_
  by_cases c37 : v6 = (35 : Int32)
  · refine rf_pos c37 ?_
    refine rf_tsIn X (35 : Int32) c37 (by decide) (by decide) (tgt := 154) rfl rfl dX7_isSo_26 ?_
    refine rf_iload_n X rfl dX7_isSo_154 ?_
    refine rf_jn2 (fun i => ∀ (y39 : Int32), RfX X l e below (qI A) (i y39) 177 [none, none, none, none] [tI y39] A) ?_ (fun j38 hj38 => ?_)
    · intro y39
      exact rf_zret X rfl dX7_isSo_177
    refine rf_jn2 (fun i => RfX X l e below (qI A) i 172 [none, none, none, none] [] A) ?_ (fun j40 hj40 => ?_)
    · show RfX X l e below _ _ _ _ _ _
      refine rf_iconst X (1 : Int32) rfl dX7_isSo_172 ?_
      refine rf_goto X (tgt := 177) rfl dX7_isSo_173 ?_
      exact rf_go (hj38 (1 : Int32)) True.intro
    refine rf_if_ne X (tgt := 172) rfl dX7_isSo_155 (fun c41 => rf_neg c41 ?_) (fun c41 => rf_pos c41 ?_)
    · exact rf_go hj40 True.intro
    refine rf_aload_n X rfl dX7_isSo_158 ?_
    refine rf_getR X fl_X7_400 hv1 dX7_isSo_159 ?_
    refine rf_aload_n X rfl dX7_isSo_162 ?_
    refine rf_bind (fun v42 hv42 => ?_)
    refine rf_getI X fl_X7_334 hv42 dX7_isSo_163 ?_
    refine rf_iconst X (3 : Int32) rfl dX7_isSo_166 ?_
    refine rf_iand X dX7_isSo_167 ?_
    refine rf_bind (fun v43 hv43 => ?_)
    refine rf_zald X hv43 dX7_isSo_168 ?_
    refine rf_if_eq X (tgt := 176) rfl dX7_isSo_169 (fun c44 => rf_pos c44 ?_) (fun c44 => rf_neg c44 ?_)
    · refine rf_iconst X (0 : Int32) rfl dX7_isSo_176 ?_
      exact rf_go (hj38 (0 : Int32)) True.intro
    exact rf_go hj40 True.intro
  refine rf_neg c37 ?_
  refine rf_tsOut X (ts_def (30) (35) [(30 : Int32), (31 : Int32), (32 : Int32), (33 : Int32), (34 : Int32), (35 : Int32)] 6 (by decide) (by decide) (List.forall_mem_cons.mpr ⟨c7, (List.forall_mem_cons.mpr ⟨c13, (List.forall_mem_cons.mpr ⟨c19, (List.forall_mem_cons.mpr ⟨c24, (List.forall_mem_cons.mpr ⟨c29, (List.forall_mem_cons.mpr ⟨c37, (fun _ h => absurd h List.not_mem_nil)⟩)⟩)⟩)⟩)⟩)⟩)) (tgt := 178) rfl dX7_isSo_26 ?_
  refine rf_iload_n X rfl dX7_isSo_178 ?_
  refine rf_jn2 (fun i => ∀ (y46 : Int32), RfX X l e below (qI A) (i y46) 187 [none, none, none, none] [tI y46] A) ?_ (fun j45 hj45 => ?_)
  · intro y46
    exact rf_zret X rfl dX7_isSo_187
  refine rf_if_ne X (tgt := 186) rfl dX7_isSo_179 (fun c47 => rf_neg c47 ?_) (fun c47 => rf_pos c47 ?_)
  · refine rf_iconst X (0 : Int32) rfl dX7_isSo_186 ?_
    exact rf_go (hj45 (0 : Int32)) True.intro
  refine rf_iconst X (1 : Int32) rfl dX7_isSo_182 ?_
  refine rf_goto X (tgt := 187) rfl dX7_isSo_183 ?_
  exact rf_go (hj45 (1 : Int32)) True.intro

theorem dX7_special_0 : decode cX7_special 0 = .ok (.iload_n 3, 1) := by decide +kernel
theorem dX7_special_1 : decode cX7_special 1 = .ok (.tableswitch 76 0 5 #[39, 51, 59, 64, 69, 71], 39) := by decide +kernel
theorem dX7_special_40 : decode cX7_special 40 = .ok (.aload_n 0, 1) := by decide +kernel
theorem dX7_special_41 : decode cX7_special 41 = .ok (.getfield 20, 3) := by decide +kernel
theorem dX7_special_44 : decode cX7_special 44 = .ok (.aload_n 1, 1) := by decide +kernel
theorem dX7_special_45 : decode cX7_special 45 = .ok (.getfield 276, 3) := by decide +kernel
theorem dX7_special_48 : decode cX7_special 48 = .ok (.imul, 1) := by decide +kernel
theorem dX7_special_49 : decode cX7_special 49 = .ok (.iload_n 2, 1) := by decide +kernel
theorem dX7_special_50 : decode cX7_special 50 = .ok (.iadd, 1) := by decide +kernel
theorem dX7_special_51 : decode cX7_special 51 = .ok (.ireturn, 1) := by decide +kernel
theorem dX7_special_52 : decode cX7_special 52 = .ok (.aload_n 1, 1) := by decide +kernel
theorem dX7_special_53 : decode cX7_special 53 = .ok (.getfield 268, 3) := by decide +kernel
theorem dX7_special_56 : decode cX7_special 56 = .ok (.getfield 271, 3) := by decide +kernel
theorem dX7_special_59 : decode cX7_special 59 = .ok (.ireturn, 1) := by decide +kernel
theorem dX7_special_60 : decode cX7_special 60 = .ok (.aload_n 0, 1) := by decide +kernel
theorem dX7_special_61 : decode cX7_special 61 = .ok (.getfield 88, 3) := by decide +kernel
theorem dX7_special_64 : decode cX7_special 64 = .ok (.ireturn, 1) := by decide +kernel
theorem dX7_special_65 : decode cX7_special 65 = .ok (.aload_n 0, 1) := by decide +kernel
theorem dX7_special_66 : decode cX7_special 66 = .ok (.getfield 85, 3) := by decide +kernel
theorem dX7_special_69 : decode cX7_special 69 = .ok (.ireturn, 1) := by decide +kernel
theorem dX7_special_70 : decode cX7_special 70 = .ok (.iload_n 2, 1) := by decide +kernel
theorem dX7_special_71 : decode cX7_special 71 = .ok (.ireturn, 1) := by decide +kernel
theorem dX7_special_72 : decode cX7_special 72 = .ok (.aload_n 1, 1) := by decide +kernel
theorem dX7_special_73 : decode cX7_special 73 = .ok (.getfield 276, 3) := by decide +kernel
theorem dX7_special_76 : decode cX7_special 76 = .ok (.ireturn, 1) := by decide +kernel
theorem dX7_special_77 : decode cX7_special 77 = .ok (.aload_n 0, 1) := by decide +kernel
theorem dX7_special_78 : decode cX7_special 78 = .ok (.getfield 20, 3) := by decide +kernel
theorem dX7_special_81 : decode cX7_special 81 = .ok (.ireturn, 1) := by decide +kernel
def fX7_special (a0 : Nat) (p1 : Option Nat) (p2 : Int32) (p3 : Int32) (A : AH) : Option (Int32) :=
if p3 = (0 : Int32) then ((gI A (some a0) 7 0).bind fun v2 =>
(gI A p1 13 1).bind fun v3 =>
some ((v2 * v3) + p2)) else
if p3 = (1 : Int32) then ((gR A p1 13 0).bind fun v5 =>
(gI A v5 12 0).bind fun v6 =>
some v6) else
if p3 = (2 : Int32) then ((gI A (some a0) 7 14).bind fun v8 =>
some v8) else
if p3 = (3 : Int32) then ((gI A (some a0) 7 13).bind fun v10 =>
some v10) else
if p3 = (4 : Int32) then (some p2) else
if p3 = (5 : Int32) then ((gI A p1 13 1).bind fun v13 =>
some v13) else
(gI A (some a0) 7 0).bind fun v14 =>
some v14

set_option maxHeartbeats 4000000 in
set_option maxRecDepth 100000 in
theorem sX7_special (l : Launch) (D : DE) (a0 : Nat) (p1 : Option Nat) (p2 : Int32) (p3 : Int32) (A : AH) (g : Int32) (hg : fX7_special a0 p1 p2 p3 A = some g) : Sm l D yX7_special cX7_special 4 (some Jvm.ClassFile.FieldType.int) 0 0 [tR (some a0), tR p1, tI p2, tI p3] A (qI A g).1 (qI A g).2 := by
  refine Sm.of (ω := qI A) (fX7_special a0 p1 p2 p3 A) [some (tR (some a0)), some (tR p1), some (tI p2), some (tI p3)] (by decide) (Nat.le_of_ble_eq_true rfl) rfl hg ?_
  intro p e R s m args below meth c X hin
  have X : Cx D cX7_special RX7 4 0 0 (some Jvm.ClassFile.FieldType.int) p R s m args meth c := X
  unfold fX7_special
  refine rf_iload_n X rfl dX7_special_0 ?_
  by_cases c1 : p3 = (0 : Int32)
  · refine rf_pos c1 ?_
    refine rf_tsIn X (0 : Int32) c1 (by decide) (by decide) (tgt := 40) rfl rfl dX7_special_1 ?_
    refine rf_aload_n X rfl dX7_special_40 ?_
    refine rf_bind (fun v2 hv2 => ?_)
    refine rf_getI X fl_X7_20 hv2 dX7_special_41 ?_
    refine rf_aload_n X rfl dX7_special_44 ?_
    refine rf_bind (fun v3 hv3 => ?_)
    refine rf_getI X fl_X7_276 hv3 dX7_special_45 ?_
    refine rf_imul X dX7_special_48 ?_
    refine rf_iload_n X rfl dX7_special_49 ?_
    refine rf_iadd X dX7_special_50 ?_
    exact rf_iret X rfl dX7_special_51
  refine rf_neg c1 ?_
  by_cases c4 : p3 = (1 : Int32)
  · refine rf_pos c4 ?_
    refine rf_tsIn X (1 : Int32) c4 (by decide) (by decide) (tgt := 52) rfl rfl dX7_special_1 ?_
    refine rf_aload_n X rfl dX7_special_52 ?_
    refine rf_bind (fun v5 hv5 => ?_)
    refine rf_getR X fl_X7_268 hv5 dX7_special_53 ?_
    refine rf_bind (fun v6 hv6 => ?_)
    refine rf_getI X fl_X7_271 hv6 dX7_special_56 ?_
    exact rf_iret X rfl dX7_special_59
  refine rf_neg c4 ?_
  by_cases c7 : p3 = (2 : Int32)
  · refine rf_pos c7 ?_
    refine rf_tsIn X (2 : Int32) c7 (by decide) (by decide) (tgt := 60) rfl rfl dX7_special_1 ?_
    refine rf_aload_n X rfl dX7_special_60 ?_
    refine rf_bind (fun v8 hv8 => ?_)
    refine rf_getI X fl_X7_88 hv8 dX7_special_61 ?_
    exact rf_iret X rfl dX7_special_64
  refine rf_neg c7 ?_
  by_cases c9 : p3 = (3 : Int32)
  · refine rf_pos c9 ?_
    refine rf_tsIn X (3 : Int32) c9 (by decide) (by decide) (tgt := 65) rfl rfl dX7_special_1 ?_
    refine rf_aload_n X rfl dX7_special_65 ?_
    refine rf_bind (fun v10 hv10 => ?_)
    refine rf_getI X fl_X7_85 hv10 dX7_special_66 ?_
    exact rf_iret X rfl dX7_special_69
  refine rf_neg c9 ?_
  by_cases c11 : p3 = (4 : Int32)
  · refine rf_pos c11 ?_
    refine rf_tsIn X (4 : Int32) c11 (by decide) (by decide) (tgt := 70) rfl rfl dX7_special_1 ?_
    refine rf_iload_n X rfl dX7_special_70 ?_
    exact rf_iret X rfl dX7_special_71
  refine rf_neg c11 ?_
  by_cases c12 : p3 = (5 : Int32)
  · refine rf_pos c12 ?_
    refine rf_tsIn X (5 : Int32) c12 (by decide) (by decide) (tgt := 72) rfl rfl dX7_special_1 ?_
    refine rf_aload_n X rfl dX7_special_72 ?_
    refine rf_bind (fun v13 hv13 => ?_)
    refine rf_getI X fl_X7_276 hv13 dX7_special_73 ?_
    exact rf_iret X rfl dX7_special_76
  refine rf_neg c12 ?_
  refine rf_tsOut X (ts_def (0) (5) [(0 : Int32), (1 : Int32), (2 : Int32), (3 : Int32), (4 : Int32), (5 : Int32)] 6 (by decide) (by decide) (List.forall_mem_cons.mpr ⟨c1, (List.forall_mem_cons.mpr ⟨c4, (List.forall_mem_cons.mpr ⟨c7, (List.forall_mem_cons.mpr ⟨c9, (List.forall_mem_cons.mpr ⟨c11, (List.forall_mem_cons.mpr ⟨c12, (fun _ h => absurd h List.not_mem_nil)⟩)⟩)⟩)⟩)⟩)⟩)) (tgt := 77) rfl dX7_special_1 ?_
  refine rf_aload_n X rfl dX7_special_77 ?_
  refine rf_bind (fun v14 hv14 => ?_)
  refine rf_getI X fl_X7_20 hv14 dX7_special_78 ?_
  exact rf_iret X rfl dX7_special_81

theorem dX7_reckoned_0 : decode cX7_reckoned 0 = .ok (.iload_n 0, 1) := by decide +kernel
theorem dX7_reckoned_1 : decode cX7_reckoned 1 = .ok (.tableswitch 142 4 16 #[67, 71, 75, 79, 93, 106, 110, 114, 118, 122, 126, 130, 136], 67) := by decide +kernel
theorem dX7_reckoned_68 : decode cX7_reckoned 68 = .ok (.iload_n 1, 1) := by decide +kernel
theorem dX7_reckoned_69 : decode cX7_reckoned 69 = .ok (.iload_n 2, 1) := by decide +kernel
theorem dX7_reckoned_70 : decode cX7_reckoned 70 = .ok (.iadd, 1) := by decide +kernel
theorem dX7_reckoned_71 : decode cX7_reckoned 71 = .ok (.ireturn, 1) := by decide +kernel
theorem dX7_reckoned_72 : decode cX7_reckoned 72 = .ok (.iload_n 1, 1) := by decide +kernel
theorem dX7_reckoned_73 : decode cX7_reckoned 73 = .ok (.iload_n 2, 1) := by decide +kernel
theorem dX7_reckoned_74 : decode cX7_reckoned 74 = .ok (.isub, 1) := by decide +kernel
theorem dX7_reckoned_75 : decode cX7_reckoned 75 = .ok (.ireturn, 1) := by decide +kernel
theorem dX7_reckoned_76 : decode cX7_reckoned 76 = .ok (.iload_n 1, 1) := by decide +kernel
theorem dX7_reckoned_77 : decode cX7_reckoned 77 = .ok (.iload_n 2, 1) := by decide +kernel
theorem dX7_reckoned_78 : decode cX7_reckoned 78 = .ok (.imul, 1) := by decide +kernel
theorem dX7_reckoned_79 : decode cX7_reckoned 79 = .ok (.ireturn, 1) := by decide +kernel
theorem dX7_reckoned_80 : decode cX7_reckoned 80 = .ok (.iload_n 2, 1) := by decide +kernel
theorem dX7_reckoned_81 : decode cX7_reckoned 81 = .ok (.iconst (-1), 1) := by decide +kernel
theorem dX7_reckoned_82 : decode cX7_reckoned 82 = .ok (.if_icmp .ne 8, 3) := by decide +kernel
theorem dX7_reckoned_85 : decode cX7_reckoned 85 = .ok (.iload_n 1, 1) := by decide +kernel
theorem dX7_reckoned_86 : decode cX7_reckoned 86 = .ok (.ineg, 1) := by decide +kernel
theorem dX7_reckoned_87 : decode cX7_reckoned 87 = .ok (.goto 6, 3) := by decide +kernel
theorem dX7_reckoned_90 : decode cX7_reckoned 90 = .ok (.iload_n 1, 1) := by decide +kernel
theorem dX7_reckoned_91 : decode cX7_reckoned 91 = .ok (.iload_n 2, 1) := by decide +kernel
theorem dX7_reckoned_92 : decode cX7_reckoned 92 = .ok (.idiv, 1) := by decide +kernel
theorem dX7_reckoned_93 : decode cX7_reckoned 93 = .ok (.ireturn, 1) := by decide +kernel
theorem dX7_reckoned_94 : decode cX7_reckoned 94 = .ok (.iload_n 2, 1) := by decide +kernel
theorem dX7_reckoned_95 : decode cX7_reckoned 95 = .ok (.iconst (-1), 1) := by decide +kernel
theorem dX7_reckoned_96 : decode cX7_reckoned 96 = .ok (.if_icmp .ne 7, 3) := by decide +kernel
theorem dX7_reckoned_99 : decode cX7_reckoned 99 = .ok (.iconst 0, 1) := by decide +kernel
theorem dX7_reckoned_100 : decode cX7_reckoned 100 = .ok (.goto 6, 3) := by decide +kernel
theorem dX7_reckoned_103 : decode cX7_reckoned 103 = .ok (.iload_n 1, 1) := by decide +kernel
theorem dX7_reckoned_104 : decode cX7_reckoned 104 = .ok (.iload_n 2, 1) := by decide +kernel
theorem dX7_reckoned_105 : decode cX7_reckoned 105 = .ok (.irem, 1) := by decide +kernel
theorem dX7_reckoned_106 : decode cX7_reckoned 106 = .ok (.ireturn, 1) := by decide +kernel
theorem dX7_reckoned_107 : decode cX7_reckoned 107 = .ok (.iload_n 1, 1) := by decide +kernel
theorem dX7_reckoned_108 : decode cX7_reckoned 108 = .ok (.iload_n 2, 1) := by decide +kernel
theorem dX7_reckoned_109 : decode cX7_reckoned 109 = .ok (.iand, 1) := by decide +kernel
theorem dX7_reckoned_110 : decode cX7_reckoned 110 = .ok (.ireturn, 1) := by decide +kernel
theorem dX7_reckoned_111 : decode cX7_reckoned 111 = .ok (.iload_n 1, 1) := by decide +kernel
theorem dX7_reckoned_112 : decode cX7_reckoned 112 = .ok (.iload_n 2, 1) := by decide +kernel
theorem dX7_reckoned_113 : decode cX7_reckoned 113 = .ok (.ior, 1) := by decide +kernel
theorem dX7_reckoned_114 : decode cX7_reckoned 114 = .ok (.ireturn, 1) := by decide +kernel
theorem dX7_reckoned_115 : decode cX7_reckoned 115 = .ok (.iload_n 1, 1) := by decide +kernel
theorem dX7_reckoned_116 : decode cX7_reckoned 116 = .ok (.iload_n 2, 1) := by decide +kernel
theorem dX7_reckoned_117 : decode cX7_reckoned 117 = .ok (.ixor, 1) := by decide +kernel
theorem dX7_reckoned_118 : decode cX7_reckoned 118 = .ok (.ireturn, 1) := by decide +kernel
theorem dX7_reckoned_119 : decode cX7_reckoned 119 = .ok (.iload_n 1, 1) := by decide +kernel
theorem dX7_reckoned_120 : decode cX7_reckoned 120 = .ok (.iload_n 2, 1) := by decide +kernel
theorem dX7_reckoned_121 : decode cX7_reckoned 121 = .ok (.ishl, 1) := by decide +kernel
theorem dX7_reckoned_122 : decode cX7_reckoned 122 = .ok (.ireturn, 1) := by decide +kernel
theorem dX7_reckoned_123 : decode cX7_reckoned 123 = .ok (.iload_n 1, 1) := by decide +kernel
theorem dX7_reckoned_124 : decode cX7_reckoned 124 = .ok (.iload_n 2, 1) := by decide +kernel
theorem dX7_reckoned_125 : decode cX7_reckoned 125 = .ok (.iushr, 1) := by decide +kernel
theorem dX7_reckoned_126 : decode cX7_reckoned 126 = .ok (.ireturn, 1) := by decide +kernel
theorem dX7_reckoned_127 : decode cX7_reckoned 127 = .ok (.iload_n 1, 1) := by decide +kernel
theorem dX7_reckoned_128 : decode cX7_reckoned 128 = .ok (.iload_n 2, 1) := by decide +kernel
theorem dX7_reckoned_129 : decode cX7_reckoned 129 = .ok (.ishr, 1) := by decide +kernel
theorem dX7_reckoned_130 : decode cX7_reckoned 130 = .ok (.ireturn, 1) := by decide +kernel
theorem dX7_reckoned_131 : decode cX7_reckoned 131 = .ok (.iload_n 1, 1) := by decide +kernel
theorem dX7_reckoned_132 : decode cX7_reckoned 132 = .ok (.iload_n 2, 1) := by decide +kernel
theorem dX7_reckoned_133 : decode cX7_reckoned 133 = .ok (.invokestatic 423, 3) := by decide +kernel
theorem dX7_reckoned_136 : decode cX7_reckoned 136 = .ok (.ireturn, 1) := by decide +kernel
theorem dX7_reckoned_137 : decode cX7_reckoned 137 = .ok (.iload_n 1, 1) := by decide +kernel
theorem dX7_reckoned_138 : decode cX7_reckoned 138 = .ok (.iload_n 2, 1) := by decide +kernel
theorem dX7_reckoned_139 : decode cX7_reckoned 139 = .ok (.invokestatic 373, 3) := by decide +kernel
theorem dX7_reckoned_142 : decode cX7_reckoned 142 = .ok (.ireturn, 1) := by decide +kernel
theorem dX7_reckoned_143 : decode cX7_reckoned 143 = .ok (.iload_n 1, 1) := by decide +kernel
theorem dX7_reckoned_144 : decode cX7_reckoned 144 = .ok (.i2l, 1) := by decide +kernel
theorem dX7_reckoned_145 : decode cX7_reckoned 145 = .ok (.iload_n 2, 1) := by decide +kernel
theorem dX7_reckoned_146 : decode cX7_reckoned 146 = .ok (.i2l, 1) := by decide +kernel
theorem dX7_reckoned_147 : decode cX7_reckoned 147 = .ok (.lmul, 1) := by decide +kernel
theorem dX7_reckoned_148 : decode cX7_reckoned 148 = .ok (.bipush 32, 2) := by decide +kernel
theorem dX7_reckoned_150 : decode cX7_reckoned 150 = .ok (.lshr, 1) := by decide +kernel
theorem dX7_reckoned_151 : decode cX7_reckoned 151 = .ok (.l2i, 1) := by decide +kernel
theorem dX7_reckoned_152 : decode cX7_reckoned 152 = .ok (.ireturn, 1) := by decide +kernel
def fX7_reckoned (p1 : Int32) (p2 : Int32) (p3 : Int32) (A : AH) : Option (Int32) :=
if p1 = (4 : Int32) then (some (p2 + p3)) else
if p1 = (5 : Int32) then (some (p2 - p3)) else
if p1 = (6 : Int32) then (some (p2 * p3)) else
if p1 = (7 : Int32) then (jn (fun (y6 : Int32) =>
some y6) fun j5 =>
if p3 = (-1 : Int32) then (j5 (-p2)) else
(dz p3).bind fun v8 =>
j5 (p2 / p3)) else
if p1 = (8 : Int32) then (jn (fun (y11 : Int32) =>
some y11) fun j10 =>
if p3 = (-1 : Int32) then (j10 (0 : Int32)) else
(dz p3).bind fun v13 =>
j10 (p2 - p2 / p3 * p3)) else
if p1 = (9 : Int32) then (some (p2 &&& p3)) else
if p1 = (10 : Int32) then (some (p2 ||| p3)) else
if p1 = (11 : Int32) then (some (p2 ^^^ p3)) else
if p1 = (12 : Int32) then (some (p2 <<< (p3 &&& 31))) else
if p1 = (13 : Int32) then (some ((Int32.toUInt32 p2 >>> (Int32.toUInt32 p3 &&& Int32.toUInt32 31)).toInt32)) else
if p1 = (14 : Int32) then (some (p2 >>> (p3 &&& 31))) else
if p1 = (15 : Int32) then (some (if p3 < p2 then p3 else p2)) else
if p1 = (16 : Int32) then (some (if p2 < p3 then p3 else p2)) else
some (Int64.toInt32 (((Int32.toInt64 p2) * (Int32.toInt64 p3)) >>> (Int32.toInt64 (32 : Int32) &&& 63)))

set_option maxHeartbeats 4000000 in
set_option maxRecDepth 100000 in
theorem sX7_reckoned (l : Launch) (D : DE) (p1 : Int32) (p2 : Int32) (p3 : Int32) (A : AH) (g : Int32) (hg : fX7_reckoned p1 p2 p3 A = some g) : Sm l D yX7_reckoned cX7_reckoned 3 (some Jvm.ClassFile.FieldType.int) 1 21 [tI p1, tI p2, tI p3] A (qI A g).1 (qI A g).2 := by
  refine Sm.of (ω := qI A) (fX7_reckoned p1 p2 p3 A) [some (tI p1), some (tI p2), some (tI p3)] (by decide) (Nat.le_of_ble_eq_true rfl) rfl hg ?_
  intro p e R s m args below meth c X hin
  have X : Cx D cX7_reckoned RX7 3 1 21 (some Jvm.ClassFile.FieldType.int) p R s m args meth c := X
  unfold fX7_reckoned
  refine rf_iload_n X rfl dX7_reckoned_0 ?_
  by_cases c1 : p1 = (4 : Int32)
  · refine rf_pos c1 ?_
    refine rf_tsIn X (4 : Int32) c1 (by decide) (by decide) (tgt := 68) rfl rfl dX7_reckoned_1 ?_
    refine rf_iload_n X rfl dX7_reckoned_68 ?_
    refine rf_iload_n X rfl dX7_reckoned_69 ?_
    refine rf_iadd X dX7_reckoned_70 ?_
    exact rf_iret X rfl dX7_reckoned_71
  refine rf_neg c1 ?_
  by_cases c2 : p1 = (5 : Int32)
  · refine rf_pos c2 ?_
    refine rf_tsIn X (5 : Int32) c2 (by decide) (by decide) (tgt := 72) rfl rfl dX7_reckoned_1 ?_
    refine rf_iload_n X rfl dX7_reckoned_72 ?_
    refine rf_iload_n X rfl dX7_reckoned_73 ?_
    refine rf_isub X dX7_reckoned_74 ?_
    exact rf_iret X rfl dX7_reckoned_75
  refine rf_neg c2 ?_
  by_cases c3 : p1 = (6 : Int32)
  · refine rf_pos c3 ?_
    refine rf_tsIn X (6 : Int32) c3 (by decide) (by decide) (tgt := 76) rfl rfl dX7_reckoned_1 ?_
    refine rf_iload_n X rfl dX7_reckoned_76 ?_
    refine rf_iload_n X rfl dX7_reckoned_77 ?_
    refine rf_imul X dX7_reckoned_78 ?_
    exact rf_iret X rfl dX7_reckoned_79
  refine rf_neg c3 ?_
  by_cases c4 : p1 = (7 : Int32)
  · refine rf_pos c4 ?_
    refine rf_tsIn X (7 : Int32) c4 (by decide) (by decide) (tgt := 80) rfl rfl dX7_reckoned_1 ?_
    refine rf_iload_n X rfl dX7_reckoned_80 ?_
    refine rf_iconst X (-1 : Int32) rfl dX7_reckoned_81 ?_
    refine rf_jn2 (fun i => ∀ (y6 : Int32), RfX X l e below (qI A) (i y6) 93 [none, none, none] [tI y6] A) ?_ (fun j5 hj5 => ?_)
    · intro y6
      exact rf_iret X rfl dX7_reckoned_93
    refine rf_icmp_ne X (tgt := 90) rfl dX7_reckoned_82 (fun c7 => rf_neg c7 ?_) (fun c7 => rf_pos c7 ?_)
    · refine rf_iload_n X rfl dX7_reckoned_90 ?_
      refine rf_iload_n X rfl dX7_reckoned_91 ?_
      refine rf_bind (fun v8 hv8 => ?_)
      refine rf_idiv X (dz_spec hv8) dX7_reckoned_92 ?_
      exact rf_go (hj5 (p2 / p3)) True.intro
    refine rf_iload_n X rfl dX7_reckoned_85 ?_
    refine rf_ineg X dX7_reckoned_86 ?_
    refine rf_goto X (tgt := 93) rfl dX7_reckoned_87 ?_
    exact rf_go (hj5 (-p2)) True.intro
  refine rf_neg c4 ?_
  by_cases c9 : p1 = (8 : Int32)
  · refine rf_pos c9 ?_
    refine rf_tsIn X (8 : Int32) c9 (by decide) (by decide) (tgt := 94) rfl rfl dX7_reckoned_1 ?_
    refine rf_iload_n X rfl dX7_reckoned_94 ?_
    refine rf_iconst X (-1 : Int32) rfl dX7_reckoned_95 ?_
    refine rf_jn2 (fun i => ∀ (y11 : Int32), RfX X l e below (qI A) (i y11) 106 [none, none, none] [tI y11] A) ?_ (fun j10 hj10 => ?_)
    · intro y11
      exact rf_iret X rfl dX7_reckoned_106
    refine rf_icmp_ne X (tgt := 103) rfl dX7_reckoned_96 (fun c12 => rf_neg c12 ?_) (fun c12 => rf_pos c12 ?_)
    · refine rf_iload_n X rfl dX7_reckoned_103 ?_
      refine rf_iload_n X rfl dX7_reckoned_104 ?_
      refine rf_bind (fun v13 hv13 => ?_)
      refine rf_irem X (dz_spec hv13) dX7_reckoned_105 ?_
      exact rf_go (hj10 (p2 - p2 / p3 * p3)) True.intro
    refine rf_iconst X (0 : Int32) rfl dX7_reckoned_99 ?_
    refine rf_goto X (tgt := 106) rfl dX7_reckoned_100 ?_
    exact rf_go (hj10 (0 : Int32)) True.intro
  refine rf_neg c9 ?_
  by_cases c14 : p1 = (9 : Int32)
  · refine rf_pos c14 ?_
    refine rf_tsIn X (9 : Int32) c14 (by decide) (by decide) (tgt := 107) rfl rfl dX7_reckoned_1 ?_
    refine rf_iload_n X rfl dX7_reckoned_107 ?_
    refine rf_iload_n X rfl dX7_reckoned_108 ?_
    refine rf_iand X dX7_reckoned_109 ?_
    exact rf_iret X rfl dX7_reckoned_110
  refine rf_neg c14 ?_
  by_cases c15 : p1 = (10 : Int32)
  · refine rf_pos c15 ?_
    refine rf_tsIn X (10 : Int32) c15 (by decide) (by decide) (tgt := 111) rfl rfl dX7_reckoned_1 ?_
    refine rf_iload_n X rfl dX7_reckoned_111 ?_
    refine rf_iload_n X rfl dX7_reckoned_112 ?_
    refine rf_ior X dX7_reckoned_113 ?_
    exact rf_iret X rfl dX7_reckoned_114
  refine rf_neg c15 ?_
  by_cases c16 : p1 = (11 : Int32)
  · refine rf_pos c16 ?_
    refine rf_tsIn X (11 : Int32) c16 (by decide) (by decide) (tgt := 115) rfl rfl dX7_reckoned_1 ?_
    refine rf_iload_n X rfl dX7_reckoned_115 ?_
    refine rf_iload_n X rfl dX7_reckoned_116 ?_
    refine rf_ixor X dX7_reckoned_117 ?_
    exact rf_iret X rfl dX7_reckoned_118
  refine rf_neg c16 ?_
  by_cases c17 : p1 = (12 : Int32)
  · refine rf_pos c17 ?_
    refine rf_tsIn X (12 : Int32) c17 (by decide) (by decide) (tgt := 119) rfl rfl dX7_reckoned_1 ?_
    refine rf_iload_n X rfl dX7_reckoned_119 ?_
    refine rf_iload_n X rfl dX7_reckoned_120 ?_
    refine rf_ishl X dX7_reckoned_121 ?_
    exact rf_iret X rfl dX7_reckoned_122
  refine rf_neg c17 ?_
  by_cases c18 : p1 = (13 : Int32)
  · refine rf_pos c18 ?_
    refine rf_tsIn X (13 : Int32) c18 (by decide) (by decide) (tgt := 123) rfl rfl dX7_reckoned_1 ?_
    refine rf_iload_n X rfl dX7_reckoned_123 ?_
    refine rf_iload_n X rfl dX7_reckoned_124 ?_
    refine rf_iushr X dX7_reckoned_125 ?_
    exact rf_iret X rfl dX7_reckoned_126
  refine rf_neg c18 ?_
  by_cases c19 : p1 = (14 : Int32)
  · refine rf_pos c19 ?_
    refine rf_tsIn X (14 : Int32) c19 (by decide) (by decide) (tgt := 127) rfl rfl dX7_reckoned_1 ?_
    refine rf_iload_n X rfl dX7_reckoned_127 ?_
    refine rf_iload_n X rfl dX7_reckoned_128 ?_
    refine rf_ishr X dX7_reckoned_129 ?_
    exact rf_iret X rfl dX7_reckoned_130
  refine rf_neg c19 ?_
  by_cases c20 : p1 = (15 : Int32)
  · refine rf_pos c20 ?_
    refine rf_tsIn X (15 : Int32) c20 (by decide) (by decide) (tgt := 131) rfl rfl dX7_reckoned_1 ?_
    refine rf_iload_n X rfl dX7_reckoned_131 ?_
    refine rf_iload_n X rfl dX7_reckoned_132 ?_
    refine rf_mmin X q1469 ⟨by decide, by decide⟩ (Nat.le_of_ble_eq_true rfl) dX7_reckoned_133 ?_
    exact rf_iret X rfl dX7_reckoned_136
  refine rf_neg c20 ?_
  by_cases c21 : p1 = (16 : Int32)
  · refine rf_pos c21 ?_
    refine rf_tsIn X (16 : Int32) c21 (by decide) (by decide) (tgt := 137) rfl rfl dX7_reckoned_1 ?_
    refine rf_iload_n X rfl dX7_reckoned_137 ?_
    refine rf_iload_n X rfl dX7_reckoned_138 ?_
    refine rf_mmax X q1096 ⟨by decide, by decide⟩ (Nat.le_of_ble_eq_true rfl) dX7_reckoned_139 ?_
    exact rf_iret X rfl dX7_reckoned_142
  refine rf_neg c21 ?_
  refine rf_tsOut X (ts_def (4) (16) [(4 : Int32), (5 : Int32), (6 : Int32), (7 : Int32), (8 : Int32), (9 : Int32), (10 : Int32), (11 : Int32), (12 : Int32), (13 : Int32), (14 : Int32), (15 : Int32), (16 : Int32)] 13 (by decide) (by decide) (List.forall_mem_cons.mpr ⟨c1, (List.forall_mem_cons.mpr ⟨c2, (List.forall_mem_cons.mpr ⟨c3, (List.forall_mem_cons.mpr ⟨c4, (List.forall_mem_cons.mpr ⟨c9, (List.forall_mem_cons.mpr ⟨c14, (List.forall_mem_cons.mpr ⟨c15, (List.forall_mem_cons.mpr ⟨c16, (List.forall_mem_cons.mpr ⟨c17, (List.forall_mem_cons.mpr ⟨c18, (List.forall_mem_cons.mpr ⟨c19, (List.forall_mem_cons.mpr ⟨c20, (List.forall_mem_cons.mpr ⟨c21, (fun _ h => absurd h List.not_mem_nil)⟩)⟩)⟩)⟩)⟩)⟩)⟩)⟩)⟩)⟩)⟩)⟩)⟩)) (tgt := 143) rfl dX7_reckoned_1 ?_
  refine rf_iload_n X rfl dX7_reckoned_143 ?_
  refine rf_i2l X dX7_reckoned_144 ?_
  refine rf_iload_n X rfl dX7_reckoned_145 ?_
  refine rf_i2l X dX7_reckoned_146 ?_
  refine rf_lmul X dX7_reckoned_147 ?_
  refine rf_bipush X (32 : Int32) rfl dX7_reckoned_148 ?_
  refine rf_lshr X dX7_reckoned_150 ?_
  refine rf_l2i X dX7_reckoned_151 ?_
  exact rf_iret X rfl dX7_reckoned_152

