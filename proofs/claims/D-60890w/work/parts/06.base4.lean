/-! BASE 4: rows, an instruction each: what does not touch the heap -/
section RW
variable {α : Type} {D : DE} {ω : α → Option TV × AH} {cc : ByteArray} {own : String} {nL fr lo : Nat} {ret : Option FieldType}
  {p : Program} {l : Launch} {e : Env} {R : Room} {s : State} {m : MethodId} {args : Array Value} {below : List Frame} {meth : Method} {c : Code}
  {t : Option α} {pc : Nat} {ls ls' : List (Option TV)} {rest : List TV} {A : AH}
theorem rf_iadd (X : Cx D cc own nL fr lo ret p R s m args meth c) {x y : Int32} (d : decode cc pc = .ok (.iadd, 1)) (k : Rf D ω nL p l e R s m args below meth c t (pc + 1) ls (tI (x + y) :: rest) A) : Rf D ω nL p l e R s m args below meth c t pc ls (tI y :: tI x :: rest) A :=
  fun r h H locs la cells slots hA hl => lv_iadd X.1 X.2.1 d (k r h H locs la cells slots hA hl)
theorem rf_isub (X : Cx D cc own nL fr lo ret p R s m args meth c) {x y : Int32} (d : decode cc pc = .ok (.isub, 1)) (k : Rf D ω nL p l e R s m args below meth c t (pc + 1) ls (tI (x - y) :: rest) A) : Rf D ω nL p l e R s m args below meth c t pc ls (tI y :: tI x :: rest) A :=
  fun r h H locs la cells slots hA hl => lv_isub X.1 X.2.1 d (k r h H locs la cells slots hA hl)
theorem rf_imul (X : Cx D cc own nL fr lo ret p R s m args meth c) {x y : Int32} (d : decode cc pc = .ok (.imul, 1)) (k : Rf D ω nL p l e R s m args below meth c t (pc + 1) ls (tI (x * y) :: rest) A) : Rf D ω nL p l e R s m args below meth c t pc ls (tI y :: tI x :: rest) A :=
  fun r h H locs la cells slots hA hl => lv_imul X.1 X.2.1 d (k r h H locs la cells slots hA hl)
theorem rf_iand (X : Cx D cc own nL fr lo ret p R s m args meth c) {x y : Int32} (d : decode cc pc = .ok (.iand, 1)) (k : Rf D ω nL p l e R s m args below meth c t (pc + 1) ls (tI (x &&& y) :: rest) A) : Rf D ω nL p l e R s m args below meth c t pc ls (tI y :: tI x :: rest) A :=
  fun r h H locs la cells slots hA hl => lv_iand X.1 X.2.1 d (k r h H locs la cells slots hA hl)
theorem rf_ior (X : Cx D cc own nL fr lo ret p R s m args meth c) {x y : Int32} (d : decode cc pc = .ok (.ior, 1)) (k : Rf D ω nL p l e R s m args below meth c t (pc + 1) ls (tI (x ||| y) :: rest) A) : Rf D ω nL p l e R s m args below meth c t pc ls (tI y :: tI x :: rest) A :=
  fun r h H locs la cells slots hA hl => lv_ior X.1 X.2.1 d (k r h H locs la cells slots hA hl)
theorem rf_ixor (X : Cx D cc own nL fr lo ret p R s m args meth c) {x y : Int32} (d : decode cc pc = .ok (.ixor, 1)) (k : Rf D ω nL p l e R s m args below meth c t (pc + 1) ls (tI (x ^^^ y) :: rest) A) : Rf D ω nL p l e R s m args below meth c t pc ls (tI y :: tI x :: rest) A :=
  fun r h H locs la cells slots hA hl => lv_ixor X.1 X.2.1 d (k r h H locs la cells slots hA hl)
theorem rf_ishl (X : Cx D cc own nL fr lo ret p R s m args meth c) {x y : Int32} (d : decode cc pc = .ok (.ishl, 1)) (k : Rf D ω nL p l e R s m args below meth c t (pc + 1) ls (tI (x <<< (y &&& 31)) :: rest) A) : Rf D ω nL p l e R s m args below meth c t pc ls (tI y :: tI x :: rest) A :=
  fun r h H locs la cells slots hA hl => lv_ishl X.1 X.2.1 d (k r h H locs la cells slots hA hl)
theorem rf_ishr (X : Cx D cc own nL fr lo ret p R s m args meth c) {x y : Int32} (d : decode cc pc = .ok (.ishr, 1)) (k : Rf D ω nL p l e R s m args below meth c t (pc + 1) ls (tI (x >>> (y &&& 31)) :: rest) A) : Rf D ω nL p l e R s m args below meth c t pc ls (tI y :: tI x :: rest) A :=
  fun r h H locs la cells slots hA hl => lv_ishr X.1 X.2.1 d (k r h H locs la cells slots hA hl)
theorem rf_idiv (X : Cx D cc own nL fr lo ret p R s m args meth c) {x y : Int32} (hne : ¬ y = 0) (d : decode cc pc = .ok (.idiv, 1)) (k : Rf D ω nL p l e R s m args below meth c t (pc + 1) ls (tI (x / y) :: rest) A) : Rf D ω nL p l e R s m args below meth c t pc ls (tI y :: tI x :: rest) A :=
  fun r h H locs la cells slots hA hl => lv_idiv X.1 X.2.1 d hne (k r h H locs la cells slots hA hl)
theorem rf_irem (X : Cx D cc own nL fr lo ret p R s m args meth c) {x y : Int32} (hne : ¬ y = 0) (d : decode cc pc = .ok (.irem, 1)) (k : Rf D ω nL p l e R s m args below meth c t (pc + 1) ls (tI (x - x / y * y) :: rest) A) : Rf D ω nL p l e R s m args below meth c t pc ls (tI y :: tI x :: rest) A :=
  fun r h H locs la cells slots hA hl => lv_irem X.1 X.2.1 d hne (k r h H locs la cells slots hA hl)
theorem rf_iushr (X : Cx D cc own nL fr lo ret p R s m args meth c) {x y : Int32} (d : decode cc pc = .ok (.iushr, 1)) (k : Rf D ω nL p l e R s m args below meth c t (pc + 1) ls (tI ((x.toUInt32 >>> (y.toUInt32 &&& Int32.toUInt32 31)).toInt32) :: rest) A) : Rf D ω nL p l e R s m args below meth c t pc ls (tI y :: tI x :: rest) A :=
  fun r h H locs la cells slots hA hl => lv_iushr X.1 X.2.1 d rfl (k r h H locs la cells slots hA hl)
theorem rf_ineg (X : Cx D cc own nL fr lo ret p R s m args meth c) {x : Int32} (d : decode cc pc = .ok (.ineg, 1)) (k : Rf D ω nL p l e R s m args below meth c t (pc + 1) ls (tI (-x) :: rest) A) : Rf D ω nL p l e R s m args below meth c t pc ls (tI x :: rest) A :=
  fun r h H locs la cells slots hA hl => lv_ineg X.1 X.2.1 d (k r h H locs la cells slots hA hl)
theorem rf_lmul (X : Cx D cc own nL fr lo ret p R s m args meth c) {x y : Int64} (d : decode cc pc = .ok (.lmul, 1)) (k : Rf D ω nL p l e R s m args below meth c t (pc + 1) ls (tL (x * y) :: rest) A) : Rf D ω nL p l e R s m args below meth c t pc ls (tL y :: tL x :: rest) A :=
  fun r h H locs la cells slots hA hl => lv_lmul X.1 X.2.1 d (k r h H locs la cells slots hA hl)
theorem rf_land (X : Cx D cc own nL fr lo ret p R s m args meth c) {x y : Int64} (d : decode cc pc = .ok (.land, 1)) (k : Rf D ω nL p l e R s m args below meth c t (pc + 1) ls (tL (x &&& y) :: rest) A) : Rf D ω nL p l e R s m args below meth c t pc ls (tL y :: tL x :: rest) A :=
  fun r h H locs la cells slots hA hl => lv_land X.1 X.2.1 d (k r h H locs la cells slots hA hl)
theorem rf_lor (X : Cx D cc own nL fr lo ret p R s m args meth c) {x y : Int64} (d : decode cc pc = .ok (.lor, 1)) (k : Rf D ω nL p l e R s m args below meth c t (pc + 1) ls (tL (x ||| y) :: rest) A) : Rf D ω nL p l e R s m args below meth c t pc ls (tL y :: tL x :: rest) A :=
  fun r h H locs la cells slots hA hl => lv_lor X.1 X.2.1 d (k r h H locs la cells slots hA hl)
theorem rf_lshl (X : Cx D cc own nL fr lo ret p R s m args meth c) {x : Int64} {y : Int32} (d : decode cc pc = .ok (.lshl, 1)) (k : Rf D ω nL p l e R s m args below meth c t (pc + 1) ls (tL (x <<< (y.toInt64 &&& 63)) :: rest) A) : Rf D ω nL p l e R s m args below meth c t pc ls (tI y :: tL x :: rest) A :=
  fun r h H locs la cells slots hA hl => lv_lshl X.1 X.2.1 d rfl (k r h H locs la cells slots hA hl)
theorem rf_lshr (X : Cx D cc own nL fr lo ret p R s m args meth c) {x : Int64} {y : Int32} (d : decode cc pc = .ok (.lshr, 1)) (k : Rf D ω nL p l e R s m args below meth c t (pc + 1) ls (tL (x >>> (y.toInt64 &&& 63)) :: rest) A) : Rf D ω nL p l e R s m args below meth c t pc ls (tI y :: tL x :: rest) A :=
  fun r h H locs la cells slots hA hl => lv_lshr X.1 X.2.1 d rfl (k r h H locs la cells slots hA hl)
theorem rf_i2l (X : Cx D cc own nL fr lo ret p R s m args meth c) {x : Int32} (d : decode cc pc = .ok (.i2l, 1)) (k : Rf D ω nL p l e R s m args below meth c t (pc + 1) ls (tL x.toInt64 :: rest) A) : Rf D ω nL p l e R s m args below meth c t pc ls (tI x :: rest) A :=
  fun r h H locs la cells slots hA hl => lv_i2l X.1 X.2.1 d rfl (k r h H locs la cells slots hA hl)
theorem rf_l2i (X : Cx D cc own nL fr lo ret p R s m args meth c) {x : Int64} (d : decode cc pc = .ok (.l2i, 1)) (k : Rf D ω nL p l e R s m args below meth c t (pc + 1) ls (tI x.toInt32 :: rest) A) : Rf D ω nL p l e R s m args below meth c t pc ls (tL x :: rest) A :=
  fun r h H locs la cells slots hA hl => lv_l2i X.1 X.2.1 d rfl (k r h H locs la cells slots hA hl)
theorem rf_lcmp (X : Cx D cc own nL fr lo ret p R s m args meth c) {x y : Int64} (d : decode cc pc = .ok (.lcmp, 1)) (k : Rf D ω nL p l e R s m args below meth c t (pc + 1) ls (tI (lg_cmp x y) :: rest) A) : Rf D ω nL p l e R s m args below meth c t pc ls (tL y :: tL x :: rest) A :=
  fun r h H locs la cells slots hA hl => W.lcmp X.1 X.2.1 d (k r h H locs la cells slots hA hl)
theorem rf_iconst (X : Cx D cc own nL fr lo ret p R s m args meth c) {n : Int} (v : Int32) (hv : Int32.ofInt n = v) (d : decode cc pc = .ok (.iconst n, 1)) (k : Rf D ω nL p l e R s m args below meth c t (pc + 1) ls (tI v :: rest) A) : Rf D ω nL p l e R s m args below meth c t pc ls rest A :=
  fun r h H locs la cells slots hA hl => lv_iconst X.1 X.2.1 d hv (k r h H locs la cells slots hA hl)
theorem rf_bipush (X : Cx D cc own nL fr lo ret p R s m args meth c) {n : Int} (v : Int32) (hv : (Int8.ofInt n).toInt32 = v) (d : decode cc pc = .ok (.bipush n, 2)) (k : Rf D ω nL p l e R s m args below meth c t (pc + 2) ls (tI v :: rest) A) : Rf D ω nL p l e R s m args below meth c t pc ls rest A :=
  fun r h H locs la cells slots hA hl => lv_bipush X.1 X.2.1 d hv (k r h H locs la cells slots hA hl)
theorem rf_sipush (X : Cx D cc own nL fr lo ret p R s m args meth c) {n : Int} (v : Int32) (hv : (Int16.ofInt n).toInt32 = v) (d : decode cc pc = .ok (.sipush n, 3)) (k : Rf D ω nL p l e R s m args below meth c t (pc + 3) ls (tI v :: rest) A) : Rf D ω nL p l e R s m args below meth c t pc ls rest A :=
  fun r h H locs la cells slots hA hl => lv_sipush X.1 X.2.1 d hv (k r h H locs la cells slots hA hl)
theorem rf_lconst (X : Cx D cc own nL fr lo ret p R s m args meth c) {n : Fin 2} (v : Int64) (hv : Int64.ofNat (n : Nat) = v) (d : decode cc pc = .ok (.lconst n, 1)) (k : Rf D ω nL p l e R s m args below meth c t (pc + 1) ls (tL v :: rest) A) : Rf D ω nL p l e R s m args below meth c t pc ls rest A :=
  fun r h H locs la cells slots hA hl => lv_lconst X.1 X.2.1 d hv (k r h H locs la cells slots hA hl)
theorem rf_ldc (X : Cx D cc own nL fr lo ret p R s m args meth c) {v : Int32} {ix : Nat} (q : Cond.constant own ix v ∈ lw_all) (d : decode cc pc = .ok (.ldc ix, 2)) (k : Rf D ω nL p l e R s m args below meth c t (pc + 2) ls (tI v :: rest) A) : Rf D ω nL p l e R s m args below meth c t pc ls rest A :=
  fun r h H locs la cells slots hA hl => lv_ldc X.1 X.2.1 X.2.2.2.1 (X.2.2.2.2.1 _ q) d (k r h H locs la cells slots hA hl)
theorem rf_ldcw (X : Cx D cc own nL fr lo ret p R s m args meth c) {v : Int32} {ix : Nat} (q : Cond.constant own ix v ∈ lw_all) (d : decode cc pc = .ok (.ldc_w ix, 3)) (k : Rf D ω nL p l e R s m args below meth c t (pc + 3) ls (tI v :: rest) A) : Rf D ω nL p l e R s m args below meth c t pc ls rest A :=
  fun r h H locs la cells slots hA hl => lv_ldcw X.1 X.2.1 X.2.2.2.1 (X.2.2.2.2.1 _ q) d (k r h H locs la cells slots hA hl)
theorem rf_ldc2 (X : Cx D cc own nL fr lo ret p R s m args meth c) {v : Int64} {ix : Nat} (q : Cond.constantLong own ix v ∈ lw_all) (d : decode cc pc = .ok (.ldc2_w ix, 3)) (k : Rf D ω nL p l e R s m args below meth c t (pc + 3) ls (tL v :: rest) A) : Rf D ω nL p l e R s m args below meth c t pc ls rest A :=
  fun r h H locs la cells slots hA hl => lv_ldc2 X.1 X.2.1 X.2.2.2.1 (X.2.2.2.2.1 _ q) d (k r h H locs la cells slots hA hl)
theorem rf_null (X : Cx D cc own nL fr lo ret p R s m args meth c)  (d : decode cc pc = .ok (.aconst_null, 1)) (k : Rf D ω nL p l e R s m args below meth c t (pc + 1) ls (tR none :: rest) A) : Rf D ω nL p l e R s m args below meth c t pc ls rest A :=
  fun r h H locs la cells slots hA hl => lv_null X.1 X.2.1 d (k r h H locs la cells slots hA hl)
theorem rf_dup (X : Cx D cc own nL fr lo ret p R s m args meth c) {x : TV} (hx : tcat x = 1) (d : decode cc pc = .ok (.dup, 1)) (k : Rf D ω nL p l e R s m args below meth c t (pc + 1) ls (x :: x :: rest) A) : Rf D ω nL p l e R s m args below meth c t pc ls (x :: rest) A :=
  fun r h H locs la cells slots hA hl => lv_dup X.1 X.2.1 d ((tv_cat x).trans hx) (k r h H locs la cells slots hA hl)
theorem rf_pop (X : Cx D cc own nL fr lo ret p R s m args meth c) {x : TV} (hx : tcat x = 1) (d : decode cc pc = .ok (.pop, 1)) (k : Rf D ω nL p l e R s m args below meth c t (pc + 1) ls rest A) : Rf D ω nL p l e R s m args below meth c t pc ls (x :: rest) A :=
  fun r h H locs la cells slots hA hl => lv_pop X.1 X.2.1 d ((tv_cat x).trans hx) (k r h H locs la cells slots hA hl)
theorem rf_dup_x1 (X : Cx D cc own nL fr lo ret p R s m args meth c) {x y : TV} (hx : tcat x = 1) (hy : tcat y = 1) (d : decode cc pc = .ok (.dup_x1, 1)) (k : Rf D ω nL p l e R s m args below meth c t (pc + 1) ls (x :: y :: x :: rest) A) : Rf D ω nL p l e R s m args below meth c t pc ls (x :: y :: rest) A :=
  fun r h H locs la cells slots hA hl => lv_dup_x1 X.1 X.2.1 d ((tv_cat x).trans hx) ((tv_cat y).trans hy) (k r h H locs la cells slots hA hl)
theorem rf_dup2 (X : Cx D cc own nL fr lo ret p R s m args meth c) {x y : TV} (hx : tcat x = 1) (hy : tcat y = 1) (d : decode cc pc = .ok (.dup2, 1)) (k : Rf D ω nL p l e R s m args below meth c t (pc + 1) ls (x :: y :: x :: y :: rest) A) : Rf D ω nL p l e R s m args below meth c t pc ls (x :: y :: rest) A :=
  fun r h H locs la cells slots hA hl => lv_dup2_11 X.1 X.2.1 d ((tv_cat x).trans hx) ((tv_cat y).trans hy) (k r h H locs la cells slots hA hl)
theorem rf_iload (X : Cx D cc own nL fr lo ret p R s m args meth c) {i : Nat} {x : Int32} (hi : ls[i]? = some (some (tI x))) (d : decode cc pc = .ok (.iload i, 2)) (k : Rf D ω nL p l e R s m args below meth c t (pc + 2) ls (tI x :: rest) A) : Rf D ω nL p l e R s m args below meth c t pc ls rest A :=
  fun r h H locs la cells slots hA hl => lv_iload X.1 X.2.1 d (lvs_get hl hi) (k r h H locs la cells slots hA hl)
theorem rf_iload_n (X : Cx D cc own nL fr lo ret p R s m args meth c) {k4 : Fin 4} {x : Int32} (hi : ls[(k4 : Nat)]? = some (some (tI x))) (d : decode cc pc = .ok (.iload_n k4, 1)) (k : Rf D ω nL p l e R s m args below meth c t (pc + 1) ls (tI x :: rest) A) : Rf D ω nL p l e R s m args below meth c t pc ls rest A :=
  fun r h H locs la cells slots hA hl => lv_iload_n X.1 X.2.1 d rfl (lvs_get hl hi) (k r h H locs la cells slots hA hl)
theorem rf_lload_n (X : Cx D cc own nL fr lo ret p R s m args meth c) {k4 : Fin 4} {x : Int64} (hi : ls[(k4 : Nat)]? = some (some (tL x))) (d : decode cc pc = .ok (.lload_n k4, 1)) (k : Rf D ω nL p l e R s m args below meth c t (pc + 1) ls (tL x :: rest) A) : Rf D ω nL p l e R s m args below meth c t pc ls rest A :=
  fun r h H locs la cells slots hA hl => lv_lload_n X.1 X.2.1 d rfl (lvs_get hl hi) (k r h H locs la cells slots hA hl)
theorem rf_aload (X : Cx D cc own nL fr lo ret p R s m args meth c) {i : Nat} {x : Option Nat} (hi : ls[i]? = some (some (tR x))) (d : decode cc pc = .ok (.aload i, 2)) (k : Rf D ω nL p l e R s m args below meth c t (pc + 2) ls (tR x :: rest) A) : Rf D ω nL p l e R s m args below meth c t pc ls rest A := by
  intro r h H locs la cells slots hA hl
  cases x with
  | none => exact lv_aloadN X.1 X.2.1 d (lvs_get hl hi) (k r h H locs la cells slots hA hl)
  | some x => exact lv_aload X.1 X.2.1 d (lvs_get hl hi) (k r h H locs la cells slots hA hl)
theorem rf_aload_n (X : Cx D cc own nL fr lo ret p R s m args meth c) {k4 : Fin 4} {x : Option Nat} (hi : ls[(k4 : Nat)]? = some (some (tR x))) (d : decode cc pc = .ok (.aload_n k4, 1)) (k : Rf D ω nL p l e R s m args below meth c t (pc + 1) ls (tR x :: rest) A) : Rf D ω nL p l e R s m args below meth c t pc ls rest A := by
  intro r h H locs la cells slots hA hl
  cases x with
  | none => exact lv_aload_nN X.1 X.2.1 d rfl (lvs_get hl hi) (k r h H locs la cells slots hA hl)
  | some x => exact lv_aload_n X.1 X.2.1 d rfl (lvs_get hl hi) (k r h H locs la cells slots hA hl)
theorem rf_istore (X : Cx D cc own nL fr lo ret p R s m args meth c) {i : Nat} {x : Int32} (he : lset ls i (tI x) = ls') (hn : i < nL) (d : decode cc pc = .ok (.istore i, 2)) (k : Rf D ω nL p l e R s m args below meth c t (pc + 2) ls' rest A) : Rf D ω nL p l e R s m args below meth c t pc ls (tI x :: rest) A :=
  fun r h H locs la cells slots hA hl => lv_istore X.1 X.2.1 d hl hn rfl (fun la hl => k r h H locs la cells slots hA (lvs_set1 he hl))
theorem rf_istore_n (X : Cx D cc own nL fr lo ret p R s m args meth c) {k4 : Fin 4} {x : Int32} (he : lset ls (k4 : Nat) (tI x) = ls') (hn : (k4 : Nat) < nL) (d : decode cc pc = .ok (.istore_n k4, 1)) (k : Rf D ω nL p l e R s m args below meth c t (pc + 1) ls' rest A) : Rf D ω nL p l e R s m args below meth c t pc ls (tI x :: rest) A :=
  fun r h H locs la cells slots hA hl => lv_istore_n X.1 X.2.1 d rfl hl hn rfl (fun la hl => k r h H locs la cells slots hA (lvs_set1 he hl))
theorem rf_astore (X : Cx D cc own nL fr lo ret p R s m args meth c) {i : Nat} {x : Option Nat} (he : lset ls i (tR x) = ls') (hn : i < nL) (d : decode cc pc = .ok (.astore i, 2)) (k : Rf D ω nL p l e R s m args below meth c t (pc + 2) ls' rest A) : Rf D ω nL p l e R s m args below meth c t pc ls (tR x :: rest) A := by
  intro r h H locs la cells slots hA hl
  cases x with
  | none => exact lv_astoreN X.1 X.2.1 d hl hn rfl (fun la hl => k r h H locs la cells slots hA (lvs_set1 he hl))
  | some x => exact lv_astore X.1 X.2.1 d hl hn rfl (fun la hl => k r h H locs la cells slots hA (lvs_set1 he hl))
theorem rf_astore_n (X : Cx D cc own nL fr lo ret p R s m args meth c) {k4 : Fin 4} {x : Option Nat} (he : lset ls (k4 : Nat) (tR x) = ls') (hn : (k4 : Nat) < nL) (d : decode cc pc = .ok (.astore_n k4, 1)) (k : Rf D ω nL p l e R s m args below meth c t (pc + 1) ls' rest A) : Rf D ω nL p l e R s m args below meth c t pc ls (tR x :: rest) A := by
  intro r h H locs la cells slots hA hl
  cases x with
  | none => exact lv_astore_nN X.1 X.2.1 d rfl hl hn rfl (fun la hl => k r h H locs la cells slots hA (lvs_set1 he hl))
  | some x => exact lv_astore_n X.1 X.2.1 d rfl hl hn rfl (fun la hl => k r h H locs la cells slots hA (lvs_set1 he hl))
theorem rf_iinc (X : Cx D cc own nL fr lo ret p R s m args meth c) {i : Nat} {n : Int} {x : Int32} (v : Int32) (hi : ls[i]? = some (some (tI x))) (hv : x + Int32.ofInt n = v) (he : lset ls i (tI v) = ls') (hn : i < nL) (d : decode cc pc = .ok (.iinc i n, 3)) (k : Rf D ω nL p l e R s m args below meth c t (pc + 3) ls' rest A) : Rf D ω nL p l e R s m args below meth c t pc ls rest A := by
  intro r h H locs la cells slots hA hl
  obtain ⟨j, hj⟩ := List.getElem?_of_mem (mem_ents (i := 0).mpr ⟨i, tI x, hi, rfl⟩)
  rw [Nat.zero_add] at hj
  exact lv_iinc X.1 X.2.1 d hl hj hv hn rfl (fun la hl => k r h H locs la cells slots hA (lvs_set1 he hl))
theorem rf_icmp_lt (X : Cx D cc own nL fr lo ret p R s m args meth c) {x y : Int32} {off : Int} {tgt : Nat} (ht : (pc : Int) + off = (tgt : Int)) (d : decode cc pc = .ok (.if_icmp .lt off, 3)) (kt : x < y → Rf D ω nL p l e R s m args below meth c t tgt ls rest A) (kf : ¬ x < y → Rf D ω nL p l e R s m args below meth c t (pc + 3) ls rest A) : Rf D ω nL p l e R s m args below meth c t pc ls (tI y :: tI x :: rest) A :=
  fun r h H locs la cells slots hA hl => lv_icmp_lt X.1 X.2.1 d ht (fun g => kt g r h H locs la cells slots hA hl) (fun g => kf g r h H locs la cells slots hA hl)
theorem rf_icmp_ge (X : Cx D cc own nL fr lo ret p R s m args meth c) {x y : Int32} {off : Int} {tgt : Nat} (ht : (pc : Int) + off = (tgt : Int)) (d : decode cc pc = .ok (.if_icmp .ge off, 3)) (kt : y ≤ x → Rf D ω nL p l e R s m args below meth c t tgt ls rest A) (kf : ¬ y ≤ x → Rf D ω nL p l e R s m args below meth c t (pc + 3) ls rest A) : Rf D ω nL p l e R s m args below meth c t pc ls (tI y :: tI x :: rest) A :=
  fun r h H locs la cells slots hA hl => lv_icmp_ge X.1 X.2.1 d ht (fun g => kt g r h H locs la cells slots hA hl) (fun g => kf g r h H locs la cells slots hA hl)
theorem rf_icmp_gt (X : Cx D cc own nL fr lo ret p R s m args meth c) {x y : Int32} {off : Int} {tgt : Nat} (ht : (pc : Int) + off = (tgt : Int)) (d : decode cc pc = .ok (.if_icmp .gt off, 3)) (kt : y < x → Rf D ω nL p l e R s m args below meth c t tgt ls rest A) (kf : ¬ y < x → Rf D ω nL p l e R s m args below meth c t (pc + 3) ls rest A) : Rf D ω nL p l e R s m args below meth c t pc ls (tI y :: tI x :: rest) A :=
  fun r h H locs la cells slots hA hl => lv_icmp_gt X.1 X.2.1 d ht (fun g => kt g r h H locs la cells slots hA hl) (fun g => kf g r h H locs la cells slots hA hl)
theorem rf_icmp_le (X : Cx D cc own nL fr lo ret p R s m args meth c) {x y : Int32} {off : Int} {tgt : Nat} (ht : (pc : Int) + off = (tgt : Int)) (d : decode cc pc = .ok (.if_icmp .le off, 3)) (kt : x ≤ y → Rf D ω nL p l e R s m args below meth c t tgt ls rest A) (kf : ¬ x ≤ y → Rf D ω nL p l e R s m args below meth c t (pc + 3) ls rest A) : Rf D ω nL p l e R s m args below meth c t pc ls (tI y :: tI x :: rest) A :=
  fun r h H locs la cells slots hA hl => lv_icmp_le X.1 X.2.1 d ht (fun g => kt g r h H locs la cells slots hA hl) (fun g => kf g r h H locs la cells slots hA hl)
theorem rf_icmp_eq (X : Cx D cc own nL fr lo ret p R s m args meth c) {x y : Int32} {off : Int} {tgt : Nat} (ht : (pc : Int) + off = (tgt : Int)) (d : decode cc pc = .ok (.if_icmp .eq off, 3)) (kt : x = y → Rf D ω nL p l e R s m args below meth c t tgt ls rest A) (kf : ¬ x = y → Rf D ω nL p l e R s m args below meth c t (pc + 3) ls rest A) : Rf D ω nL p l e R s m args below meth c t pc ls (tI y :: tI x :: rest) A :=
  fun r h H locs la cells slots hA hl => lv_icmp_eq X.1 X.2.1 d ht (fun g => kt g r h H locs la cells slots hA hl) (fun g => kf g r h H locs la cells slots hA hl)
theorem rf_icmp_ne (X : Cx D cc own nL fr lo ret p R s m args meth c) {x y : Int32} {off : Int} {tgt : Nat} (ht : (pc : Int) + off = (tgt : Int)) (d : decode cc pc = .ok (.if_icmp .ne off, 3)) (kt : ¬ x = y → Rf D ω nL p l e R s m args below meth c t tgt ls rest A) (kf : x = y → Rf D ω nL p l e R s m args below meth c t (pc + 3) ls rest A) : Rf D ω nL p l e R s m args below meth c t pc ls (tI y :: tI x :: rest) A :=
  fun r h H locs la cells slots hA hl => lv_icmp_ne X.1 X.2.1 d ht (fun g => kt g r h H locs la cells slots hA hl) (fun g => kf g r h H locs la cells slots hA hl)
theorem rf_if_lt (X : Cx D cc own nL fr lo ret p R s m args meth c) {x : Int32} {off : Int} {tgt : Nat} (ht : (pc : Int) + off = (tgt : Int)) (d : decode cc pc = .ok (.ifCond .lt off, 3)) (kt : x < 0 → Rf D ω nL p l e R s m args below meth c t tgt ls rest A) (kf : ¬ x < 0 → Rf D ω nL p l e R s m args below meth c t (pc + 3) ls rest A) : Rf D ω nL p l e R s m args below meth c t pc ls (tI x :: rest) A :=
  fun r h H locs la cells slots hA hl => lv_if_lt X.1 X.2.1 d ht (fun g => kt g r h H locs la cells slots hA hl) (fun g => kf g r h H locs la cells slots hA hl)
theorem rf_if_ge (X : Cx D cc own nL fr lo ret p R s m args meth c) {x : Int32} {off : Int} {tgt : Nat} (ht : (pc : Int) + off = (tgt : Int)) (d : decode cc pc = .ok (.ifCond .ge off, 3)) (kt : 0 ≤ x → Rf D ω nL p l e R s m args below meth c t tgt ls rest A) (kf : ¬ 0 ≤ x → Rf D ω nL p l e R s m args below meth c t (pc + 3) ls rest A) : Rf D ω nL p l e R s m args below meth c t pc ls (tI x :: rest) A :=
  fun r h H locs la cells slots hA hl => lv_if_ge X.1 X.2.1 d ht (fun g => kt g r h H locs la cells slots hA hl) (fun g => kf g r h H locs la cells slots hA hl)
theorem rf_if_gt (X : Cx D cc own nL fr lo ret p R s m args meth c) {x : Int32} {off : Int} {tgt : Nat} (ht : (pc : Int) + off = (tgt : Int)) (d : decode cc pc = .ok (.ifCond .gt off, 3)) (kt : 0 < x → Rf D ω nL p l e R s m args below meth c t tgt ls rest A) (kf : ¬ 0 < x → Rf D ω nL p l e R s m args below meth c t (pc + 3) ls rest A) : Rf D ω nL p l e R s m args below meth c t pc ls (tI x :: rest) A :=
  fun r h H locs la cells slots hA hl => lv_if_gt X.1 X.2.1 d ht (fun g => kt g r h H locs la cells slots hA hl) (fun g => kf g r h H locs la cells slots hA hl)
theorem rf_if_le (X : Cx D cc own nL fr lo ret p R s m args meth c) {x : Int32} {off : Int} {tgt : Nat} (ht : (pc : Int) + off = (tgt : Int)) (d : decode cc pc = .ok (.ifCond .le off, 3)) (kt : x ≤ 0 → Rf D ω nL p l e R s m args below meth c t tgt ls rest A) (kf : ¬ x ≤ 0 → Rf D ω nL p l e R s m args below meth c t (pc + 3) ls rest A) : Rf D ω nL p l e R s m args below meth c t pc ls (tI x :: rest) A :=
  fun r h H locs la cells slots hA hl => lv_if_le X.1 X.2.1 d ht (fun g => kt g r h H locs la cells slots hA hl) (fun g => kf g r h H locs la cells slots hA hl)
theorem rf_if_eq (X : Cx D cc own nL fr lo ret p R s m args meth c) {x : Int32} {off : Int} {tgt : Nat} (ht : (pc : Int) + off = (tgt : Int)) (d : decode cc pc = .ok (.ifCond .eq off, 3)) (kt : x = 0 → Rf D ω nL p l e R s m args below meth c t tgt ls rest A) (kf : ¬ x = 0 → Rf D ω nL p l e R s m args below meth c t (pc + 3) ls rest A) : Rf D ω nL p l e R s m args below meth c t pc ls (tI x :: rest) A :=
  fun r h H locs la cells slots hA hl => lv_if_eq X.1 X.2.1 d ht (fun g => kt g r h H locs la cells slots hA hl) (fun g => kf g r h H locs la cells slots hA hl)
theorem rf_if_ne (X : Cx D cc own nL fr lo ret p R s m args meth c) {x : Int32} {off : Int} {tgt : Nat} (ht : (pc : Int) + off = (tgt : Int)) (d : decode cc pc = .ok (.ifCond .ne off, 3)) (kt : ¬ x = 0 → Rf D ω nL p l e R s m args below meth c t tgt ls rest A) (kf : x = 0 → Rf D ω nL p l e R s m args below meth c t (pc + 3) ls rest A) : Rf D ω nL p l e R s m args below meth c t pc ls (tI x :: rest) A :=
  fun r h H locs la cells slots hA hl => lv_if_ne X.1 X.2.1 d ht (fun g => kt g r h H locs la cells slots hA hl) (fun g => kf g r h H locs la cells slots hA hl)
theorem rf_acmp_eq (X : Cx D cc own nL fr lo ret p R s m args meth c) {x y : Option Nat} {off : Int} {tgt : Nat} (ht : (pc : Int) + off = (tgt : Int)) (d : decode cc pc = .ok (.if_acmp .eq off, 3)) (kt : x = y → Rf D ω nL p l e R s m args below meth c t tgt ls rest A) (kf : ¬ x = y → Rf D ω nL p l e R s m args below meth c t (pc + 3) ls rest A) : Rf D ω nL p l e R s m args below meth c t pc ls (tR y :: tR x :: rest) A :=
  fun r h H locs la cells slots hA hl => lv_acmp_eq X.1 X.2.1 d ht (fun g => kt g r h H locs la cells slots hA hl) (fun g => kf g r h H locs la cells slots hA hl)
theorem rf_acmp_ne (X : Cx D cc own nL fr lo ret p R s m args meth c) {x y : Option Nat} {off : Int} {tgt : Nat} (ht : (pc : Int) + off = (tgt : Int)) (d : decode cc pc = .ok (.if_acmp .ne off, 3)) (kt : ¬ x = y → Rf D ω nL p l e R s m args below meth c t tgt ls rest A) (kf : x = y → Rf D ω nL p l e R s m args below meth c t (pc + 3) ls rest A) : Rf D ω nL p l e R s m args below meth c t pc ls (tR y :: tR x :: rest) A :=
  fun r h H locs la cells slots hA hl => lv_acmp_ne X.1 X.2.1 d ht (fun g => kt g r h H locs la cells slots hA hl) (fun g => kf g r h H locs la cells slots hA hl)
theorem rf_ifnull (X : Cx D cc own nL fr lo ret p R s m args meth c) {x : Option Nat} {off : Int} {tgt : Nat} (ht : (pc : Int) + off = (tgt : Int)) (d : decode cc pc = .ok (.ifnull off, 3)) (kt : x = none → Rf D ω nL p l e R s m args below meth c t tgt ls rest A) (kf : ¬ x = none → Rf D ω nL p l e R s m args below meth c t (pc + 3) ls rest A) : Rf D ω nL p l e R s m args below meth c t pc ls (tR x :: rest) A := by
  intro r h H locs la cells slots hA hl
  cases x with
  | none => exact lv_ifnullN X.1 X.2.1 d ht (kt rfl r h H locs la cells slots hA hl)
  | some x => exact lv_ifnull X.1 X.2.1 d (kf (fun q => by cases q) r h H locs la cells slots hA hl)
theorem rf_ifnonnull (X : Cx D cc own nL fr lo ret p R s m args meth c) {x : Option Nat} {off : Int} {tgt : Nat} (ht : (pc : Int) + off = (tgt : Int)) (d : decode cc pc = .ok (.ifnonnull off, 3)) (kt : ¬ x = none → Rf D ω nL p l e R s m args below meth c t tgt ls rest A) (kf : x = none → Rf D ω nL p l e R s m args below meth c t (pc + 3) ls rest A) : Rf D ω nL p l e R s m args below meth c t pc ls (tR x :: rest) A := by
  intro r h H locs la cells slots hA hl
  cases x with
  | none => exact lv_ifnonnullN X.1 X.2.1 d (kf rfl r h H locs la cells slots hA hl)
  | some x => exact lv_ifnonnull X.1 X.2.1 d ht (kt (fun q => by cases q) r h H locs la cells slots hA hl)
theorem rf_tsIn (X : Cx D cc own nL fr lo ret p R s m args meth c) {dflt lo1 hi1 : Int} {offs : Array Int} {len : Nat} {x : Int32} {off : Int} {tgt : Nat} (v : Int32) (hv : x = v) (h1 : ¬ v.toInt < lo1) (h2 : ¬ hi1 < v.toInt) (ho : offs[(v.toInt - lo1).toNat]? = some off) (ht : (pc : Int) + off = (tgt : Int)) (d : decode cc pc = .ok (.tableswitch dflt lo1 hi1 offs, len)) (k : Rf D ω nL p l e R s m args below meth c t tgt ls rest A) : Rf D ω nL p l e R s m args below meth c t pc ls (tI x :: rest) A := by
  subst hv
  exact fun r h H locs la cells slots hA hl => lv_tableIn X.1 X.2.1 d h1 h2 ho ht (k r h H locs la cells slots hA hl)
theorem rf_tsOut (X : Cx D cc own nL fr lo ret p R s m args meth c) {dflt lo1 hi1 : Int} {offs : Array Int} {len : Nat} {x : Int32} {tgt : Nat} (hx : x.toInt < lo1 ∨ hi1 < x.toInt) (ht : (pc : Int) + dflt = (tgt : Int)) (d : decode cc pc = .ok (.tableswitch dflt lo1 hi1 offs, len)) (k : Rf D ω nL p l e R s m args below meth c t tgt ls rest A) : Rf D ω nL p l e R s m args below meth c t pc ls (tI x :: rest) A :=
  fun r h H locs la cells slots hA hl => lv_tableOut X.1 X.2.1 d hx ht (k r h H locs la cells slots hA hl)
theorem rf_goto (X : Cx D cc own nL fr lo ret p R s m args meth c) {off : Int} {tgt : Nat} (ht : (pc : Int) + off = (tgt : Int)) (d : decode cc pc = .ok (.goto off, 3)) (k : Rf D ω nL p l e R s m args below meth c t tgt ls rest A) : Rf D ω nL p l e R s m args below meth c t pc ls rest A :=
  fun r h H locs la cells slots hA hl => lv_goto X.1 X.2.1 d ht (k r h H locs la cells slots hA hl)
end RW
/-- a switch's default: x is none of its keys -/
theorem ts_out {x : Int32} (lo1 : Int) (n : Nat) (cs : List Int32) (hl : cs.map Int32.toInt = (List.range n).map (fun j => lo1 + (j : Nat))) (h : ∀ k ∈ cs, ¬ x = k) : x.toInt < lo1 ∨ lo1 + n - 1 < x.toInt := by
  by_cases h1 : x.toInt < lo1
  · exact Or.inl h1
  · by_cases h2 : lo1 + n - 1 < x.toInt
    · exact Or.inr h2
    · exfalso
      have h3 : x.toInt ∈ cs.map Int32.toInt := by
        rw [hl]
        exact List.mem_map.mpr ⟨(x.toInt - lo1).toNat, List.mem_range.mpr (by omega), by omega⟩
      obtain ⟨k, hk, he⟩ := List.mem_map.mp h3
      exact h k hk (Int32.toInt_inj.mp he).symm
