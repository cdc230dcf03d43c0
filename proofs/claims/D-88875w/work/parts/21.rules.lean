/-! the rules of AWP: an instruction, a rule -/
theorem go_iadd {M : MI} {d pc : Nat} {L st : List AV} {h : Hp} {b : Nat × Nat} {Q : Rs → Hp → Prop} {x y : Int32} (q : Nat) (hd : decode M.2.1 pc = .ok (.iadd, 1)) (hq : pc + 1 = q) (k : AWP M d q L (vI (x + y) :: st) h b Q) : AWP M d pc L (vI y :: vI x :: st) h b Q := by
  subst hq
  intro p l e R s m args below meth c D A H locs cells slots ls C Rm1 W1 hl
  exact lv_iadd C.1 C.2.1 hd  (k p l e R s m args below meth c D A H locs cells slots ls C Rm1 W1 hl)
theorem go_isub {M : MI} {d pc : Nat} {L st : List AV} {h : Hp} {b : Nat × Nat} {Q : Rs → Hp → Prop} {x y : Int32} (q : Nat) (hd : decode M.2.1 pc = .ok (.isub, 1)) (hq : pc + 1 = q) (k : AWP M d q L (vI (x - y) :: st) h b Q) : AWP M d pc L (vI y :: vI x :: st) h b Q := by
  subst hq
  intro p l e R s m args below meth c D A H locs cells slots ls C Rm1 W1 hl
  exact lv_isub C.1 C.2.1 hd  (k p l e R s m args below meth c D A H locs cells slots ls C Rm1 W1 hl)
theorem go_imul {M : MI} {d pc : Nat} {L st : List AV} {h : Hp} {b : Nat × Nat} {Q : Rs → Hp → Prop} {x y : Int32} (q : Nat) (hd : decode M.2.1 pc = .ok (.imul, 1)) (hq : pc + 1 = q) (k : AWP M d q L (vI (x * y) :: st) h b Q) : AWP M d pc L (vI y :: vI x :: st) h b Q := by
  subst hq
  intro p l e R s m args below meth c D A H locs cells slots ls C Rm1 W1 hl
  exact lv_imul C.1 C.2.1 hd  (k p l e R s m args below meth c D A H locs cells slots ls C Rm1 W1 hl)
theorem go_iand {M : MI} {d pc : Nat} {L st : List AV} {h : Hp} {b : Nat × Nat} {Q : Rs → Hp → Prop} {x y : Int32} (q : Nat) (hd : decode M.2.1 pc = .ok (.iand, 1)) (hq : pc + 1 = q) (k : AWP M d q L (vI (x &&& y) :: st) h b Q) : AWP M d pc L (vI y :: vI x :: st) h b Q := by
  subst hq
  intro p l e R s m args below meth c D A H locs cells slots ls C Rm1 W1 hl
  exact lv_iand C.1 C.2.1 hd  (k p l e R s m args below meth c D A H locs cells slots ls C Rm1 W1 hl)
theorem go_ior {M : MI} {d pc : Nat} {L st : List AV} {h : Hp} {b : Nat × Nat} {Q : Rs → Hp → Prop} {x y : Int32} (q : Nat) (hd : decode M.2.1 pc = .ok (.ior, 1)) (hq : pc + 1 = q) (k : AWP M d q L (vI (x ||| y) :: st) h b Q) : AWP M d pc L (vI y :: vI x :: st) h b Q := by
  subst hq
  intro p l e R s m args below meth c D A H locs cells slots ls C Rm1 W1 hl
  exact lv_ior C.1 C.2.1 hd  (k p l e R s m args below meth c D A H locs cells slots ls C Rm1 W1 hl)
theorem go_ixor {M : MI} {d pc : Nat} {L st : List AV} {h : Hp} {b : Nat × Nat} {Q : Rs → Hp → Prop} {x y : Int32} (q : Nat) (hd : decode M.2.1 pc = .ok (.ixor, 1)) (hq : pc + 1 = q) (k : AWP M d q L (vI (x ^^^ y) :: st) h b Q) : AWP M d pc L (vI y :: vI x :: st) h b Q := by
  subst hq
  intro p l e R s m args below meth c D A H locs cells slots ls C Rm1 W1 hl
  exact lv_ixor C.1 C.2.1 hd  (k p l e R s m args below meth c D A H locs cells slots ls C Rm1 W1 hl)
theorem go_idiv {M : MI} {d pc : Nat} {L st : List AV} {h : Hp} {b : Nat × Nat} {Q : Rs → Hp → Prop} {x y : Int32} (q : Nat) (hd : decode M.2.1 pc = .ok (.idiv, 1)) (hq : pc + 1 = q) (hne : ¬ y = 0) (k : AWP M d q L (vI (x / y) :: st) h b Q) : AWP M d pc L (vI y :: vI x :: st) h b Q := by
  subst hq
  intro p l e R s m args below meth c D A H locs cells slots ls C Rm1 W1 hl
  exact lv_idiv C.1 C.2.1 hd hne (k p l e R s m args below meth c D A H locs cells slots ls C Rm1 W1 hl)
theorem go_irem {M : MI} {d pc : Nat} {L st : List AV} {h : Hp} {b : Nat × Nat} {Q : Rs → Hp → Prop} {x y : Int32} (q : Nat) (hd : decode M.2.1 pc = .ok (.irem, 1)) (hq : pc + 1 = q) (hne : ¬ y = 0) (k : AWP M d q L (vI (x - x / y * y) :: st) h b Q) : AWP M d pc L (vI y :: vI x :: st) h b Q := by
  subst hq
  intro p l e R s m args below meth c D A H locs cells slots ls C Rm1 W1 hl
  exact lv_irem C.1 C.2.1 hd hne (k p l e R s m args below meth c D A H locs cells slots ls C Rm1 W1 hl)
theorem go_ishl {M : MI} {d pc : Nat} {L st : List AV} {h : Hp} {b : Nat × Nat} {Q : Rs → Hp → Prop} {x y : Int32} (q : Nat) (hd : decode M.2.1 pc = .ok (.ishl, 1)) (hq : pc + 1 = q) (k : AWP M d q L (vI (x <<< (y &&& 31)) :: st) h b Q) : AWP M d pc L (vI y :: vI x :: st) h b Q := by
  subst hq
  intro p l e R s m args below meth c D A H locs cells slots ls C Rm1 W1 hl
  exact lv_ishl C.1 C.2.1 hd  (k p l e R s m args below meth c D A H locs cells slots ls C Rm1 W1 hl)
theorem go_ishr {M : MI} {d pc : Nat} {L st : List AV} {h : Hp} {b : Nat × Nat} {Q : Rs → Hp → Prop} {x y : Int32} (q : Nat) (hd : decode M.2.1 pc = .ok (.ishr, 1)) (hq : pc + 1 = q) (k : AWP M d q L (vI (x >>> (y &&& 31)) :: st) h b Q) : AWP M d pc L (vI y :: vI x :: st) h b Q := by
  subst hq
  intro p l e R s m args below meth c D A H locs cells slots ls C Rm1 W1 hl
  exact lv_ishr C.1 C.2.1 hd  (k p l e R s m args below meth c D A H locs cells slots ls C Rm1 W1 hl)
theorem go_ladd {M : MI} {d pc : Nat} {L st : List AV} {h : Hp} {b : Nat × Nat} {Q : Rs → Hp → Prop} {x y : Int64} (q : Nat) (hd : decode M.2.1 pc = .ok (.ladd, 1)) (hq : pc + 1 = q) (k : AWP M d q L (vJ (x + y) :: st) h b Q) : AWP M d pc L (vJ y :: vJ x :: st) h b Q := by
  subst hq
  intro p l e R s m args below meth c D A H locs cells slots ls C Rm1 W1 hl
  exact lv_ladd C.1 C.2.1 hd  (k p l e R s m args below meth c D A H locs cells slots ls C Rm1 W1 hl)
theorem go_lsub {M : MI} {d pc : Nat} {L st : List AV} {h : Hp} {b : Nat × Nat} {Q : Rs → Hp → Prop} {x y : Int64} (q : Nat) (hd : decode M.2.1 pc = .ok (.lsub, 1)) (hq : pc + 1 = q) (k : AWP M d q L (vJ (x - y) :: st) h b Q) : AWP M d pc L (vJ y :: vJ x :: st) h b Q := by
  subst hq
  intro p l e R s m args below meth c D A H locs cells slots ls C Rm1 W1 hl
  exact lv_lsub C.1 C.2.1 hd  (k p l e R s m args below meth c D A H locs cells slots ls C Rm1 W1 hl)
theorem go_lmul {M : MI} {d pc : Nat} {L st : List AV} {h : Hp} {b : Nat × Nat} {Q : Rs → Hp → Prop} {x y : Int64} (q : Nat) (hd : decode M.2.1 pc = .ok (.lmul, 1)) (hq : pc + 1 = q) (k : AWP M d q L (vJ (x * y) :: st) h b Q) : AWP M d pc L (vJ y :: vJ x :: st) h b Q := by
  subst hq
  intro p l e R s m args below meth c D A H locs cells slots ls C Rm1 W1 hl
  exact lv_lmul C.1 C.2.1 hd  (k p l e R s m args below meth c D A H locs cells slots ls C Rm1 W1 hl)
theorem go_land {M : MI} {d pc : Nat} {L st : List AV} {h : Hp} {b : Nat × Nat} {Q : Rs → Hp → Prop} {x y : Int64} (q : Nat) (hd : decode M.2.1 pc = .ok (.land, 1)) (hq : pc + 1 = q) (k : AWP M d q L (vJ (x &&& y) :: st) h b Q) : AWP M d pc L (vJ y :: vJ x :: st) h b Q := by
  subst hq
  intro p l e R s m args below meth c D A H locs cells slots ls C Rm1 W1 hl
  exact lv_land C.1 C.2.1 hd  (k p l e R s m args below meth c D A H locs cells slots ls C Rm1 W1 hl)
theorem go_lor {M : MI} {d pc : Nat} {L st : List AV} {h : Hp} {b : Nat × Nat} {Q : Rs → Hp → Prop} {x y : Int64} (q : Nat) (hd : decode M.2.1 pc = .ok (.lor, 1)) (hq : pc + 1 = q) (k : AWP M d q L (vJ (x ||| y) :: st) h b Q) : AWP M d pc L (vJ y :: vJ x :: st) h b Q := by
  subst hq
  intro p l e R s m args below meth c D A H locs cells slots ls C Rm1 W1 hl
  exact lv_lor C.1 C.2.1 hd  (k p l e R s m args below meth c D A H locs cells slots ls C Rm1 W1 hl)
theorem go_ldiv {M : MI} {d pc : Nat} {L st : List AV} {h : Hp} {b : Nat × Nat} {Q : Rs → Hp → Prop} {x y : Int64} (q : Nat) (hd : decode M.2.1 pc = .ok (.ldiv, 1)) (hq : pc + 1 = q) (hne : ¬ y = 0) (k : AWP M d q L (vJ (x / y) :: st) h b Q) : AWP M d pc L (vJ y :: vJ x :: st) h b Q := by
  subst hq
  intro p l e R s m args below meth c D A H locs cells slots ls C Rm1 W1 hl
  exact lv_ldiv C.1 C.2.1 hd hne (k p l e R s m args below meth c D A H locs cells slots ls C Rm1 W1 hl)
theorem go_iushr {M : MI} {d pc : Nat} {L st : List AV} {h : Hp} {b : Nat × Nat} {Q : Rs → Hp → Prop} {x y : Int32} (q : Nat) (hd : decode M.2.1 pc = .ok (.iushr, 1)) (hq : pc + 1 = q) (k : AWP M d q L (vI ((x.toUInt32 >>> (y.toUInt32 &&& Int32.toUInt32 31)).toInt32) :: st) h b Q) : AWP M d pc L (vI y :: vI x :: st) h b Q := by
  subst hq
  intro p l e R s m args below meth c D A H locs cells slots ls C Rm1 W1 hl
  exact lv_iushr C.1 C.2.1 hd rfl (k p l e R s m args below meth c D A H locs cells slots ls C Rm1 W1 hl)
theorem go_lshl {M : MI} {d pc : Nat} {L st : List AV} {h : Hp} {b : Nat × Nat} {Q : Rs → Hp → Prop} {x : Int64} {y : Int32} (q : Nat) (hd : decode M.2.1 pc = .ok (.lshl, 1)) (hq : pc + 1 = q) (k : AWP M d q L (vJ (x <<< (y.toInt64 &&& 63)) :: st) h b Q) : AWP M d pc L (vI y :: vJ x :: st) h b Q := by
  subst hq
  intro p l e R s m args below meth c D A H locs cells slots ls C Rm1 W1 hl
  exact lv_lshl C.1 C.2.1 hd rfl (k p l e R s m args below meth c D A H locs cells slots ls C Rm1 W1 hl)
theorem go_ineg {M : MI} {d pc : Nat} {L st : List AV} {h : Hp} {b : Nat × Nat} {Q : Rs → Hp → Prop} {x : Int32} (q : Nat) (hd : decode M.2.1 pc = .ok (.ineg, 1)) (hq : pc + 1 = q) (k : AWP M d q L (vI (-x) :: st) h b Q) : AWP M d pc L (vI x :: st) h b Q := by
  subst hq
  intro p l e R s m args below meth c D A H locs cells slots ls C Rm1 W1 hl
  exact lv_ineg C.1 C.2.1 hd  (k p l e R s m args below meth c D A H locs cells slots ls C Rm1 W1 hl)
theorem go_lneg {M : MI} {d pc : Nat} {L st : List AV} {h : Hp} {b : Nat × Nat} {Q : Rs → Hp → Prop} {x : Int64} (q : Nat) (hd : decode M.2.1 pc = .ok (.lneg, 1)) (hq : pc + 1 = q) (k : AWP M d q L (vJ (-x) :: st) h b Q) : AWP M d pc L (vJ x :: st) h b Q := by
  subst hq
  intro p l e R s m args below meth c D A H locs cells slots ls C Rm1 W1 hl
  exact lv_lneg C.1 C.2.1 hd  (k p l e R s m args below meth c D A H locs cells slots ls C Rm1 W1 hl)
theorem go_i2l {M : MI} {d pc : Nat} {L st : List AV} {h : Hp} {b : Nat × Nat} {Q : Rs → Hp → Prop} {x : Int32} (q : Nat) (hd : decode M.2.1 pc = .ok (.i2l, 1)) (hq : pc + 1 = q) (k : AWP M d q L (vJ x.toInt64 :: st) h b Q) : AWP M d pc L (vI x :: st) h b Q := by
  subst hq
  intro p l e R s m args below meth c D A H locs cells slots ls C Rm1 W1 hl
  exact lv_i2l C.1 C.2.1 hd rfl (k p l e R s m args below meth c D A H locs cells slots ls C Rm1 W1 hl)
theorem go_l2i {M : MI} {d pc : Nat} {L st : List AV} {h : Hp} {b : Nat × Nat} {Q : Rs → Hp → Prop} {x : Int64} (q : Nat) (hd : decode M.2.1 pc = .ok (.l2i, 1)) (hq : pc + 1 = q) (k : AWP M d q L (vI x.toInt32 :: st) h b Q) : AWP M d pc L (vJ x :: st) h b Q := by
  subst hq
  intro p l e R s m args below meth c D A H locs cells slots ls C Rm1 W1 hl
  exact lv_l2i C.1 C.2.1 hd rfl (k p l e R s m args below meth c D A H locs cells slots ls C Rm1 W1 hl)
theorem go_i2b {M : MI} {d pc : Nat} {L st : List AV} {h : Hp} {b : Nat × Nat} {Q : Rs → Hp → Prop} {x : Int32} (q : Nat) (hd : decode M.2.1 pc = .ok (.i2b, 1)) (hq : pc + 1 = q) (k : AWP M d q L (vI x.toInt8.toInt32 :: st) h b Q) : AWP M d pc L (vI x :: st) h b Q := by
  subst hq
  intro p l e R s m args below meth c D A H locs cells slots ls C Rm1 W1 hl
  exact lv_i2b C.1 C.2.1 hd rfl (k p l e R s m args below meth c D A H locs cells slots ls C Rm1 W1 hl)
theorem go_i2s {M : MI} {d pc : Nat} {L st : List AV} {h : Hp} {b : Nat × Nat} {Q : Rs → Hp → Prop} {x : Int32} (q : Nat) (hd : decode M.2.1 pc = .ok (.i2s, 1)) (hq : pc + 1 = q) (k : AWP M d q L (vI x.toInt16.toInt32 :: st) h b Q) : AWP M d pc L (vI x :: st) h b Q := by
  subst hq
  intro p l e R s m args below meth c D A H locs cells slots ls C Rm1 W1 hl
  exact lv_i2s C.1 C.2.1 hd rfl (k p l e R s m args below meth c D A H locs cells slots ls C Rm1 W1 hl)
theorem go_lcmp {M : MI} {d pc : Nat} {L st : List AV} {h : Hp} {b : Nat × Nat} {Q : Rs → Hp → Prop} {x y : Int64} (q : Nat) (hd : decode M.2.1 pc = .ok (.lcmp, 1)) (hq : pc + 1 = q) (k : AWP M d q L (vI (lg_cmp x y) :: st) h b Q) : AWP M d pc L (vJ y :: vJ x :: st) h b Q := by
  subst hq
  intro p l e R s m args below meth c D A H locs cells slots ls C Rm1 W1 hl
  exact W.lcmp C.1 C.2.1 hd  (k p l e R s m args below meth c D A H locs cells slots ls C Rm1 W1 hl)
theorem go_iconst {M : MI} {d pc : Nat} {L st : List AV} {h : Hp} {b : Nat × Nat} {Q : Rs → Hp → Prop} {n : Int} (v : Int32) (q : Nat) (hd : decode M.2.1 pc = .ok (.iconst n, 1)) (hq : pc + 1 = q) (hv : Int32.ofInt n = v) (k : AWP M d q L (vI v :: st) h b Q) : AWP M d pc L (st) h b Q := by
  subst hq
  intro p l e R s m args below meth c D A H locs cells slots ls C Rm1 W1 hl
  exact lv_iconst C.1 C.2.1 hd hv (k p l e R s m args below meth c D A H locs cells slots ls C Rm1 W1 hl)
theorem go_bipush {M : MI} {d pc : Nat} {L st : List AV} {h : Hp} {b : Nat × Nat} {Q : Rs → Hp → Prop} {n : Int} (v : Int32) (q : Nat) (hd : decode M.2.1 pc = .ok (.bipush n, 2)) (hq : pc + 2 = q) (hv : (Int8.ofInt n).toInt32 = v) (k : AWP M d q L (vI v :: st) h b Q) : AWP M d pc L (st) h b Q := by
  subst hq
  intro p l e R s m args below meth c D A H locs cells slots ls C Rm1 W1 hl
  exact lv_bipush C.1 C.2.1 hd hv (k p l e R s m args below meth c D A H locs cells slots ls C Rm1 W1 hl)
theorem go_sipush {M : MI} {d pc : Nat} {L st : List AV} {h : Hp} {b : Nat × Nat} {Q : Rs → Hp → Prop} {n : Int} (v : Int32) (q : Nat) (hd : decode M.2.1 pc = .ok (.sipush n, 3)) (hq : pc + 3 = q) (hv : (Int16.ofInt n).toInt32 = v) (k : AWP M d q L (vI v :: st) h b Q) : AWP M d pc L (st) h b Q := by
  subst hq
  intro p l e R s m args below meth c D A H locs cells slots ls C Rm1 W1 hl
  exact lv_sipush C.1 C.2.1 hd hv (k p l e R s m args below meth c D A H locs cells slots ls C Rm1 W1 hl)
theorem go_lconst {M : MI} {d pc : Nat} {L st : List AV} {h : Hp} {b : Nat × Nat} {Q : Rs → Hp → Prop} {n : Fin 2} (v : Int64) (q : Nat) (hd : decode M.2.1 pc = .ok (.lconst n, 1)) (hq : pc + 1 = q) (hv : Int64.ofNat (n : Nat) = v) (k : AWP M d q L (vJ v :: st) h b Q) : AWP M d pc L (st) h b Q := by
  subst hq
  intro p l e R s m args below meth c D A H locs cells slots ls C Rm1 W1 hl
  exact lv_lconst C.1 C.2.1 hd hv (k p l e R s m args below meth c D A H locs cells slots ls C Rm1 W1 hl)
theorem go_null {M : MI} {d pc : Nat} {L st : List AV} {h : Hp} {b : Nat × Nat} {Q : Rs → Hp → Prop}  (q : Nat) (hd : decode M.2.1 pc = .ok (.aconst_null, 1)) (hq : pc + 1 = q) (k : AWP M d q L (vR none :: st) h b Q) : AWP M d pc L (st) h b Q := by
  subst hq
  intro p l e R s m args below meth c D A H locs cells slots ls C Rm1 W1 hl
  exact lv_null C.1 C.2.1 hd  (k p l e R s m args below meth c D A H locs cells slots ls C Rm1 W1 hl)
theorem go_ldc {M : MI} {d pc : Nat} {L st : List AV} {h : Hp} {b : Nat × Nat} {Q : Rs → Hp → Prop} {i : Nat} {v : Int32} (q : Nat) (hd : decode M.2.1 pc = .ok (.ldc i, 2)) (hq : pc + 2 = q) (hw : Cond.constant M.1.cls i v ∈ lw_all) (k : AWP M d q L (vI v :: st) h b Q) : AWP M d pc L st h b Q := by
  subst hq
  intro p l e R s m args below meth c D A H locs cells slots ls C Rm1 W1 hl
  exact lv_ldc C.1 C.2.1 C.2.2.2.1 (C.2.2.2.2.1 _ hw) hd (k p l e R s m args below meth c D A H locs cells slots ls C Rm1 W1 hl)
theorem go_ldcw {M : MI} {d pc : Nat} {L st : List AV} {h : Hp} {b : Nat × Nat} {Q : Rs → Hp → Prop} {i : Nat} {v : Int32} (q : Nat) (hd : decode M.2.1 pc = .ok (.ldc_w i, 3)) (hq : pc + 3 = q) (hw : Cond.constant M.1.cls i v ∈ lw_all) (k : AWP M d q L (vI v :: st) h b Q) : AWP M d pc L st h b Q := by
  subst hq
  intro p l e R s m args below meth c D A H locs cells slots ls C Rm1 W1 hl
  exact lv_ldcw C.1 C.2.1 C.2.2.2.1 (C.2.2.2.2.1 _ hw) hd (k p l e R s m args below meth c D A H locs cells slots ls C Rm1 W1 hl)
theorem go_ldc2 {M : MI} {d pc : Nat} {L st : List AV} {h : Hp} {b : Nat × Nat} {Q : Rs → Hp → Prop} {i : Nat} {v : Int64} (q : Nat) (hd : decode M.2.1 pc = .ok (.ldc2_w i, 3)) (hq : pc + 3 = q) (hw : Cond.constantLong M.1.cls i v ∈ lw_all) (k : AWP M d q L (vJ v :: st) h b Q) : AWP M d pc L st h b Q := by
  subst hq
  intro p l e R s m args below meth c D A H locs cells slots ls C Rm1 W1 hl
  exact lv_ldc2 C.1 C.2.1 C.2.2.2.1 (C.2.2.2.2.1 _ hw) hd (k p l e R s m args below meth c D A H locs cells slots ls C Rm1 W1 hl)
theorem go_dup {M : MI} {d pc : Nat} {L st : List AV} {h : Hp} {b : Nat × Nat} {Q : Rs → Hp → Prop} {a : AV} (q : Nat) (hd : decode M.2.1 pc = .ok (.dup, 1)) (hq : pc + 1 = q) (ha : avc a = 1) (k : AWP M d q L (a :: a :: st) h b Q) : AWP M d pc L (a :: st) h b Q := by
  subst hq
  intro p l e R s m args below meth c D A H locs cells slots ls C Rm1 W1 hl
  exact lv_dup C.1 C.2.1 hd (avc_cat ha) (k p l e R s m args below meth c D A H locs cells slots ls C Rm1 W1 hl)
theorem go_pop {M : MI} {d pc : Nat} {L st : List AV} {h : Hp} {b : Nat × Nat} {Q : Rs → Hp → Prop} {a : AV} (q : Nat) (hd : decode M.2.1 pc = .ok (.pop, 1)) (hq : pc + 1 = q) (ha : avc a = 1) (k : AWP M d q L (st) h b Q) : AWP M d pc L (a :: st) h b Q := by
  subst hq
  intro p l e R s m args below meth c D A H locs cells slots ls C Rm1 W1 hl
  exact lv_pop C.1 C.2.1 hd (avc_cat ha) (k p l e R s m args below meth c D A H locs cells slots ls C Rm1 W1 hl)
theorem go_dup_x1 {M : MI} {d pc : Nat} {L st : List AV} {h : Hp} {b : Nat × Nat} {Q : Rs → Hp → Prop} {a a2 : AV} (q : Nat) (hd : decode M.2.1 pc = .ok (.dup_x1, 1)) (hq : pc + 1 = q) (ha : avc a = 1) (ha2 : avc a2 = 1) (k : AWP M d q L (a :: a2 :: a :: st) h b Q) : AWP M d pc L (a :: a2 :: st) h b Q := by
  subst hq
  intro p l e R s m args below meth c D A H locs cells slots ls C Rm1 W1 hl
  exact lv_dup_x1 C.1 C.2.1 hd (avc_cat ha) (avc_cat ha2) (k p l e R s m args below meth c D A H locs cells slots ls C Rm1 W1 hl)
theorem go_dup_x2 {M : MI} {d pc : Nat} {L st : List AV} {h : Hp} {b : Nat × Nat} {Q : Rs → Hp → Prop} {a a2 a3 : AV} (q : Nat) (hd : decode M.2.1 pc = .ok (.dup_x2, 1)) (hq : pc + 1 = q) (ha : avc a = 1) (ha2 : avc a2 = 1) (ha3 : avc a3 = 1) (k : AWP M d q L (a :: a2 :: a3 :: a :: st) h b Q) : AWP M d pc L (a :: a2 :: a3 :: st) h b Q := by
  subst hq
  intro p l e R s m args below meth c D A H locs cells slots ls C Rm1 W1 hl
  exact lv_dup_x2 C.1 C.2.1 hd (avc_cat ha) (avc_cat ha2) (avc_cat ha3) (k p l e R s m args below meth c D A H locs cells slots ls C Rm1 W1 hl)
theorem go_dup2 {M : MI} {d pc : Nat} {L st : List AV} {h : Hp} {b : Nat × Nat} {Q : Rs → Hp → Prop} {a a2 : AV} (q : Nat) (hd : decode M.2.1 pc = .ok (.dup2, 1)) (hq : pc + 1 = q) (ha : avc a = 1) (ha2 : avc a2 = 1) (k : AWP M d q L (a :: a2 :: a :: a2 :: st) h b Q) : AWP M d pc L (a :: a2 :: st) h b Q := by
  subst hq
  intro p l e R s m args below meth c D A H locs cells slots ls C Rm1 W1 hl
  exact lv_dup2_11 C.1 C.2.1 hd (avc_cat ha) (avc_cat ha2) (k p l e R s m args below meth c D A H locs cells slots ls C Rm1 W1 hl)
theorem go_iload_n {M : MI} {d pc : Nat} {L st : List AV} {h : Hp} {b : Nat × Nat} {Q : Rs → Hp → Prop} {j : Fin 4} {x : Int32} (q i : Nat) (hd : decode M.2.1 pc = .ok (.iload_n j, 1)) (hq : pc + 1 = q) (hi : (j : Nat) = i) (hL : L[i]? = some (vI x)) (k : AWP M d q L (vI x :: st) h b Q) : AWP M d pc L st h b Q := by
  subst hq
  intro p l e R s m args below meth c D A H locs cells slots ls C Rm1 W1 hl
  exact lv_iload_n C.1 C.2.1 hd hi (hl.at hL (by simp [vI, vJ, vU])) (k p l e R s m args below meth c D A H locs cells slots ls C Rm1 W1 hl)
theorem go_lload_n {M : MI} {d pc : Nat} {L st : List AV} {h : Hp} {b : Nat × Nat} {Q : Rs → Hp → Prop} {j : Fin 4} {x : Int64} (q i : Nat) (hd : decode M.2.1 pc = .ok (.lload_n j, 1)) (hq : pc + 1 = q) (hi : (j : Nat) = i) (hL : L[i]? = some (vJ x)) (k : AWP M d q L (vJ x :: st) h b Q) : AWP M d pc L st h b Q := by
  subst hq
  intro p l e R s m args below meth c D A H locs cells slots ls C Rm1 W1 hl
  exact lv_lload_n C.1 C.2.1 hd hi (hl.at hL (by simp [vI, vJ, vU])) (k p l e R s m args below meth c D A H locs cells slots ls C Rm1 W1 hl)
theorem go_iload {M : MI} {d pc : Nat} {L st : List AV} {h : Hp} {b : Nat × Nat} {Q : Rs → Hp → Prop} {i : Nat} {x : Int32} (q : Nat) (hd : decode M.2.1 pc = .ok (.iload i, 2)) (hq : pc + 2 = q) (hL : L[i]? = some (vI x)) (k : AWP M d q L (vI x :: st) h b Q) : AWP M d pc L st h b Q := by
  subst hq
  intro p l e R s m args below meth c D A H locs cells slots ls C Rm1 W1 hl
  exact lv_iload C.1 C.2.1 hd (hl.at hL (by simp [vI, vJ, vU])) (k p l e R s m args below meth c D A H locs cells slots ls C Rm1 W1 hl)
theorem go_lload {M : MI} {d pc : Nat} {L st : List AV} {h : Hp} {b : Nat × Nat} {Q : Rs → Hp → Prop} {i : Nat} {x : Int64} (q : Nat) (hd : decode M.2.1 pc = .ok (.lload i, 2)) (hq : pc + 2 = q) (hL : L[i]? = some (vJ x)) (k : AWP M d q L (vJ x :: st) h b Q) : AWP M d pc L st h b Q := by
  subst hq
  intro p l e R s m args below meth c D A H locs cells slots ls C Rm1 W1 hl
  exact lv_lload C.1 C.2.1 hd (hl.at hL (by simp [vI, vJ, vU])) (k p l e R s m args below meth c D A H locs cells slots ls C Rm1 W1 hl)
theorem go_aload_n {M : MI} {d pc : Nat} {L st : List AV} {h : Hp} {b : Nat × Nat} {Q : Rs → Hp → Prop} {j : Fin 4} {r : Option Nat} (q i : Nat) (hd : decode M.2.1 pc = .ok (.aload_n j, 1)) (hq : pc + 1 = q) (hi : (j : Nat) = i) (hL : L[i]? = some (vR r)) (k : AWP M d q L (vR r :: st) h b Q) : AWP M d pc L st h b Q := by
  subst hq
  intro p l e R s m args below meth c D A H locs cells slots ls C Rm1 W1 hl
  have hg := hl.at hL (by simp [vR, vU])
  cases r with
  | none => exact lv_aload_nN C.1 C.2.1 hd hi hg (k p l e R s m args below meth c D A H locs cells slots ls C Rm1 W1 hl)
  | some x => exact lv_aload_n C.1 C.2.1 hd hi hg (k p l e R s m args below meth c D A H locs cells slots ls C Rm1 W1 hl)
theorem go_aload {M : MI} {d pc : Nat} {L st : List AV} {h : Hp} {b : Nat × Nat} {Q : Rs → Hp → Prop} {i : Nat} {r : Option Nat} (q : Nat) (hd : decode M.2.1 pc = .ok (.aload i, 2)) (hq : pc + 2 = q) (hL : L[i]? = some (vR r)) (k : AWP M d q L (vR r :: st) h b Q) : AWP M d pc L st h b Q := by
  subst hq
  intro p l e R s m args below meth c D A H locs cells slots ls C Rm1 W1 hl
  have hg := hl.at hL (by simp [vR, vU])
  cases r with
  | none => exact lv_aloadN C.1 C.2.1 hd hg (k p l e R s m args below meth c D A H locs cells slots ls C Rm1 W1 hl)
  | some x => exact lv_aload C.1 C.2.1 hd hg (k p l e R s m args below meth c D A H locs cells slots ls C Rm1 W1 hl)
theorem go_istore_n {M : MI} {d pc : Nat} {L st : List AV} {h : Hp} {b : Nat × Nat} {Q : Rs → Hp → Prop} {j : Fin 4} {x : Int32} (q i : Nat) (L1 : List AV) (hd : decode M.2.1 pc = .ok (.istore_n j, 1)) (hq : pc + 1 = q) (hi : (j : Nat) = i) (hn : Nat.ble (i + 1) M.2.2.1 = true) (hL : st1 L i (vI x) = L1) (k : AWP M d q L1 st h b Q) : AWP M d pc L (vI x :: st) h b Q := by
  subst hq hL hi
  intro p l e R s m args below meth c D A H locs cells slots ls C Rm1 W1 hl
  obtain ⟨ls1, e1, hl1⟩ := hl.set1 (v := vI x) (Nat.le_of_ble_eq_true hn) rfl
  intro T hT X
  obtain ⟨t, a1, b1⟩ := (k p l e R s m args below meth c D A H locs cells slots ls1 C Rm1 W1 hl1) T hT X
  refine ⟨t, ?_, b1⟩
  have e1 : storeLocals ls (j : Nat) (.int x) = some ls1 := e1
  jvm_step X.here [X.here.top, ↓top_set X.here.top, C.1, C.2.1, hd, e1, cv, vI, List.map]
  exact a1
theorem go_istore {M : MI} {d pc : Nat} {L st : List AV} {h : Hp} {b : Nat × Nat} {Q : Rs → Hp → Prop} {i : Nat} {x : Int32} (q : Nat) (L1 : List AV) (hd : decode M.2.1 pc = .ok (.istore i, 2)) (hq : pc + 2 = q) (hn : Nat.ble (i + 1) M.2.2.1 = true) (hL : st1 L i (vI x) = L1) (k : AWP M d q L1 st h b Q) : AWP M d pc L (vI x :: st) h b Q := by
  subst hq hL
  intro p l e R s m args below meth c D A H locs cells slots ls C Rm1 W1 hl
  obtain ⟨ls1, e1, hl1⟩ := hl.set1 (v := vI x) (Nat.le_of_ble_eq_true hn) rfl
  intro T hT X
  obtain ⟨t, a1, b1⟩ := (k p l e R s m args below meth c D A H locs cells slots ls1 C Rm1 W1 hl1) T hT X
  refine ⟨t, ?_, b1⟩
  have e1 : storeLocals ls i (.int x) = some ls1 := e1
  jvm_step X.here [X.here.top, ↓top_set X.here.top, C.1, C.2.1, hd, e1, cv, vI, List.map]
  exact a1
theorem go_lstore_n {M : MI} {d pc : Nat} {L st : List AV} {h : Hp} {b : Nat × Nat} {Q : Rs → Hp → Prop} {j : Fin 4} {x : Int64} (q i : Nat) (L1 : List AV) (hd : decode M.2.1 pc = .ok (.lstore_n j, 1)) (hq : pc + 1 = q) (hi : (j : Nat) = i) (hn : Nat.ble (i + 2) M.2.2.1 = true) (hL : st2 L i (vJ x) = L1) (k : AWP M d q L1 st h b Q) : AWP M d pc L (vJ x :: st) h b Q := by
  subst hq hL hi
  intro p l e R s m args below meth c D A H locs cells slots ls C Rm1 W1 hl
  obtain ⟨ls1, e1, hl1⟩ := hl.set2 (v := vJ x) (Nat.le_of_ble_eq_true hn) rfl
  intro T hT X
  obtain ⟨t, a1, b1⟩ := (k p l e R s m args below meth c D A H locs cells slots ls1 C Rm1 W1 hl1) T hT X
  refine ⟨t, ?_, b1⟩
  have e1 : storeLocals ls (j : Nat) (.long x) = some ls1 := e1
  jvm_step X.here [X.here.top, ↓top_set X.here.top, C.1, C.2.1, hd, e1, cv, vJ, List.map]
  exact a1
theorem go_lstore {M : MI} {d pc : Nat} {L st : List AV} {h : Hp} {b : Nat × Nat} {Q : Rs → Hp → Prop} {i : Nat} {x : Int64} (q : Nat) (L1 : List AV) (hd : decode M.2.1 pc = .ok (.lstore i, 2)) (hq : pc + 2 = q) (hn : Nat.ble (i + 2) M.2.2.1 = true) (hL : st2 L i (vJ x) = L1) (k : AWP M d q L1 st h b Q) : AWP M d pc L (vJ x :: st) h b Q := by
  subst hq hL
  intro p l e R s m args below meth c D A H locs cells slots ls C Rm1 W1 hl
  obtain ⟨ls1, e1, hl1⟩ := hl.set2 (v := vJ x) (Nat.le_of_ble_eq_true hn) rfl
  intro T hT X
  obtain ⟨t, a1, b1⟩ := (k p l e R s m args below meth c D A H locs cells slots ls1 C Rm1 W1 hl1) T hT X
  refine ⟨t, ?_, b1⟩
  have e1 : storeLocals ls i (.long x) = some ls1 := e1
  jvm_step X.here [X.here.top, ↓top_set X.here.top, C.1, C.2.1, hd, e1, cv, vJ, List.map]
  exact a1
theorem go_astore_n {M : MI} {d pc : Nat} {L st : List AV} {h : Hp} {b : Nat × Nat} {Q : Rs → Hp → Prop} {j : Fin 4} {r : Option Nat} (q i : Nat) (L1 : List AV) (hd : decode M.2.1 pc = .ok (.astore_n j, 1)) (hq : pc + 1 = q) (hi : (j : Nat) = i) (hn : Nat.ble (i + 1) M.2.2.1 = true) (hL : st1 L i (vR r) = L1) (k : AWP M d q L1 st h b Q) : AWP M d pc L (vR r :: st) h b Q := by
  subst hq hL hi
  intro p l e R s m args below meth c D A H locs cells slots ls C Rm1 W1 hl
  obtain ⟨ls1, e1, hl1⟩ := hl.set1 (v := vR r) (Nat.le_of_ble_eq_true hn) (by cases r <;> rfl)
  intro T hT X
  obtain ⟨t, a1, b1⟩ := (k p l e R s m args below meth c D A H locs cells slots ls1 C Rm1 W1 hl1) T hT X
  refine ⟨t, ?_, b1⟩
  cases r with
  | none =>
    have e1 : storeLocals ls (j : Nat) .null = some ls1 := e1
    jvm_step X.here [X.here.top, ↓top_set X.here.top, C.1, C.2.1, hd, e1, cv, vR, va_rf, Value.isRef, List.map]
    exact a1
  | some x =>
    have e1 : storeLocals ls (j : Nat) (.ref x) = some ls1 := e1
    jvm_step X.here [X.here.top, ↓top_set X.here.top, C.1, C.2.1, hd, e1, cv, vR, va_rf, Value.isRef, List.map]
    exact a1
theorem go_astore {M : MI} {d pc : Nat} {L st : List AV} {h : Hp} {b : Nat × Nat} {Q : Rs → Hp → Prop} {i : Nat} {r : Option Nat} (q : Nat) (L1 : List AV) (hd : decode M.2.1 pc = .ok (.astore i, 2)) (hq : pc + 2 = q) (hn : Nat.ble (i + 1) M.2.2.1 = true) (hL : st1 L i (vR r) = L1) (k : AWP M d q L1 st h b Q) : AWP M d pc L (vR r :: st) h b Q := by
  subst hq hL
  intro p l e R s m args below meth c D A H locs cells slots ls C Rm1 W1 hl
  obtain ⟨ls1, e1, hl1⟩ := hl.set1 (v := vR r) (Nat.le_of_ble_eq_true hn) (by cases r <;> rfl)
  intro T hT X
  obtain ⟨t, a1, b1⟩ := (k p l e R s m args below meth c D A H locs cells slots ls1 C Rm1 W1 hl1) T hT X
  refine ⟨t, ?_, b1⟩
  cases r with
  | none =>
    have e1 : storeLocals ls i .null = some ls1 := e1
    jvm_step X.here [X.here.top, ↓top_set X.here.top, C.1, C.2.1, hd, e1, cv, vR, va_rf, Value.isRef, List.map]
    exact a1
  | some x =>
    have e1 : storeLocals ls i (.ref x) = some ls1 := e1
    jvm_step X.here [X.here.top, ↓top_set X.here.top, C.1, C.2.1, hd, e1, cv, vR, va_rf, Value.isRef, List.map]
    exact a1
theorem go_iinc {M : MI} {d pc : Nat} {L st : List AV} {h : Hp} {b : Nat × Nat} {Q : Rs → Hp → Prop} {i : Nat} {n : Int} {x : Int32} (q : Nat) (v : Int32) (L1 : List AV) (hd : decode M.2.1 pc = .ok (.iinc i n, 3)) (hq : pc + 3 = q) (hx : L[i]? = some (vI x)) (hv : x + Int32.ofInt n = v) (hn : Nat.ble (i + 1) M.2.2.1 = true) (hL : st1 L i (vI v) = L1) (k : AWP M d q L1 st h b Q) : AWP M d pc L st h b Q := by
  subst hq hL hv
  intro p l e R s m args below meth c D A H locs cells slots ls C Rm1 W1 hl
  obtain ⟨ls1, e1, hl1⟩ := hl.set1 (v := vI (x + Int32.ofInt n)) (Nat.le_of_ble_eq_true hn) rfl
  have hg : ls[i]? = some (.val (.int x)) := hl.at hx (by simp [vI, vU])
  intro T hT X
  obtain ⟨t, a1, b1⟩ := (k p l e R s m args below meth c D A H locs cells slots ls1 C Rm1 W1 hl1) T hT X
  refine ⟨t, ?_, b1⟩
  have e1 : storeLocals ls i (.int (x + Int32.ofInt n)) = some ls1 := e1
  jvm_step X.here [X.here.top, ↓top_set X.here.top, C.1, C.2.1, hd, hg, e1]
  exact a1
theorem go_if_eq {M : MI} {d pc : Nat} {L st : List AV} {h : Hp} {b : Nat × Nat} {Q : Rs → Hp → Prop} {x : Int32} {off : Int} (q tgt : Nat) (hd : decode M.2.1 pc = .ok (.ifCond .eq off, 3)) (hq : pc + 3 = q) (ht : (pc : Int) + off = (tgt : Int)) (kt : x = 0 → AWP M d tgt L st h b Q) (kf : ¬ x = 0 → AWP M d q L st h b Q) : AWP M d pc L (vI x :: st) h b Q := by
  subst hq
  intro p l e R s m args below meth c D A H locs cells slots ls C Rm1 W1 hl
  exact lv_if_eq C.1 C.2.1 hd ht (fun z => kt z p l e R s m args below meth c D A H locs cells slots ls C Rm1 W1 hl) (fun z => kf z p l e R s m args below meth c D A H locs cells slots ls C Rm1 W1 hl)
theorem go_if_ne {M : MI} {d pc : Nat} {L st : List AV} {h : Hp} {b : Nat × Nat} {Q : Rs → Hp → Prop} {x : Int32} {off : Int} (q tgt : Nat) (hd : decode M.2.1 pc = .ok (.ifCond .ne off, 3)) (hq : pc + 3 = q) (ht : (pc : Int) + off = (tgt : Int)) (kt : ¬ x = 0 → AWP M d tgt L st h b Q) (kf : x = 0 → AWP M d q L st h b Q) : AWP M d pc L (vI x :: st) h b Q := by
  subst hq
  intro p l e R s m args below meth c D A H locs cells slots ls C Rm1 W1 hl
  exact lv_if_ne C.1 C.2.1 hd ht (fun z => kt z p l e R s m args below meth c D A H locs cells slots ls C Rm1 W1 hl) (fun z => kf z p l e R s m args below meth c D A H locs cells slots ls C Rm1 W1 hl)
theorem go_if_lt {M : MI} {d pc : Nat} {L st : List AV} {h : Hp} {b : Nat × Nat} {Q : Rs → Hp → Prop} {x : Int32} {off : Int} (q tgt : Nat) (hd : decode M.2.1 pc = .ok (.ifCond .lt off, 3)) (hq : pc + 3 = q) (ht : (pc : Int) + off = (tgt : Int)) (kt : x < 0 → AWP M d tgt L st h b Q) (kf : ¬ x < 0 → AWP M d q L st h b Q) : AWP M d pc L (vI x :: st) h b Q := by
  subst hq
  intro p l e R s m args below meth c D A H locs cells slots ls C Rm1 W1 hl
  exact lv_if_lt C.1 C.2.1 hd ht (fun z => kt z p l e R s m args below meth c D A H locs cells slots ls C Rm1 W1 hl) (fun z => kf z p l e R s m args below meth c D A H locs cells slots ls C Rm1 W1 hl)
theorem go_if_ge {M : MI} {d pc : Nat} {L st : List AV} {h : Hp} {b : Nat × Nat} {Q : Rs → Hp → Prop} {x : Int32} {off : Int} (q tgt : Nat) (hd : decode M.2.1 pc = .ok (.ifCond .ge off, 3)) (hq : pc + 3 = q) (ht : (pc : Int) + off = (tgt : Int)) (kt : 0 ≤ x → AWP M d tgt L st h b Q) (kf : ¬ 0 ≤ x → AWP M d q L st h b Q) : AWP M d pc L (vI x :: st) h b Q := by
  subst hq
  intro p l e R s m args below meth c D A H locs cells slots ls C Rm1 W1 hl
  exact lv_if_ge C.1 C.2.1 hd ht (fun z => kt z p l e R s m args below meth c D A H locs cells slots ls C Rm1 W1 hl) (fun z => kf z p l e R s m args below meth c D A H locs cells slots ls C Rm1 W1 hl)
theorem go_if_gt {M : MI} {d pc : Nat} {L st : List AV} {h : Hp} {b : Nat × Nat} {Q : Rs → Hp → Prop} {x : Int32} {off : Int} (q tgt : Nat) (hd : decode M.2.1 pc = .ok (.ifCond .gt off, 3)) (hq : pc + 3 = q) (ht : (pc : Int) + off = (tgt : Int)) (kt : 0 < x → AWP M d tgt L st h b Q) (kf : ¬ 0 < x → AWP M d q L st h b Q) : AWP M d pc L (vI x :: st) h b Q := by
  subst hq
  intro p l e R s m args below meth c D A H locs cells slots ls C Rm1 W1 hl
  exact lv_if_gt C.1 C.2.1 hd ht (fun z => kt z p l e R s m args below meth c D A H locs cells slots ls C Rm1 W1 hl) (fun z => kf z p l e R s m args below meth c D A H locs cells slots ls C Rm1 W1 hl)
theorem go_if_le {M : MI} {d pc : Nat} {L st : List AV} {h : Hp} {b : Nat × Nat} {Q : Rs → Hp → Prop} {x : Int32} {off : Int} (q tgt : Nat) (hd : decode M.2.1 pc = .ok (.ifCond .le off, 3)) (hq : pc + 3 = q) (ht : (pc : Int) + off = (tgt : Int)) (kt : x ≤ 0 → AWP M d tgt L st h b Q) (kf : ¬ x ≤ 0 → AWP M d q L st h b Q) : AWP M d pc L (vI x :: st) h b Q := by
  subst hq
  intro p l e R s m args below meth c D A H locs cells slots ls C Rm1 W1 hl
  exact lv_if_le C.1 C.2.1 hd ht (fun z => kt z p l e R s m args below meth c D A H locs cells slots ls C Rm1 W1 hl) (fun z => kf z p l e R s m args below meth c D A H locs cells slots ls C Rm1 W1 hl)
theorem go_icmp_eq {M : MI} {d pc : Nat} {L st : List AV} {h : Hp} {b : Nat × Nat} {Q : Rs → Hp → Prop} {x y : Int32} {off : Int} (q tgt : Nat) (hd : decode M.2.1 pc = .ok (.if_icmp .eq off, 3)) (hq : pc + 3 = q) (ht : (pc : Int) + off = (tgt : Int)) (kt : x = y → AWP M d tgt L st h b Q) (kf : ¬ x = y → AWP M d q L st h b Q) : AWP M d pc L (vI y :: vI x :: st) h b Q := by
  subst hq
  intro p l e R s m args below meth c D A H locs cells slots ls C Rm1 W1 hl
  exact lv_icmp_eq C.1 C.2.1 hd ht (fun z => kt z p l e R s m args below meth c D A H locs cells slots ls C Rm1 W1 hl) (fun z => kf z p l e R s m args below meth c D A H locs cells slots ls C Rm1 W1 hl)
theorem go_icmp_ne {M : MI} {d pc : Nat} {L st : List AV} {h : Hp} {b : Nat × Nat} {Q : Rs → Hp → Prop} {x y : Int32} {off : Int} (q tgt : Nat) (hd : decode M.2.1 pc = .ok (.if_icmp .ne off, 3)) (hq : pc + 3 = q) (ht : (pc : Int) + off = (tgt : Int)) (kt : ¬ x = y → AWP M d tgt L st h b Q) (kf : x = y → AWP M d q L st h b Q) : AWP M d pc L (vI y :: vI x :: st) h b Q := by
  subst hq
  intro p l e R s m args below meth c D A H locs cells slots ls C Rm1 W1 hl
  exact lv_icmp_ne C.1 C.2.1 hd ht (fun z => kt z p l e R s m args below meth c D A H locs cells slots ls C Rm1 W1 hl) (fun z => kf z p l e R s m args below meth c D A H locs cells slots ls C Rm1 W1 hl)
theorem go_icmp_lt {M : MI} {d pc : Nat} {L st : List AV} {h : Hp} {b : Nat × Nat} {Q : Rs → Hp → Prop} {x y : Int32} {off : Int} (q tgt : Nat) (hd : decode M.2.1 pc = .ok (.if_icmp .lt off, 3)) (hq : pc + 3 = q) (ht : (pc : Int) + off = (tgt : Int)) (kt : x < y → AWP M d tgt L st h b Q) (kf : ¬ x < y → AWP M d q L st h b Q) : AWP M d pc L (vI y :: vI x :: st) h b Q := by
  subst hq
  intro p l e R s m args below meth c D A H locs cells slots ls C Rm1 W1 hl
  exact lv_icmp_lt C.1 C.2.1 hd ht (fun z => kt z p l e R s m args below meth c D A H locs cells slots ls C Rm1 W1 hl) (fun z => kf z p l e R s m args below meth c D A H locs cells slots ls C Rm1 W1 hl)
theorem go_icmp_ge {M : MI} {d pc : Nat} {L st : List AV} {h : Hp} {b : Nat × Nat} {Q : Rs → Hp → Prop} {x y : Int32} {off : Int} (q tgt : Nat) (hd : decode M.2.1 pc = .ok (.if_icmp .ge off, 3)) (hq : pc + 3 = q) (ht : (pc : Int) + off = (tgt : Int)) (kt : y ≤ x → AWP M d tgt L st h b Q) (kf : ¬ y ≤ x → AWP M d q L st h b Q) : AWP M d pc L (vI y :: vI x :: st) h b Q := by
  subst hq
  intro p l e R s m args below meth c D A H locs cells slots ls C Rm1 W1 hl
  exact lv_icmp_ge C.1 C.2.1 hd ht (fun z => kt z p l e R s m args below meth c D A H locs cells slots ls C Rm1 W1 hl) (fun z => kf z p l e R s m args below meth c D A H locs cells slots ls C Rm1 W1 hl)
theorem go_icmp_gt {M : MI} {d pc : Nat} {L st : List AV} {h : Hp} {b : Nat × Nat} {Q : Rs → Hp → Prop} {x y : Int32} {off : Int} (q tgt : Nat) (hd : decode M.2.1 pc = .ok (.if_icmp .gt off, 3)) (hq : pc + 3 = q) (ht : (pc : Int) + off = (tgt : Int)) (kt : y < x → AWP M d tgt L st h b Q) (kf : ¬ y < x → AWP M d q L st h b Q) : AWP M d pc L (vI y :: vI x :: st) h b Q := by
  subst hq
  intro p l e R s m args below meth c D A H locs cells slots ls C Rm1 W1 hl
  exact lv_icmp_gt C.1 C.2.1 hd ht (fun z => kt z p l e R s m args below meth c D A H locs cells slots ls C Rm1 W1 hl) (fun z => kf z p l e R s m args below meth c D A H locs cells slots ls C Rm1 W1 hl)
theorem go_icmp_le {M : MI} {d pc : Nat} {L st : List AV} {h : Hp} {b : Nat × Nat} {Q : Rs → Hp → Prop} {x y : Int32} {off : Int} (q tgt : Nat) (hd : decode M.2.1 pc = .ok (.if_icmp .le off, 3)) (hq : pc + 3 = q) (ht : (pc : Int) + off = (tgt : Int)) (kt : x ≤ y → AWP M d tgt L st h b Q) (kf : ¬ x ≤ y → AWP M d q L st h b Q) : AWP M d pc L (vI y :: vI x :: st) h b Q := by
  subst hq
  intro p l e R s m args below meth c D A H locs cells slots ls C Rm1 W1 hl
  exact lv_icmp_le C.1 C.2.1 hd ht (fun z => kt z p l e R s m args below meth c D A H locs cells slots ls C Rm1 W1 hl) (fun z => kf z p l e R s m args below meth c D A H locs cells slots ls C Rm1 W1 hl)
theorem go_acmp_eq {M : MI} {d pc : Nat} {L st : List AV} {h : Hp} {b : Nat × Nat} {Q : Rs → Hp → Prop} {rx ry : Option Nat} {off : Int} (q tgt : Nat) (hd : decode M.2.1 pc = .ok (.if_acmp .eq off, 3)) (hq : pc + 3 = q) (ht : (pc : Int) + off = (tgt : Int)) (kt : rx = ry → AWP M d tgt L st h b Q) (kf : ¬ rx = ry → AWP M d q L st h b Q) : AWP M d pc L (vR ry :: vR rx :: st) h b Q := by
  subst hq
  intro p l e R s m args below meth c D A H locs cells slots ls C Rm1 W1 hl
  exact lv_acmp_eq C.1 C.2.1 hd ht (fun z => kt z p l e R s m args below meth c D A H locs cells slots ls C Rm1 W1 hl) (fun z => kf z p l e R s m args below meth c D A H locs cells slots ls C Rm1 W1 hl)
theorem go_acmp_ne {M : MI} {d pc : Nat} {L st : List AV} {h : Hp} {b : Nat × Nat} {Q : Rs → Hp → Prop} {rx ry : Option Nat} {off : Int} (q tgt : Nat) (hd : decode M.2.1 pc = .ok (.if_acmp .ne off, 3)) (hq : pc + 3 = q) (ht : (pc : Int) + off = (tgt : Int)) (kt : ¬ rx = ry → AWP M d tgt L st h b Q) (kf : rx = ry → AWP M d q L st h b Q) : AWP M d pc L (vR ry :: vR rx :: st) h b Q := by
  subst hq
  intro p l e R s m args below meth c D A H locs cells slots ls C Rm1 W1 hl
  exact lv_acmp_ne C.1 C.2.1 hd ht (fun z => kt z p l e R s m args below meth c D A H locs cells slots ls C Rm1 W1 hl) (fun z => kf z p l e R s m args below meth c D A H locs cells slots ls C Rm1 W1 hl)
theorem go_ifnull {M : MI} {d pc : Nat} {L st : List AV} {h : Hp} {b : Nat × Nat} {Q : Rs → Hp → Prop} {r : Option Nat} {off : Int} (q tgt : Nat) (hd : decode M.2.1 pc = .ok (.ifnull off, 3)) (hq : pc + 3 = q) (ht : (pc : Int) + off = (tgt : Int)) (kt : r = none → AWP M d tgt L st h b Q) (kf : ¬ r = none → AWP M d q L st h b Q) : AWP M d pc L (vR r :: st) h b Q := by
  subst hq
  intro p l e R s m args below meth c D A H locs cells slots ls C Rm1 W1 hl
  cases r with
  | none => exact lv_ifnullN C.1 C.2.1 hd ht (kt rfl p l e R s m args below meth c D A H locs cells slots ls C Rm1 W1 hl)
  | some x => exact lv_ifnull C.1 C.2.1 hd (kf (by simp) p l e R s m args below meth c D A H locs cells slots ls C Rm1 W1 hl)
theorem go_ifnonnull {M : MI} {d pc : Nat} {L st : List AV} {h : Hp} {b : Nat × Nat} {Q : Rs → Hp → Prop} {r : Option Nat} {off : Int} (q tgt : Nat) (hd : decode M.2.1 pc = .ok (.ifnonnull off, 3)) (hq : pc + 3 = q) (ht : (pc : Int) + off = (tgt : Int)) (kt : ¬ r = none → AWP M d tgt L st h b Q) (kf : r = none → AWP M d q L st h b Q) : AWP M d pc L (vR r :: st) h b Q := by
  subst hq
  intro p l e R s m args below meth c D A H locs cells slots ls C Rm1 W1 hl
  cases r with
  | none => exact lv_ifnonnullN C.1 C.2.1 hd (kf rfl p l e R s m args below meth c D A H locs cells slots ls C Rm1 W1 hl)
  | some x => exact lv_ifnonnull C.1 C.2.1 hd ht (kt (by simp) p l e R s m args below meth c D A H locs cells slots ls C Rm1 W1 hl)
theorem go_goto {M : MI} {d pc : Nat} {L st : List AV} {h : Hp} {b : Nat × Nat} {Q : Rs → Hp → Prop} {off : Int} (tgt : Nat) (hd : decode M.2.1 pc = .ok (.goto off, 3)) (ht : (pc : Int) + off = (tgt : Int)) (k : AWP M d tgt L st h b Q) : AWP M d pc L st h b Q := by
  intro p l e R s m args below meth c D A H locs cells slots ls C Rm1 W1 hl
  exact lv_goto C.1 C.2.1 hd ht (k p l e R s m args below meth c D A H locs cells slots ls C Rm1 W1 hl)
theorem go_tswIn {M : MI} {d pc : Nat} {L st : List AV} {h : Hp} {b : Nat × Nat} {Q : Rs → Hp → Prop} {dflt lo hi : Int} {offs : Array Int} {len : Nat} {x : Int32} {off : Int} (tgt : Nat) (hd : decode M.2.1 pc = .ok (.tableswitch dflt lo hi offs, len)) (h1 : ¬ x.toInt < lo) (h2 : ¬ hi < x.toInt) (ho : offs[(x.toInt - lo).toNat]? = some off) (ht : (pc : Int) + off = (tgt : Int)) (k : AWP M d tgt L st h b Q) : AWP M d pc L (vI x :: st) h b Q := by
  intro p l e R s m args below meth c D A H locs cells slots ls C Rm1 W1 hl
  exact lv_tableIn C.1 C.2.1 hd h1 h2 ho ht (k p l e R s m args below meth c D A H locs cells slots ls C Rm1 W1 hl)
theorem go_tswOut {M : MI} {d pc : Nat} {L st : List AV} {h : Hp} {b : Nat × Nat} {Q : Rs → Hp → Prop} {dflt lo hi : Int} {offs : Array Int} {len : Nat} {x : Int32} (tgt : Nat) (hd : decode M.2.1 pc = .ok (.tableswitch dflt lo hi offs, len)) (h1 : x.toInt < lo ∨ hi < x.toInt) (ht : (pc : Int) + dflt = (tgt : Int)) (k : AWP M d tgt L st h b Q) : AWP M d pc L (vI x :: st) h b Q := by
  intro p l e R s m args below meth c D A H locs cells slots ls C Rm1 W1 hl
  exact lv_tableOut C.1 C.2.1 hd h1 ht (k p l e R s m args below meth c D A H locs cells slots ls C Rm1 W1 hl)
