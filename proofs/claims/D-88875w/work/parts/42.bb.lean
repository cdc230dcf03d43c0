theorem bX4_isShape_0 {h : Hp} {b : Nat × Nat} {Q : Rs → Hp → Prop} {o : Nat} {x1 : Int32} {t : St} {g : Nat} (hM : MS h o t g) (vc : Q (rI (bI ((nI 0) ≤ x1 ∧ x1 ≤ ((nI (ns t)) - (nI 1))))) h) : AWP mX4_isShape 1 0 [vR (some o), vI x1] [] h b Q := by
  refine go_iload_n 1 1 dX4_isShape_0 rfl rfl rfl ?_
  refine go_iconst (v := nI 0) 2 dX4_isShape_1 rfl (by decide) ?_
  refine go_aload_n 3 0 dX4_isShape_2 rfl rfl rfl ?_
  refine go_getI 6 dX4_isShape_3 rfl (MO_k hM.1) gfX4_200_5 rfl ?_
  rw [hM.f401]
  refine go_iconst (v := nI 1) 7 dX4_isShape_6 rfl (by decide) ?_
  refine go_isub 8 dX4_isShape_7 rfl ?_
  refine go_callSI (M' := mX4_in) (as := [vI x1, vI (nI 0), vI ((nI (ns t)) - (nI 1))]) 11 dX4_isShape_8 rfl q1703 okX4_in rfl rfl rfl rfl rfl (ctX4_in) ?_
  rintro _ _ ⟨rfl, rfl⟩
  exact go_zreturn dX4_isShape_11 rfl (bI_01 _) vc

theorem bX4_isCorner_0 {h : Hp} {b : Nat × Nat} {Q : Rs → Hp → Prop} {o : Nat} {x1 : Int32} {x2 : Int32} {t : St} {g : Nat} (hM : MS h o t g) (vc : (vp_in x1 13 ∧ (nt x1) < ns t ∧ Q (rI (bI ((nI 0) ≤ x2 ∧ x2 ≤ ((nI (nc t (nt x1))) - (nI 1))))) h)) : AWP mX4_isCorner 1 0 [vR (some o), vI x1, vI x2] [] h b Q := by
  refine go_iload_n 1 2 dX4_isCorner_0 rfl rfl rfl ?_
  refine go_iconst (v := nI 0) 2 dX4_isCorner_1 rfl (by decide) ?_
  refine go_aload_n 3 0 dX4_isCorner_2 rfl rfl rfl ?_
  refine go_getRe 6 dX4_isCorner_3 rfl (MO_k hM.1) gfX4_7_5 rfl (MO_f1402 hM.1) ?_
  refine go_iload_n 7 1 dX4_isCorner_6 rfl rfl rfl ?_
  refine go_iaload 8 dX4_isCorner_7 rfl (MO_k1 hM.1) vc.1 ?_
  replace vc := vc.2
  rw [hM.a1 vc.1]
  replace vc := vc.2
  refine go_iconst (v := nI 1) 9 dX4_isCorner_8 rfl (by decide) ?_
  refine go_isub 10 dX4_isCorner_9 rfl ?_
  refine go_callSI (M' := mX4_in) (as := [vI x2, vI (nI 0), vI ((nI (nc t (nt x1))) - (nI 1))]) 13 dX4_isCorner_10 rfl q1703 okX4_in rfl rfl rfl rfl rfl (ctX4_in) ?_
  rintro _ _ ⟨rfl, rfl⟩
  exact go_zreturn dX4_isCorner_13 rfl (bI_01 _) vc

theorem bX4_hasPiece_0 {h : Hp} {b : Nat × Nat} {Q : Rs → Hp → Prop} {o : Nat} {x1 : Int32} {x2 : Int32} {x3 : Int32} {t : St} {g : Nat} (hM : MS h o t g) (vc : (vp_in (nI 36 * x1 + nI 6 * x2 + x3) 468 ∧ (nt (nI 36 * x1 + nI 6 * x2 + x3)) < 36 * ns t ∧ (((nI (bo t (nt (nI 36 * x1 + nI 6 * x2 + x3)))) ≤ 0 → Q (rI (nI 0)) h) ∧ (¬ (nI (bo t (nt (nI 36 * x1 + nI 6 * x2 + x3)))) ≤ 0 → Q (rI (nI 1)) h)))) : AWP mX4_hasPiece 1 0 [vR (some o), vI x1, vI x2, vI x3] [] h b Q := by
  refine go_aload_n 1 0 dX4_hasPiece_0 rfl rfl rfl ?_
  refine go_getRe 4 dX4_hasPiece_1 rfl (MO_k hM.1) gfX4_32_5 rfl (MO_f1409 hM.1) ?_
  refine go_iload_n 5 1 dX4_hasPiece_4 rfl rfl rfl ?_
  refine go_iload_n 6 2 dX4_hasPiece_5 rfl rfl rfl ?_
  refine go_iload_n 7 3 dX4_hasPiece_6 rfl rfl rfl ?_
  refine go_callSI (M' := mX4_at) (as := [vI x1, vI x2, vI x3]) 10 dX4_hasPiece_7 rfl q1754 okX4_at rfl rfl rfl rfl rfl (ctX4_at) ?_
  rintro _ _ ⟨rfl, rfl⟩
  refine go_iaload 11 dX4_hasPiece_10 rfl (MO_k8 hM.1) vc.1 ?_
  replace vc := vc.2
  rw [hM.a8 vc.1]
  replace vc := vc.2
  refine go_if_le 14 18 dX4_hasPiece_11 rfl (by decide) (fun e1 => ?_) (fun e1 => ?_)
  · replace vc := vc.1 e1
    refine go_iconst (v := nI 0) 19 dX4_hasPiece_18 rfl (by decide) ?_
    exact go_zreturn dX4_hasPiece_19 rfl (by decide) vc
  · replace vc := vc.2 e1
    refine go_iconst (v := nI 1) 15 dX4_hasPiece_14 rfl (by decide) ?_
    refine go_goto 19 dX4_hasPiece_15 (by decide) ?_
    exact go_zreturn dX4_hasPiece_19 rfl (by decide) vc

theorem bX4_isMark_0 {h : Hp} {b : Nat × Nat} {Q : Rs → Hp → Prop} {x0 : Int32} (vc : ((¬ (bt x0 0 999) → Q (rI (nI 0)) h) ∧ ((bt x0 0 999) → (((x0 - x0 / (nI 10) * (nI 10)) ≤ 0 → Q (rI (nI 0)) h) ∧ (¬ (x0 - x0 / (nI 10) * (nI 10)) ≤ 0 → Q (rI (nI 1)) h))))) : AWP mX4_isMark 1 0 [vI x0] [] h b Q := by
  refine go_iload_n 1 0 dX4_isMark_0 rfl rfl rfl ?_
  refine go_iconst (v := nI 0) 2 dX4_isMark_1 rfl (by decide) ?_
  refine go_sipush (v := nI 999) 5 dX4_isMark_2 rfl (by decide) ?_
  refine go_callSI (M' := mX4_in) (as := [vI x0, vI (nI 0), vI (nI 999)]) 8 dX4_isMark_5 rfl q1703 okX4_in rfl rfl rfl rfl rfl (ctX4_inL rfl rfl) ?_
  rintro _ _ ⟨rfl, rfl⟩
  refine go_if_eq 11 22 dX4_isMark_8 rfl (by decide) (fun e1 => ?_) (fun e1 => ?_)
  · replace vc := vc.1 (bI_0.mp e1)
    refine go_iconst (v := nI 0) 23 dX4_isMark_22 rfl (by decide) ?_
    exact go_zreturn dX4_isMark_23 rfl (by decide) vc
  · replace vc := vc.2 (bI_n0.mp e1)
    refine go_iload_n 12 0 dX4_isMark_11 rfl rfl rfl ?_
    refine go_bipush (v := nI 10) 14 dX4_isMark_12 rfl (by decide) ?_
    refine go_irem 15 dX4_isMark_14 rfl (by decide) ?_
    refine go_if_le 18 22 dX4_isMark_15 rfl (by decide) (fun e2 => ?_) (fun e2 => ?_)
    · replace vc := vc.1 e2
      refine go_iconst (v := nI 0) 23 dX4_isMark_22 rfl (by decide) ?_
      exact go_zreturn dX4_isMark_23 rfl (by decide) vc
    · replace vc := vc.2 e2
      refine go_iconst (v := nI 1) 19 dX4_isMark_18 rfl (by decide) ?_
      refine go_goto 23 dX4_isMark_19 (by decide) ?_
      exact go_zreturn dX4_isMark_23 rfl (by decide) vc

theorem bX4_isEar_0 {h : Hp} {b : Nat × Nat} {Q : Rs → Hp → Prop} {x0 : Int32} (vc : Q (rI (bI (bt x0 0 3))) h) : AWP mX4_isEar 1 0 [vI x0] [] h b Q := by
  refine go_iload_n 1 0 dX4_isEar_0 rfl rfl rfl ?_
  refine go_iconst (v := nI 0) 2 dX4_isEar_1 rfl (by decide) ?_
  refine go_iconst (v := nI 3) 3 dX4_isEar_2 rfl (by decide) ?_
  refine go_callSI (M' := mX4_in) (as := [vI x0, vI (nI 0), vI (nI 3)]) 6 dX4_isEar_3 rfl q1703 okX4_in rfl rfl rfl rfl rfl (ctX4_inL rfl rfl) ?_
  rintro _ _ ⟨rfl, rfl⟩
  exact go_zreturn dX4_isEar_6 rfl (bI_01 _) vc

theorem bX4_isShelf_0 {h : Hp} {b : Nat × Nat} {Q : Rs → Hp → Prop} {x0 : Int32} (vc : Q (rI (bI (bt x0 0 5))) h) : AWP mX4_isShelf 1 0 [vI x0] [] h b Q := by
  refine go_iload_n 1 0 dX4_isShelf_0 rfl rfl rfl ?_
  refine go_iconst (v := nI 0) 2 dX4_isShelf_1 rfl (by decide) ?_
  refine go_iconst (v := nI 5) 3 dX4_isShelf_2 rfl (by decide) ?_
  refine go_callSI (M' := mX4_in) (as := [vI x0, vI (nI 0), vI (nI 5)]) 6 dX4_isShelf_3 rfl q1703 okX4_in rfl rfl rfl rfl rfl (ctX4_inL rfl rfl) ?_
  rintro _ _ ⟨rfl, rfl⟩
  exact go_zreturn dX4_isShelf_6 rfl (bI_01 _) vc

theorem bX4_isBody_0 {h : Hp} {b : Nat × Nat} {Q : Rs → Hp → Prop} {o : Nat} {x1 : Int32} {t : St} {g : Nat} (hM : MS h o t g) (vc : Q (rI (bI ((nI 0) ≤ x1 ∧ x1 ≤ ((nI (nb t)) - (nI 1))))) h) : AWP mX4_isBody 1 0 [vR (some o), vI x1] [] h b Q := by
  refine go_iload_n 1 1 dX4_isBody_0 rfl rfl rfl ?_
  refine go_iconst (v := nI 0) 2 dX4_isBody_1 rfl (by decide) ?_
  refine go_aload_n 3 0 dX4_isBody_2 rfl rfl rfl ?_
  refine go_getI 6 dX4_isBody_3 rfl (MO_k hM.1) gfX4_261_5 rfl ?_
  rw [hM.f412]
  refine go_iconst (v := nI 1) 7 dX4_isBody_6 rfl (by decide) ?_
  refine go_isub 8 dX4_isBody_7 rfl ?_
  refine go_callSI (M' := mX4_in) (as := [vI x1, vI (nI 0), vI ((nI (nb t)) - (nI 1))]) 11 dX4_isBody_8 rfl q1703 okX4_in rfl rfl rfl rfl rfl (ctX4_in) ?_
  rintro _ _ ⟨rfl, rfl⟩
  exact go_zreturn dX4_isBody_11 rfl (bI_01 _) vc

theorem bX4_tonesOf_0 {h : Hp} {b : Nat × Nat} {Q : Rs → Hp → Prop} {o : Nat} {x1 : Int32} {t : St} {g : Nat} (hM : MS h o t g) (vc : AWP mX4_tonesOf 0 4 [vR (some o), vI x1, vI (nI 0), vI (nI 0)] [] h b Q) : AWP mX4_tonesOf 0 0 [vR (some o), vI x1, vU, vU] [] h b Q := by
  refine go_iconst (v := nI 0) 1 dX4_tonesOf_0 rfl (by decide) ?_
  refine go_istore_n 2 2 [vR (some o), vI x1, vI (nI 0), vU] dX4_tonesOf_1 rfl rfl rfl rfl ?_
  refine go_iconst (v := nI 0) 3 dX4_tonesOf_2 rfl (by decide) ?_
  refine go_istore_n 4 3 [vR (some o), vI x1, vI (nI 0), vI (nI 0)] dX4_tonesOf_3 rfl rfl rfl rfl ?_
  exact vc

theorem bX4_tonesOf_4 {h : Hp} {b : Nat × Nat} {Q : Rs → Hp → Prop} {o : Nat} {x1 : Int32} {x2 : Int32} {x3 : Int32} {t : St} {g : Nat} (hM : MS h o t g) (vc : (vp_in x1 13 ∧ (nt x1) < ns t ∧ (((nI (nc t (nt x1))) ≤ x3 → Q (rI x2) h) ∧ (¬ (nI (nc t (nt x1))) ≤ x3 → (vp_in (((nI 6) * x1) + x3) 78 ∧ (nt (((nI 6) * x1) + x3)) < 6 * ns t ∧ (((hl t (nt (((nI 6) * x1) + x3))) = 0 → AWP mX4_tonesOf 0 4 [vR (some o), vI x1, vI (x2 + (nI 1)), vI (x3 + nI 1)] [] h b Q) ∧ (¬ (hl t (nt (((nI 6) * x1) + x3))) = 0 → AWP mX4_tonesOf 0 4 [vR (some o), vI x1, vI (x2 + (nI 0)), vI (x3 + nI 1)] [] h b Q))))))) : AWP mX4_tonesOf 0 4 [vR (some o), vI x1, vI x2, vI x3] [] h b Q := by
  refine go_iload_n 5 3 dX4_tonesOf_4 rfl rfl rfl ?_
  refine go_aload_n 6 0 dX4_tonesOf_5 rfl rfl rfl ?_
  refine go_getRe 9 dX4_tonesOf_6 rfl (MO_k hM.1) gfX4_7_5 rfl (MO_f1402 hM.1) ?_
  refine go_iload_n 10 1 dX4_tonesOf_9 rfl rfl rfl ?_
  refine go_iaload 11 dX4_tonesOf_10 rfl (MO_k1 hM.1) vc.1 ?_
  replace vc := vc.2
  rw [hM.a1 vc.1]
  replace vc := vc.2
  refine go_icmp_ge 14 42 dX4_tonesOf_11 rfl (by decide) (fun e1 => ?_) (fun e1 => ?_)
  · replace vc := vc.1 e1
    refine go_iload_n 43 2 dX4_tonesOf_42 rfl rfl rfl ?_
    exact go_ireturn dX4_tonesOf_43 rfl vc
  · replace vc := vc.2 e1
    refine go_iload_n 15 2 dX4_tonesOf_14 rfl rfl rfl ?_
    refine go_aload_n 16 0 dX4_tonesOf_15 rfl rfl rfl ?_
    refine go_getRe 19 dX4_tonesOf_16 rfl (MO_k hM.1) gfX4_22_5 rfl (MO_f1406 hM.1) ?_
    refine go_bipush (v := nI 6) 21 dX4_tonesOf_19 rfl (by decide) ?_
    refine go_iload_n 22 1 dX4_tonesOf_21 rfl rfl rfl ?_
    refine go_imul 23 dX4_tonesOf_22 rfl ?_
    refine go_iload_n 24 3 dX4_tonesOf_23 rfl rfl rfl ?_
    refine go_iadd 25 dX4_tonesOf_24 rfl ?_
    refine go_baloadZ 26 dX4_tonesOf_25 rfl (MO_k5 hM.1) vc.1 ?_
    replace vc := vc.2
    rw [hM.a5 vc.1]
    replace vc := vc.2
    refine go_if_eq 29 33 dX4_tonesOf_26 rfl (by decide) (fun e2 => ?_) (fun e2 => ?_)
    · replace vc := vc.1 e2
      refine go_iconst (v := nI 1) 34 dX4_tonesOf_33 rfl (by decide) ?_
      refine go_iadd 35 dX4_tonesOf_34 rfl ?_
      refine go_istore_n 36 2 [vR (some o), vI x1, vI (x2 + (nI 1)), vI x3] dX4_tonesOf_35 rfl rfl rfl rfl ?_
      refine go_iinc 39 (x3 + nI 1) [vR (some o), vI x1, vI (x2 + (nI 1)), vI (x3 + nI 1)] dX4_tonesOf_36 rfl rfl (by rfl) rfl rfl ?_
      refine go_goto 4 dX4_tonesOf_39 (by decide) ?_
      exact vc
    · replace vc := vc.2 e2
      refine go_iconst (v := nI 0) 30 dX4_tonesOf_29 rfl (by decide) ?_
      refine go_goto 34 dX4_tonesOf_30 (by decide) ?_
      refine go_iadd 35 dX4_tonesOf_34 rfl ?_
      refine go_istore_n 36 2 [vR (some o), vI x1, vI (x2 + (nI 0)), vI x3] dX4_tonesOf_35 rfl rfl rfl rfl ?_
      refine go_iinc 39 (x3 + nI 1) [vR (some o), vI x1, vI (x2 + (nI 0)), vI (x3 + nI 1)] dX4_tonesOf_36 rfl rfl (by rfl) rfl rfl ?_
      refine go_goto 4 dX4_tonesOf_39 (by decide) ?_
      exact vc
