theorem bX4_damp_0 {h : Hp} {b : Nat × Nat} {Q : Rs → Hp → Prop} {o : Nat} {x1 : Int32} {t : St} {g : Nat} (hM : MS h o t g) (vc : (((bt x1 0 500) → (∀ h2, h2 = sFI h 471 o x1 → Q (rI (nI (dp t))) h2)) ∧ (¬ (bt x1 0 500) → Q (rI (-1)) h))) : AWP mX4_damp 1 0 [vR (some o), vI x1, vU] [] h b Q := by
  refine go_iload_n 1 1 dX4_damp_0 rfl rfl rfl ?_
  refine go_iconst (v := nI 0) 2 dX4_damp_1 rfl (by decide) ?_
  refine go_sipush (v := nI 500) 5 dX4_damp_2 rfl (by decide) ?_
  refine go_callSI (M' := mX4_in) (as := [vI x1, vI (nI 0), vI (nI 500)]) 8 dX4_damp_5 rfl q1703 okX4_in rfl rfl rfl rfl rfl (ctX4_inL rfl rfl) ?_
  intro x0 h0 p0
  rw [p0.1, p0.2]
  refine go_if_ne 11 13 dX4_damp_8 rfl (by decide) (fun e1 => ?_) (fun e1 => ?_)
  · replace vc := vc.1 (bI_n0.mp e1)
    refine go_aload_n 14 0 dX4_damp_13 rfl rfl rfl ?_
    refine go_getI 17 dX4_damp_14 rfl (MO_k hM.1) gfX4_457_5 rfl ?_
    rw [hM.f471]
    refine go_istore_n 18 2 [vR (some o), vI x1, vI (nI (dp t))] dX4_damp_17 rfl rfl rfl rfl ?_
    refine go_aload_n 19 0 dX4_damp_18 rfl rfl rfl ?_
    refine go_iload_n 20 1 dX4_damp_19 rfl rfl rfl ?_
    refine go_putI 23 dX4_damp_20 rfl (MO_k hM.1) (gpX4_457_5 _) rfl ?_
    refine AWP.nm fun h2 eh2 => ?_
    replace vc := vc h2 eh2
    have hM : MO h2 o := by rw [eh2]; exact hM.1
    refine go_iload_n 24 2 dX4_damp_23 rfl rfl rfl ?_
    exact go_ireturn dX4_damp_24 rfl vc
  · replace vc := vc.2 (bI_0.mp e1)
    refine go_iconst (v := (-1)) 12 dX4_damp_11 rfl (by decide) ?_
    exact go_ireturn dX4_damp_12 rfl vc

theorem bX4_ear_0 {h : Hp} {b : Nat × Nat} {Q : Rs → Hp → Prop} {o : Nat} {x1 : Int32} {x2 : Int32} {t : St} {g : Nat} (hM : MS h o t g) (vc : ((¬ (bt x1 0 3) → Q (rI (-2000000000)) h) ∧ ((bt x1 0 3) → (((bt x2 (-1) 5) → (vp_in x1 4 ∧ (nt x1) < 4 ∧ (vp_in x1 4 ∧ (∀ h3, h3 = w1 h (o + 44) (nt x1) x2 → Q (rI (ea t (nt x1))) h3)))) ∧ (¬ (bt x2 (-1) 5) → Q (rI (-2000000000)) h))))) : AWP mX4_ear 2 0 [vR (some o), vI x1, vI x2, vU] [] h b Q := by
  refine go_iload_n 1 1 dX4_ear_0 rfl rfl rfl ?_
  refine go_callSI (M' := mX4_isEar) (as := [vI x1]) 4 dX4_ear_1 rfl q2025 okX4_isEar rfl rfl rfl rfl rfl (ctX4_isEar) ?_
  intro x0 h0 p0
  rw [p0.1, p0.2]
  refine go_if_eq 7 16 dX4_ear_4 rfl (by decide) (fun e1 => ?_) (fun e1 => ?_)
  · replace vc := vc.1 (bI_0.mp e1)
    refine go_ldcw 19 dX4_ear_16 rfl q1773 ?_
    exact go_ireturn dX4_ear_19 rfl vc
  · replace vc := vc.2 (bI_n0.mp e1)
    refine go_iload_n 8 2 dX4_ear_7 rfl rfl rfl ?_
    refine go_iconst (v := (-1)) 9 dX4_ear_8 rfl (by decide) ?_
    refine go_iconst (v := nI 5) 10 dX4_ear_9 rfl (by decide) ?_
    refine go_callSI (M' := mX4_in) (as := [vI x2, vI (-1), vI (nI 5)]) 13 dX4_ear_10 rfl q1703 okX4_in rfl rfl rfl rfl rfl (ctX4_inL rfl rfl) ?_
    intro x0 h0 p0
    rw [p0.1, p0.2]
    refine go_if_ne 16 20 dX4_ear_13 rfl (by decide) (fun e2 => ?_) (fun e2 => ?_)
    · replace vc := vc.1 (bI_n0.mp e2)
      refine go_aload_n 21 0 dX4_ear_20 rfl rfl rfl ?_
      refine go_getRe 24 dX4_ear_21 rfl (MO_k hM.1) gfX4_142_5 rfl (MO_f1472 hM.1) ?_
      refine go_iload_n 25 1 dX4_ear_24 rfl rfl rfl ?_
      refine go_iaload 26 dX4_ear_25 rfl (MO_k44 hM.1) vc.1 ?_
      replace vc := vc.2
      rw [hM.a44 vc.1]
      replace vc := vc.2
      refine go_istore_n 27 3 [vR (some o), vI x1, vI x2, vI (ea t (nt x1))] dX4_ear_26 rfl rfl rfl rfl ?_
      refine go_aload_n 28 0 dX4_ear_27 rfl rfl rfl ?_
      refine go_getRe 31 dX4_ear_28 rfl (MO_k hM.1) gfX4_142_5 rfl (MO_f1472 hM.1) ?_
      refine go_iload_n 32 1 dX4_ear_31 rfl rfl rfl ?_
      refine go_iload_n 33 2 dX4_ear_32 rfl rfl rfl ?_
      refine go_iastore 34 dX4_ear_33 rfl (MO_k44 hM.1) vc.1 ?_
      replace vc := vc.2
      refine AWP.nm fun h3 eh3 => ?_
      replace vc := vc h3 eh3
      have hM : MO h3 o := by rw [eh3]; exact hM.1
      refine go_iload_n 35 3 dX4_ear_34 rfl rfl rfl ?_
      exact go_ireturn dX4_ear_35 rfl vc
    · replace vc := vc.2 (bI_0.mp e2)
      refine go_ldcw 19 dX4_ear_16 rfl q1773 ?_
      exact go_ireturn dX4_ear_19 rfl vc

theorem bX4_roll_0 {h : Hp} {b : Nat × Nat} {Q : Rs → Hp → Prop} {o : Nat} {x1 : Int32} {x2 : Int32} {x3 : Int32} {t : St} {g : Nat} (hM : MS h o t g) (vc : ((¬ (bt x1 0 5) → Q (rI (-1)) h) ∧ ((bt x1 0 5) → ((¬ (bt x2 (-99) 99) → Q (rI (-1)) h) ∧ ((bt x2 (-99) 99) → (((bt x3 0 99) → ((¬ (nI (rm t)) = (nI 6) → (vp_in (nI (rm t)) 6 ∧ (∀ h5, h5 = w1 h (o + 50) (nt (nI (rm t))) x1 → (vp_in (hFI h5 479 o) 6 ∧ (∀ h6, h6 = w1 h5 (o + 51) (nt (hFI h5 479 o)) x2 → (vp_in (hFI h6 479 o) 6 ∧ (∀ h7, h7 = w1 h6 (o + 52) (nt (hFI h6 479 o)) x3 → (∀ h8, h8 = sFI h7 479 o ((hFI h7 479 o) + (nI 1)) → Q (rI (hFI h8 479 o)) h8)))))))) ∧ ((nI (rm t)) = (nI 6) → Q (rI (-3)) h))) ∧ (¬ (bt x3 0 99) → Q (rI (-1)) h))))))) : AWP mX4_roll 1 0 [vR (some o), vI x1, vI x2, vI x3] [] h b Q := by
  refine go_iload_n 1 1 dX4_roll_0 rfl rfl rfl ?_
  refine go_iconst (v := nI 0) 2 dX4_roll_1 rfl (by decide) ?_
  refine go_iconst (v := nI 5) 3 dX4_roll_2 rfl (by decide) ?_
  refine go_callSI (M' := mX4_in) (as := [vI x1, vI (nI 0), vI (nI 5)]) 6 dX4_roll_3 rfl q1703 okX4_in rfl rfl rfl rfl rfl (ctX4_inL rfl rfl) ?_
  intro x0 h0 p0
  rw [p0.1, p0.2]
  refine go_if_eq 9 30 dX4_roll_6 rfl (by decide) (fun e1 => ?_) (fun e1 => ?_)
  · replace vc := vc.1 (bI_0.mp e1)
    refine go_iconst (v := (-1)) 31 dX4_roll_30 rfl (by decide) ?_
    exact go_ireturn dX4_roll_31 rfl vc
  · replace vc := vc.2 (bI_n0.mp e1)
    refine go_iload_n 10 2 dX4_roll_9 rfl rfl rfl ?_
    refine go_bipush (v := (-99)) 12 dX4_roll_10 rfl (by decide) ?_
    refine go_bipush (v := nI 99) 14 dX4_roll_12 rfl (by decide) ?_
    refine go_callSI (M' := mX4_in) (as := [vI x2, vI (-99), vI (nI 99)]) 17 dX4_roll_14 rfl q1703 okX4_in rfl rfl rfl rfl rfl (ctX4_inL rfl rfl) ?_
    intro x0 h0 p0
    rw [p0.1, p0.2]
    refine go_if_eq 20 30 dX4_roll_17 rfl (by decide) (fun e2 => ?_) (fun e2 => ?_)
    · replace vc := vc.1 (bI_0.mp e2)
      refine go_iconst (v := (-1)) 31 dX4_roll_30 rfl (by decide) ?_
      exact go_ireturn dX4_roll_31 rfl vc
    · replace vc := vc.2 (bI_n0.mp e2)
      refine go_iload_n 21 3 dX4_roll_20 rfl rfl rfl ?_
      refine go_iconst (v := nI 0) 22 dX4_roll_21 rfl (by decide) ?_
      refine go_bipush (v := nI 99) 24 dX4_roll_22 rfl (by decide) ?_
      refine go_callSI (M' := mX4_in) (as := [vI x3, vI (nI 0), vI (nI 99)]) 27 dX4_roll_24 rfl q1703 okX4_in rfl rfl rfl rfl rfl (ctX4_inL rfl rfl) ?_
      intro x0 h0 p0
      rw [p0.1, p0.2]
      refine go_if_ne 30 32 dX4_roll_27 rfl (by decide) (fun e3 => ?_) (fun e3 => ?_)
      · replace vc := vc.1 (bI_n0.mp e3)
        refine go_aload_n 33 0 dX4_roll_32 rfl rfl rfl ?_
        refine go_getI 36 dX4_roll_33 rfl (MO_k hM.1) gfX4_472_5 rfl ?_
        rw [hM.f479]
        refine go_bipush (v := nI 6) 38 dX4_roll_36 rfl (by decide) ?_
        refine go_icmp_ne 41 44 dX4_roll_38 rfl (by decide) (fun e4 => ?_) (fun e4 => ?_)
        · replace vc := vc.1 e4
          refine go_aload_n 45 0 dX4_roll_44 rfl rfl rfl ?_
          refine go_getRe 48 dX4_roll_45 rfl (MO_k hM.1) gfX4_160_5 rfl (MO_f1480 hM.1) ?_
          refine go_aload_n 49 0 dX4_roll_48 rfl rfl rfl ?_
          refine go_getI 52 dX4_roll_49 rfl (MO_k hM.1) gfX4_472_5 rfl ?_
          rw [hM.f479]
          refine go_iload_n 53 1 dX4_roll_52 rfl rfl rfl ?_
          refine go_iastore 54 dX4_roll_53 rfl (MO_k50 hM.1) vc.1 ?_
          replace vc := vc.2
          refine AWP.nm fun h5 eh5 => ?_
          replace vc := vc h5 eh5
          have hM : MO h5 o := by rw [eh5]; exact hM.1
          refine go_aload_n 55 0 dX4_roll_54 rfl rfl rfl ?_
          refine go_getRe 58 dX4_roll_55 rfl (MO_k hM) gfX4_163_5 rfl (MO_f1481 hM) ?_
          refine go_aload_n 59 0 dX4_roll_58 rfl rfl rfl ?_
          refine go_getI 62 dX4_roll_59 rfl (MO_k hM) gfX4_472_5 rfl ?_
          refine go_iload_n 63 2 dX4_roll_62 rfl rfl rfl ?_
          refine go_iastore 64 dX4_roll_63 rfl (MO_k51 hM) vc.1 ?_
          replace vc := vc.2
          refine AWP.nm fun h6 eh6 => ?_
          replace vc := vc h6 eh6
          have hM : MO h6 o := by rw [eh6]; exact hM
          refine go_aload_n 65 0 dX4_roll_64 rfl rfl rfl ?_
          refine go_getRe 68 dX4_roll_65 rfl (MO_k hM) gfX4_166_5 rfl (MO_f1482 hM) ?_
          refine go_aload_n 69 0 dX4_roll_68 rfl rfl rfl ?_
          refine go_getI 72 dX4_roll_69 rfl (MO_k hM) gfX4_472_5 rfl ?_
          refine go_iload_n 73 3 dX4_roll_72 rfl rfl rfl ?_
          refine go_iastore 74 dX4_roll_73 rfl (MO_k52 hM) vc.1 ?_
          replace vc := vc.2
          refine AWP.nm fun h7 eh7 => ?_
          replace vc := vc h7 eh7
          have hM : MO h7 o := by rw [eh7]; exact hM
          refine go_aload_n 75 0 dX4_roll_74 rfl rfl rfl ?_
          refine go_dup 76 dX4_roll_75 rfl rfl ?_
          refine go_getI 79 dX4_roll_76 rfl (MO_k hM) gfX4_472_5 rfl ?_
          refine go_iconst (v := nI 1) 80 dX4_roll_79 rfl (by decide) ?_
          refine go_iadd 81 dX4_roll_80 rfl ?_
          refine go_putI 84 dX4_roll_81 rfl (MO_k hM) (gpX4_472_5 _) rfl ?_
          refine AWP.nm fun h8 eh8 => ?_
          replace vc := vc h8 eh8
          have hM : MO h8 o := by rw [eh8]; exact hM
          refine go_aload_n 85 0 dX4_roll_84 rfl rfl rfl ?_
          refine go_getI 88 dX4_roll_85 rfl (MO_k hM) gfX4_472_5 rfl ?_
          exact go_ireturn dX4_roll_88 rfl vc
        · replace vc := vc.2 e4
          refine go_bipush (v := (-3)) 43 dX4_roll_41 rfl (by decide) ?_
          exact go_ireturn dX4_roll_43 rfl vc
      · replace vc := vc.2 (bI_0.mp e3)
        refine go_iconst (v := (-1)) 31 dX4_roll_30 rfl (by decide) ?_
        exact go_ireturn dX4_roll_31 rfl vc

theorem bX4_ratio_0 {h : Hp} {b : Nat × Nat} {Q : Rs → Hp → Prop} {o : Nat} {x1 : Int32} {x2 : Int32} {t : St} {g : Nat} (hM : MS h o t g) (vc : ((¬ (bt x1 1 9) → Q (rI (-1)) h) ∧ ((bt x1 1 9) → (((bt x2 1 9) → ((¬ (nI (rt t)) = (nI 6) → (vp_in (nI (rt t)) 6 ∧ (∀ h4, h4 = w1 h (o + 53) (nt (nI (rt t))) x1 → (vp_in (hFI h4 483 o) 6 ∧ (∀ h5, h5 = w1 h4 (o + 54) (nt (hFI h4 483 o)) x2 → (∀ h6, h6 = sFI h5 483 o ((hFI h5 483 o) + (nI 1)) → Q (rI (hFI h6 483 o)) h6)))))) ∧ ((nI (rt t)) = (nI 6) → Q (rI (-3)) h))) ∧ (¬ (bt x2 1 9) → Q (rI (-1)) h))))) : AWP mX4_ratio 1 0 [vR (some o), vI x1, vI x2] [] h b Q := by
  refine go_iload_n 1 1 dX4_ratio_0 rfl rfl rfl ?_
  refine go_iconst (v := nI 1) 2 dX4_ratio_1 rfl (by decide) ?_
  refine go_bipush (v := nI 9) 4 dX4_ratio_2 rfl (by decide) ?_
  refine go_callSI (M' := mX4_in) (as := [vI x1, vI (nI 1), vI (nI 9)]) 7 dX4_ratio_4 rfl q1703 okX4_in rfl rfl rfl rfl rfl (ctX4_inL rfl rfl) ?_
  intro x0 h0 p0
  rw [p0.1, p0.2]
  refine go_if_eq 10 20 dX4_ratio_7 rfl (by decide) (fun e1 => ?_) (fun e1 => ?_)
  · replace vc := vc.1 (bI_0.mp e1)
    refine go_iconst (v := (-1)) 21 dX4_ratio_20 rfl (by decide) ?_
    exact go_ireturn dX4_ratio_21 rfl vc
  · replace vc := vc.2 (bI_n0.mp e1)
    refine go_iload_n 11 2 dX4_ratio_10 rfl rfl rfl ?_
    refine go_iconst (v := nI 1) 12 dX4_ratio_11 rfl (by decide) ?_
    refine go_bipush (v := nI 9) 14 dX4_ratio_12 rfl (by decide) ?_
    refine go_callSI (M' := mX4_in) (as := [vI x2, vI (nI 1), vI (nI 9)]) 17 dX4_ratio_14 rfl q1703 okX4_in rfl rfl rfl rfl rfl (ctX4_inL rfl rfl) ?_
    intro x0 h0 p0
    rw [p0.1, p0.2]
    refine go_if_ne 20 22 dX4_ratio_17 rfl (by decide) (fun e2 => ?_) (fun e2 => ?_)
    · replace vc := vc.1 (bI_n0.mp e2)
      refine go_aload_n 23 0 dX4_ratio_22 rfl rfl rfl ?_
      refine go_getI 26 dX4_ratio_23 rfl (MO_k hM.1) gfX4_504_5 rfl ?_
      rw [hM.f483]
      refine go_bipush (v := nI 6) 28 dX4_ratio_26 rfl (by decide) ?_
      refine go_icmp_ne 31 34 dX4_ratio_28 rfl (by decide) (fun e3 => ?_) (fun e3 => ?_)
      · replace vc := vc.1 e3
        refine go_aload_n 35 0 dX4_ratio_34 rfl rfl rfl ?_
        refine go_getRe 38 dX4_ratio_35 rfl (MO_k hM.1) gfX4_169_5 rfl (MO_f1484 hM.1) ?_
        refine go_aload_n 39 0 dX4_ratio_38 rfl rfl rfl ?_
        refine go_getI 42 dX4_ratio_39 rfl (MO_k hM.1) gfX4_504_5 rfl ?_
        rw [hM.f483]
        refine go_iload_n 43 1 dX4_ratio_42 rfl rfl rfl ?_
        refine go_iastore 44 dX4_ratio_43 rfl (MO_k53 hM.1) vc.1 ?_
        replace vc := vc.2
        refine AWP.nm fun h4 eh4 => ?_
        replace vc := vc h4 eh4
        have hM : MO h4 o := by rw [eh4]; exact hM.1
        refine go_aload_n 45 0 dX4_ratio_44 rfl rfl rfl ?_
        refine go_getRe 48 dX4_ratio_45 rfl (MO_k hM) gfX4_172_5 rfl (MO_f1485 hM) ?_
        refine go_aload_n 49 0 dX4_ratio_48 rfl rfl rfl ?_
        refine go_getI 52 dX4_ratio_49 rfl (MO_k hM) gfX4_504_5 rfl ?_
        refine go_iload_n 53 2 dX4_ratio_52 rfl rfl rfl ?_
        refine go_iastore 54 dX4_ratio_53 rfl (MO_k54 hM) vc.1 ?_
        replace vc := vc.2
        refine AWP.nm fun h5 eh5 => ?_
        replace vc := vc h5 eh5
        have hM : MO h5 o := by rw [eh5]; exact hM
        refine go_aload_n 55 0 dX4_ratio_54 rfl rfl rfl ?_
        refine go_dup 56 dX4_ratio_55 rfl rfl ?_
        refine go_getI 59 dX4_ratio_56 rfl (MO_k hM) gfX4_504_5 rfl ?_
        refine go_iconst (v := nI 1) 60 dX4_ratio_59 rfl (by decide) ?_
        refine go_iadd 61 dX4_ratio_60 rfl ?_
        refine go_putI 64 dX4_ratio_61 rfl (MO_k hM) (gpX4_504_5 _) rfl ?_
        refine AWP.nm fun h6 eh6 => ?_
        replace vc := vc h6 eh6
        have hM : MO h6 o := by rw [eh6]; exact hM
        refine go_aload_n 65 0 dX4_ratio_64 rfl rfl rfl ?_
        refine go_getI 68 dX4_ratio_65 rfl (MO_k hM) gfX4_504_5 rfl ?_
        exact go_ireturn dX4_ratio_68 rfl vc
      · replace vc := vc.2 e3
        refine go_bipush (v := (-3)) 33 dX4_ratio_31 rfl (by decide) ?_
        exact go_ireturn dX4_ratio_33 rfl vc
    · replace vc := vc.2 (bI_0.mp e2)
      refine go_iconst (v := (-1)) 21 dX4_ratio_20 rfl (by decide) ?_
      exact go_ireturn dX4_ratio_21 rfl vc

theorem bX4_unratio_0 {h : Hp} {b : Nat × Nat} {Q : Rs → Hp → Prop} {o : Nat}  {t : St} {g : Nat} (hM : MS h o t g) (vc : (∀ h1, h1 = sFI h 483 o (nI 0) → Q (rI (nI (rt t))) h1)) : AWP mX4_unratio 0 0 [vR (some o), vU] [] h b Q := by
  refine go_aload_n 1 0 dX4_unratio_0 rfl rfl rfl ?_
  refine go_getI 4 dX4_unratio_1 rfl (MO_k hM.1) gfX4_504_5 rfl ?_
  rw [hM.f483]
  refine go_istore_n 5 1 [vR (some o), vI (nI (rt t))] dX4_unratio_4 rfl rfl rfl rfl ?_
  refine go_aload_n 6 0 dX4_unratio_5 rfl rfl rfl ?_
  refine go_iconst (v := nI 0) 7 dX4_unratio_6 rfl (by decide) ?_
  refine go_putI 10 dX4_unratio_7 rfl (MO_k hM.1) (gpX4_504_5 _) rfl ?_
  refine AWP.nm fun h1 eh1 => ?_
  replace vc := vc h1 eh1
  have hM : MO h1 o := by rw [eh1]; exact hM.1
  refine go_iload_n 11 1 dX4_unratio_10 rfl rfl rfl ?_
  exact go_ireturn dX4_unratio_11 rfl vc

theorem bX4_hear_0 {h : Hp} {b : Nat × Nat} {Q : Rs → Hp → Prop} {o : Nat} {x1 : Int32} {t : St} {g : Nat} (hM : MS h o t g) (vc : (((bt x1 0 99) → ((¬ (nI (hm t)) = (nI 6) → (vp_in (nI (hm t)) 6 ∧ (∀ h3, h3 = w1 h (o + 42) (nt (nI (hm t))) x1 → (∀ h4, h4 = sFI h3 465 o ((hFI h3 465 o) + (nI 1)) → Q (rI (hFI h4 465 o)) h4)))) ∧ ((nI (hm t)) = (nI 6) → Q (rI (-3)) h))) ∧ (¬ (bt x1 0 99) → Q (rI (-1)) h))) : AWP mX4_hear 1 0 [vR (some o), vI x1] [] h b Q := by
  refine go_iload_n 1 1 dX4_hear_0 rfl rfl rfl ?_
  refine go_iconst (v := nI 0) 2 dX4_hear_1 rfl (by decide) ?_
  refine go_bipush (v := nI 99) 4 dX4_hear_2 rfl (by decide) ?_
  refine go_callSI (M' := mX4_in) (as := [vI x1, vI (nI 0), vI (nI 99)]) 7 dX4_hear_4 rfl q1703 okX4_in rfl rfl rfl rfl rfl (ctX4_inL rfl rfl) ?_
  intro x0 h0 p0
  rw [p0.1, p0.2]
  refine go_if_ne 10 12 dX4_hear_7 rfl (by decide) (fun e1 => ?_) (fun e1 => ?_)
  · replace vc := vc.1 (bI_n0.mp e1)
    refine go_aload_n 13 0 dX4_hear_12 rfl rfl rfl ?_
    refine go_getI 16 dX4_hear_13 rfl (MO_k hM.1) gfX4_439_5 rfl ?_
    rw [hM.f465]
    refine go_bipush (v := nI 6) 18 dX4_hear_16 rfl (by decide) ?_
    refine go_icmp_ne 21 24 dX4_hear_18 rfl (by decide) (fun e2 => ?_) (fun e2 => ?_)
    · replace vc := vc.1 e2
      refine go_aload_n 25 0 dX4_hear_24 rfl rfl rfl ?_
      refine go_getRe 28 dX4_hear_25 rfl (MO_k hM.1) gfX4_136_5 rfl (MO_f1466 hM.1) ?_
      refine go_aload_n 29 0 dX4_hear_28 rfl rfl rfl ?_
      refine go_getI 32 dX4_hear_29 rfl (MO_k hM.1) gfX4_439_5 rfl ?_
      rw [hM.f465]
      refine go_iload_n 33 1 dX4_hear_32 rfl rfl rfl ?_
      refine go_iastore 34 dX4_hear_33 rfl (MO_k42 hM.1) vc.1 ?_
      replace vc := vc.2
      refine AWP.nm fun h3 eh3 => ?_
      replace vc := vc h3 eh3
      have hM : MO h3 o := by rw [eh3]; exact hM.1
      refine go_aload_n 35 0 dX4_hear_34 rfl rfl rfl ?_
      refine go_dup 36 dX4_hear_35 rfl rfl ?_
      refine go_getI 39 dX4_hear_36 rfl (MO_k hM) gfX4_439_5 rfl ?_
      refine go_iconst (v := nI 1) 40 dX4_hear_39 rfl (by decide) ?_
      refine go_iadd 41 dX4_hear_40 rfl ?_
      refine go_putI 44 dX4_hear_41 rfl (MO_k hM) (gpX4_439_5 _) rfl ?_
      refine AWP.nm fun h4 eh4 => ?_
      replace vc := vc h4 eh4
      have hM : MO h4 o := by rw [eh4]; exact hM
      refine go_aload_n 45 0 dX4_hear_44 rfl rfl rfl ?_
      refine go_getI 48 dX4_hear_45 rfl (MO_k hM) gfX4_439_5 rfl ?_
      exact go_ireturn dX4_hear_48 rfl vc
    · replace vc := vc.2 e2
      refine go_bipush (v := (-3)) 23 dX4_hear_21 rfl (by decide) ?_
      exact go_ireturn dX4_hear_23 rfl vc
  · replace vc := vc.2 (bI_0.mp e1)
    refine go_iconst (v := (-1)) 11 dX4_hear_10 rfl (by decide) ?_
    exact go_ireturn dX4_hear_11 rfl vc

theorem bX4_unhear_0 {h : Hp} {b : Nat × Nat} {Q : Rs → Hp → Prop} {o : Nat}  {t : St} {g : Nat} (hM : MS h o t g) (vc : (∀ h1, h1 = sFI h 465 o (nI 0) → Q (rI (nI (hm t))) h1)) : AWP mX4_unhear 0 0 [vR (some o), vU] [] h b Q := by
  refine go_aload_n 1 0 dX4_unhear_0 rfl rfl rfl ?_
  refine go_getI 4 dX4_unhear_1 rfl (MO_k hM.1) gfX4_439_5 rfl ?_
  rw [hM.f465]
  refine go_istore_n 5 1 [vR (some o), vI (nI (hm t))] dX4_unhear_4 rfl rfl rfl rfl ?_
  refine go_aload_n 6 0 dX4_unhear_5 rfl rfl rfl ?_
  refine go_iconst (v := nI 0) 7 dX4_unhear_6 rfl (by decide) ?_
  refine go_putI 10 dX4_unhear_7 rfl (MO_k hM.1) (gpX4_439_5 _) rfl ?_
  refine AWP.nm fun h1 eh1 => ?_
  replace vc := vc h1 eh1
  have hM : MO h1 o := by rw [eh1]; exact hM.1
  refine go_iload_n 11 1 dX4_unhear_10 rfl rfl rfl ?_
  exact go_ireturn dX4_unhear_11 rfl vc

theorem bX4_forget_0 {h : Hp} {b : Nat × Nat} {Q : Rs → Hp → Prop} {o : Nat}  {t : St} {g : Nat} (hM : MS h o t g) (vc : (∀ h1, h1 = sFI h 451 o (nI 0) → (∀ h2, h2 = sFI h1 456 o (nI 0) → Q (rI (nI (pm t))) h2))) : AWP mX4_forget 0 0 [vR (some o), vU] [] h b Q := by
  refine go_aload_n 1 0 dX4_forget_0 rfl rfl rfl ?_
  refine go_getI 4 dX4_forget_1 rfl (MO_k hM.1) gfX4_403_5 rfl ?_
  rw [hM.f451]
  refine go_istore_n 5 1 [vR (some o), vI (nI (pm t))] dX4_forget_4 rfl rfl rfl rfl ?_
  refine go_aload_n 6 0 dX4_forget_5 rfl rfl rfl ?_
  refine go_iconst (v := nI 0) 7 dX4_forget_6 rfl (by decide) ?_
  refine go_putI 10 dX4_forget_7 rfl (MO_k hM.1) (gpX4_403_5 _) rfl ?_
  refine AWP.nm fun h1 eh1 => ?_
  replace vc := vc h1 eh1
  have hM : MO h1 o := by rw [eh1]; exact hM.1
  refine go_aload_n 11 0 dX4_forget_10 rfl rfl rfl ?_
  refine go_iconst (v := nI 0) 12 dX4_forget_11 rfl (by decide) ?_
  refine go_putI 15 dX4_forget_12 rfl (MO_k hM) (gpX4_409_5 _) rfl ?_
  refine AWP.nm fun h2 eh2 => ?_
  replace vc := vc h2 eh2
  have hM : MO h2 o := by rw [eh2]; exact hM
  refine go_iload_n 16 1 dX4_forget_15 rfl rfl rfl ?_
  exact go_ireturn dX4_forget_16 rfl vc

theorem bX4_heard_0 {h : Hp} {b : Nat × Nat} {Q : Rs → Hp → Prop} {o : Nat} {x1 : Int32} {x2 : Int32} {t : St} {g : Nat} (hM : MS h o t g) (vc : ((¬ (bt x1 0 3) → Q (rI (-2000000000)) h) ∧ ((bt x1 0 3) → ((¬ ((nI 1) ≤ x2 ∧ x2 ≤ (nI (sp t))) → Q (rI (-2000000000)) h) ∧ (((nI 1) ≤ x2 ∧ x2 ≤ (nI (sp t))) → (vp_in x1 4 ∧ (nt x1) < 4 ∧ (((ew t (nt x1)) < 0 → Q (rI (-2000000000)) h) ∧ (¬ (ew t (nt x1)) < 0 → (vp_in ((((nI 200) * x1) + x2) - (nI 1)) 800 ∧ Q (rI (hAI h (o + 49) (nt ((((nI 200) * x1) + x2) - (nI 1))))) h))))))))) : AWP mX4_heard 2 0 [vR (some o), vI x1, vI x2] [] h b Q := by
  refine go_iload_n 1 1 dX4_heard_0 rfl rfl rfl ?_
  refine go_callSI (M' := mX4_isEar) (as := [vI x1]) 4 dX4_heard_1 rfl q2025 okX4_isEar rfl rfl rfl rfl rfl (ctX4_isEar) ?_
  intro x0 h0 p0
  rw [p0.1, p0.2]
  refine go_if_eq 7 45 dX4_heard_4 rfl (by decide) (fun e1 => ?_) (fun e1 => ?_)
  · replace vc := vc.1 (bI_0.mp e1)
    refine go_ldcw 48 dX4_heard_45 rfl q1773 ?_
    exact go_ireturn dX4_heard_48 rfl vc
  · replace vc := vc.2 (bI_n0.mp e1)
    refine go_iload_n 8 2 dX4_heard_7 rfl rfl rfl ?_
    refine go_iconst (v := nI 1) 9 dX4_heard_8 rfl (by decide) ?_
    refine go_aload_n 10 0 dX4_heard_9 rfl rfl rfl ?_
    refine go_getI 13 dX4_heard_10 rfl (MO_k hM.1) gfX4_463_5 rfl ?_
    rw [hM.f474]
    refine go_callSI (M' := mX4_in) (as := [vI x2, vI (nI 1), vI (nI (sp t))]) 16 dX4_heard_13 rfl q1703 okX4_in rfl rfl rfl rfl rfl (ctX4_in) ?_
    intro x0 h0 p0
    rw [p0.1, p0.2]
    refine go_if_eq 19 45 dX4_heard_16 rfl (by decide) (fun e2 => ?_) (fun e2 => ?_)
    · replace vc := vc.1 (bI_0.mp e2)
      refine go_ldcw 48 dX4_heard_45 rfl q1773 ?_
      exact go_ireturn dX4_heard_48 rfl vc
    · replace vc := vc.2 (bI_n0.mp e2)
      refine go_aload_n 20 0 dX4_heard_19 rfl rfl rfl ?_
      refine go_getRe 23 dX4_heard_20 rfl (MO_k hM.1) gfX4_145_5 rfl (MO_f1473 hM.1) ?_
      refine go_iload_n 24 1 dX4_heard_23 rfl rfl rfl ?_
      refine go_iaload 25 dX4_heard_24 rfl (MO_k45 hM.1) vc.1 ?_
      replace vc := vc.2
      rw [hM.a45 vc.1]
      replace vc := vc.2
      refine go_if_lt 28 45 dX4_heard_25 rfl (by decide) (fun e3 => ?_) (fun e3 => ?_)
      · replace vc := vc.1 e3
        refine go_ldcw 48 dX4_heard_45 rfl q1773 ?_
        exact go_ireturn dX4_heard_48 rfl vc
      · replace vc := vc.2 e3
        refine go_aload_n 29 0 dX4_heard_28 rfl rfl rfl ?_
        refine go_getRe 32 dX4_heard_29 rfl (MO_k hM.1) gfX4_157_5 rfl (MO_f1478 hM.1) ?_
        refine go_sipush (v := nI 200) 35 dX4_heard_32 rfl (by decide) ?_
        refine go_iload_n 36 1 dX4_heard_35 rfl rfl rfl ?_
        refine go_imul 37 dX4_heard_36 rfl ?_
        refine go_iload_n 38 2 dX4_heard_37 rfl rfl rfl ?_
        refine go_iadd 39 dX4_heard_38 rfl ?_
        refine go_iconst (v := nI 1) 40 dX4_heard_39 rfl (by decide) ?_
        refine go_isub 41 dX4_heard_40 rfl ?_
        refine go_iaload 42 dX4_heard_41 rfl (MO_k49 hM.1) vc.1 ?_
        replace vc := vc.2
        refine go_goto 48 dX4_heard_42 (by decide) ?_
        exact go_ireturn dX4_heard_48 rfl vc

theorem bX4_loud_0 {h : Hp} {b : Nat × Nat} {Q : Rs → Hp → Prop} {o : Nat} {x1 : Int32} {x2 : Int32} {t : St} {g : Nat} (hM : MS h o t g) (vc : ((¬ (bt x1 0 3) → Q (rI (-1)) h) ∧ ((bt x1 0 3) → (((-1) ≤ x2 → (((nI (sp t)) = 0 → Q (rI (-4)) h) ∧ (¬ (nI (sp t)) = 0 → (vp_in x1 4 ∧ (nt x1) < 4 ∧ ((0 ≤ (ew t (nt x1)) → ((¬ x2 = (-1) → AWP mX4_loud 2 86 [vR (some o), vI x1, vI x2, vI (nI (sp t)), vU] [] h b Q) ∧ (x2 = (-1) → AWP mX4_loud 2 43 [vR (some o), vI x1, vI x2, vI (nI 0), vI (nI 0)] [] h b Q))) ∧ (¬ 0 ≤ (ew t (nt x1)) → Q (rI (-4)) h)))))) ∧ (¬ (-1) ≤ x2 → Q (rI (-1)) h))))) : AWP mX4_loud 2 0 [vR (some o), vI x1, vI x2, vU, vU] [] h b Q := by
  refine go_iload_n 1 1 dX4_loud_0 rfl rfl rfl ?_
  refine go_callSI (M' := mX4_isEar) (as := [vI x1]) 4 dX4_loud_1 rfl q2025 okX4_isEar rfl rfl rfl rfl rfl (ctX4_isEar) ?_
  intro x0 h0 p0
  rw [p0.1, p0.2]
  refine go_if_eq 7 12 dX4_loud_4 rfl (by decide) (fun e1 => ?_) (fun e1 => ?_)
  · replace vc := vc.1 (bI_0.mp e1)
    refine go_iconst (v := (-1)) 13 dX4_loud_12 rfl (by decide) ?_
    exact go_ireturn dX4_loud_13 rfl vc
  · replace vc := vc.2 (bI_n0.mp e1)
    refine go_iload_n 8 2 dX4_loud_7 rfl rfl rfl ?_
    refine go_iconst (v := (-1)) 9 dX4_loud_8 rfl (by decide) ?_
    refine go_icmp_ge 12 14 dX4_loud_9 rfl (by decide) (fun e2 => ?_) (fun e2 => ?_)
    · replace vc := vc.1 e2
      refine go_aload_n 15 0 dX4_loud_14 rfl rfl rfl ?_
      refine go_getI 18 dX4_loud_15 rfl (MO_k hM.1) gfX4_463_5 rfl ?_
      rw [hM.f474]
      refine go_if_eq 21 30 dX4_loud_18 rfl (by decide) (fun e3 => ?_) (fun e3 => ?_)
      · replace vc := vc.1 e3
        refine go_bipush (v := (-4)) 32 dX4_loud_30 rfl (by decide) ?_
        exact go_ireturn dX4_loud_32 rfl vc
      · replace vc := vc.2 e3
        refine go_aload_n 22 0 dX4_loud_21 rfl rfl rfl ?_
        refine go_getRe 25 dX4_loud_22 rfl (MO_k hM.1) gfX4_145_5 rfl (MO_f1473 hM.1) ?_
        refine go_iload_n 26 1 dX4_loud_25 rfl rfl rfl ?_
        refine go_iaload 27 dX4_loud_26 rfl (MO_k45 hM.1) vc.1 ?_
        replace vc := vc.2
        rw [hM.a45 vc.1]
        replace vc := vc.2
        refine go_if_ge 30 33 dX4_loud_27 rfl (by decide) (fun e4 => ?_) (fun e4 => ?_)
        · replace vc := vc.1 e4
          refine go_iload_n 34 2 dX4_loud_33 rfl rfl rfl ?_
          refine go_iconst (v := (-1)) 35 dX4_loud_34 rfl (by decide) ?_
          refine go_icmp_ne 38 81 dX4_loud_35 rfl (by decide) (fun e5 => ?_) (fun e5 => ?_)
          · replace vc := vc.1 e5
            refine go_aload_n 82 0 dX4_loud_81 rfl rfl rfl ?_
            refine go_getI 85 dX4_loud_82 rfl (MO_k hM.1) gfX4_463_5 rfl ?_
            rw [hM.f474]
            refine go_istore_n 86 3 [vR (some o), vI x1, vI x2, vI (nI (sp t)), vU] dX4_loud_85 rfl rfl rfl rfl ?_
            exact vc
          · replace vc := vc.2 e5
            refine go_iconst (v := nI 0) 39 dX4_loud_38 rfl (by decide) ?_
            refine go_istore_n 40 3 [vR (some o), vI x1, vI x2, vI (nI 0), vU] dX4_loud_39 rfl rfl rfl rfl ?_
            refine go_iconst (v := nI 0) 41 dX4_loud_40 rfl (by decide) ?_
            refine go_istore 43 [vR (some o), vI x1, vI x2, vI (nI 0), vI (nI 0)] dX4_loud_41 rfl rfl rfl ?_
            exact vc
        · replace vc := vc.2 e4
          refine go_bipush (v := (-4)) 32 dX4_loud_30 rfl (by decide) ?_
          exact go_ireturn dX4_loud_32 rfl vc
    · replace vc := vc.2 e2
      refine go_iconst (v := (-1)) 13 dX4_loud_12 rfl (by decide) ?_
      exact go_ireturn dX4_loud_13 rfl vc

theorem bX4_loud_43 {h : Hp} {b : Nat × Nat} {Q : Rs → Hp → Prop} {o : Nat} {x1 : Int32} {x2 : Int32} {x3 : Int32} {x4 : Int32} {t : St} {g : Nat} (hM : MS h o t g) (vc : (((nI (sp t)) ≤ x4 → Q (rI x3) h) ∧ (¬ (nI (sp t)) ≤ x4 → (vp_in (((nI 200) * x1) + x4) 800 ∧ AWP mX4_loud 2 43 [vR (some o), vI x1, vI x2, vI (mxI x3 (abI (hAI h (o + 49) (nt (((nI 200) * x1) + x4))))), vI (x4 + nI 1)] [] h b Q)))) : AWP mX4_loud 2 43 [vR (some o), vI x1, vI x2, vI x3, vI x4] [] h b Q := by
  refine go_iload 45 dX4_loud_43 rfl rfl ?_
  refine go_aload_n 46 0 dX4_loud_45 rfl rfl rfl ?_
  refine go_getI 49 dX4_loud_46 rfl (MO_k hM.1) gfX4_463_5 rfl ?_
  rw [hM.f474]
  refine go_icmp_ge 52 79 dX4_loud_49 rfl (by decide) (fun e1 => ?_) (fun e1 => ?_)
  · replace vc := vc.1 e1
    refine go_iload_n 80 3 dX4_loud_79 rfl rfl rfl ?_
    exact go_ireturn dX4_loud_80 rfl vc
  · replace vc := vc.2 e1
    refine go_iload_n 53 3 dX4_loud_52 rfl rfl rfl ?_
    refine go_aload_n 54 0 dX4_loud_53 rfl rfl rfl ?_
    refine go_getRe 57 dX4_loud_54 rfl (MO_k hM.1) gfX4_157_5 rfl (MO_f1478 hM.1) ?_
    refine go_sipush (v := nI 200) 60 dX4_loud_57 rfl (by decide) ?_
    refine go_iload_n 61 1 dX4_loud_60 rfl rfl rfl ?_
    refine go_imul 62 dX4_loud_61 rfl ?_
    refine go_iload 64 dX4_loud_62 rfl rfl ?_
    refine go_iadd 65 dX4_loud_64 rfl ?_
    refine go_iaload 66 dX4_loud_65 rfl (MO_k49 hM.1) vc.1 ?_
    replace vc := vc.2
    refine go_callSI (M' := mX4_sizeOf) (as := [vI (hAI h (o + 49) (nt (((nI 200) * x1) + x4)))]) 69 dX4_loud_66 rfl q1982 okX4_sizeOf rfl rfl rfl rfl rfl (ctX4_sizeOf) ?_
    intro x0 h0 p0
    rw [p0.1, p0.2]
    refine go_callSI (M' := mX4_greater) (as := [vI x3, vI (abI (hAI h (o + 49) (nt (((nI 200) * x1) + x4))))]) 72 dX4_loud_69 rfl q1825 okX4_greater rfl rfl rfl rfl rfl (ctX4_greater) ?_
    intro x0 h0 p0
    rw [p0.1, p0.2]
    refine go_istore_n 73 3 [vR (some o), vI x1, vI x2, vI (mxI x3 (abI (hAI h (o + 49) (nt (((nI 200) * x1) + x4))))), vI x4] dX4_loud_72 rfl rfl rfl rfl ?_
    refine go_iinc 76 (x4 + nI 1) [vR (some o), vI x1, vI x2, vI (mxI x3 (abI (hAI h (o + 49) (nt (((nI 200) * x1) + x4))))), vI (x4 + nI 1)] dX4_loud_73 rfl rfl (by rfl) rfl rfl ?_
    refine go_goto 43 dX4_loud_76 (by decide) ?_
    exact vc

theorem bX4_loud_86 {h : Hp} {b : Nat × Nat} {Q : Rs → Hp → Prop} {o : Nat} {x1 : Int32} {x2 : Int32} {x3 : Int32} {t : St} {g : Nat} (hM : MS h o t g) (vc : ((x3 ≤ 0 → Q (rI (mnI (x3 + (nI 1)) (nI (sp t)))) h) ∧ (¬ x3 ≤ 0 → (vp_in ((((nI 200) * x1) + x3) - (nI 1)) 800 ∧ ((x2 < (abI (hAI h (o + 49) (nt ((((nI 200) * x1) + x3) - (nI 1))))) → Q (rI (mnI (x3 + (nI 1)) (nI (sp t)))) h) ∧ (¬ x2 < (abI (hAI h (o + 49) (nt ((((nI 200) * x1) + x3) - (nI 1))))) → AWP mX4_loud 2 86 [vR (some o), vI x1, vI x2, vI (x3 + (-1)), vU] [] h b Q)))))) : AWP mX4_loud 2 86 [vR (some o), vI x1, vI x2, vI x3, vU] [] h b Q := by
  refine go_iload_n 87 3 dX4_loud_86 rfl rfl rfl ?_
  refine go_if_le 90 117 dX4_loud_87 rfl (by decide) (fun e1 => ?_) (fun e1 => ?_)
  · replace vc := vc.1 e1
    refine go_iload_n 118 3 dX4_loud_117 rfl rfl rfl ?_
    refine go_iconst (v := nI 1) 119 dX4_loud_118 rfl (by decide) ?_
    refine go_iadd 120 dX4_loud_119 rfl ?_
    refine go_aload_n 121 0 dX4_loud_120 rfl rfl rfl ?_
    refine go_getI 124 dX4_loud_121 rfl (MO_k hM.1) gfX4_463_5 rfl ?_
    rw [hM.f474]
    refine go_callSI (M' := mX4_lesser) (as := [vI (x3 + (nI 1)), vI (nI (sp t))]) 127 dX4_loud_124 rfl q1810 okX4_lesser rfl rfl rfl rfl rfl (ctX4_lesser) ?_
    intro x0 h0 p0
    rw [p0.1, p0.2]
    exact go_ireturn dX4_loud_127 rfl vc
  · replace vc := vc.2 e1
    refine go_aload_n 91 0 dX4_loud_90 rfl rfl rfl ?_
    refine go_getRe 94 dX4_loud_91 rfl (MO_k hM.1) gfX4_157_5 rfl (MO_f1478 hM.1) ?_
    refine go_sipush (v := nI 200) 97 dX4_loud_94 rfl (by decide) ?_
    refine go_iload_n 98 1 dX4_loud_97 rfl rfl rfl ?_
    refine go_imul 99 dX4_loud_98 rfl ?_
    refine go_iload_n 100 3 dX4_loud_99 rfl rfl rfl ?_
    refine go_iadd 101 dX4_loud_100 rfl ?_
    refine go_iconst (v := nI 1) 102 dX4_loud_101 rfl (by decide) ?_
    refine go_isub 103 dX4_loud_102 rfl ?_
    refine go_iaload 104 dX4_loud_103 rfl (MO_k49 hM.1) vc.1 ?_
    replace vc := vc.2
    refine go_callSI (M' := mX4_sizeOf) (as := [vI (hAI h (o + 49) (nt ((((nI 200) * x1) + x3) - (nI 1))))]) 107 dX4_loud_104 rfl q1982 okX4_sizeOf rfl rfl rfl rfl rfl (ctX4_sizeOf) ?_
    intro x0 h0 p0
    rw [p0.1, p0.2]
    refine go_iload_n 108 2 dX4_loud_107 rfl rfl rfl ?_
    refine go_icmp_gt 111 117 dX4_loud_108 rfl (by decide) (fun e2 => ?_) (fun e2 => ?_)
    · replace vc := vc.1 e2
      refine go_iload_n 118 3 dX4_loud_117 rfl rfl rfl ?_
      refine go_iconst (v := nI 1) 119 dX4_loud_118 rfl (by decide) ?_
      refine go_iadd 120 dX4_loud_119 rfl ?_
      refine go_aload_n 121 0 dX4_loud_120 rfl rfl rfl ?_
      refine go_getI 124 dX4_loud_121 rfl (MO_k hM.1) gfX4_463_5 rfl ?_
      rw [hM.f474]
      refine go_callSI (M' := mX4_lesser) (as := [vI (x3 + (nI 1)), vI (nI (sp t))]) 127 dX4_loud_124 rfl q1810 okX4_lesser rfl rfl rfl rfl rfl (ctX4_lesser) ?_
      intro x0 h0 p0
      rw [p0.1, p0.2]
      exact go_ireturn dX4_loud_127 rfl vc
    · replace vc := vc.2 e2
      refine go_iinc 114 (x3 + (-1)) [vR (some o), vI x1, vI x2, vI (x3 + (-1)), vU] dX4_loud_111 rfl rfl (by rfl) rfl rfl ?_
      refine go_goto 86 dX4_loud_114 (by decide) ?_
      exact vc

theorem bX4_body_0 {h : Hp} {b : Nat × Nat} {Q : Rs → Hp → Prop} {o : Nat} {x1 : Int32} {t : St} {g : Nat} (hM : MS h o t g) (vc : (((bt x1 0 5) → ((¬ (nI (nb t)) = (nI 200) → (vp_in (nI (nb t)) 200 ∧ (∀ h3, h3 = w1 h (o + 11) (nt (nI (nb t))) x1 → (vp_in (hFI h3 412 o) 200 ∧ (∀ h4, h4 = w1 h3 (o + 12) (nt (hFI h3 412 o)) (nI 0) → (∀ h5, h5 = sFI h4 412 o ((hFI h4 412 o) + (nI 1)) → Q (rI ((hFI h5 412 o) - (nI 1))) h5)))))) ∧ ((nI (nb t)) = (nI 200) → Q (rI (-3)) h))) ∧ (¬ (bt x1 0 5) → Q (rI (-1)) h))) : AWP mX4_body 1 0 [vR (some o), vI x1] [] h b Q := by
  refine go_iload_n 1 1 dX4_body_0 rfl rfl rfl ?_
  refine go_iconst (v := nI 0) 2 dX4_body_1 rfl (by decide) ?_
  refine go_iconst (v := nI 5) 3 dX4_body_2 rfl (by decide) ?_
  refine go_callSI (M' := mX4_in) (as := [vI x1, vI (nI 0), vI (nI 5)]) 6 dX4_body_3 rfl q1703 okX4_in rfl rfl rfl rfl rfl (ctX4_inL rfl rfl) ?_
  intro x0 h0 p0
  rw [p0.1, p0.2]
  refine go_if_ne 9 11 dX4_body_6 rfl (by decide) (fun e1 => ?_) (fun e1 => ?_)
  · replace vc := vc.1 (bI_n0.mp e1)
    refine go_aload_n 12 0 dX4_body_11 rfl rfl rfl ?_
    refine go_getI 15 dX4_body_12 rfl (MO_k hM.1) gfX4_261_5 rfl ?_
    rw [hM.f412]
    refine go_sipush (v := nI 200) 18 dX4_body_15 rfl (by decide) ?_
    refine go_icmp_ne 21 24 dX4_body_18 rfl (by decide) (fun e2 => ?_) (fun e2 => ?_)
    · replace vc := vc.1 e2
      refine go_aload_n 25 0 dX4_body_24 rfl rfl rfl ?_
      refine go_getRe 28 dX4_body_25 rfl (MO_k hM.1) gfX4_41_5 rfl (MO_f1413 hM.1) ?_
      refine go_aload_n 29 0 dX4_body_28 rfl rfl rfl ?_
      refine go_getI 32 dX4_body_29 rfl (MO_k hM.1) gfX4_261_5 rfl ?_
      rw [hM.f412]
      refine go_iload_n 33 1 dX4_body_32 rfl rfl rfl ?_
      refine go_iastore 34 dX4_body_33 rfl (MO_k11 hM.1) vc.1 ?_
      replace vc := vc.2
      refine AWP.nm fun h3 eh3 => ?_
      replace vc := vc h3 eh3
      have hM : MO h3 o := by rw [eh3]; exact hM.1
      refine go_aload_n 35 0 dX4_body_34 rfl rfl rfl ?_
      refine go_getRe 38 dX4_body_35 rfl (MO_k hM) gfX4_44_5 rfl (MO_f1414 hM) ?_
      refine go_aload_n 39 0 dX4_body_38 rfl rfl rfl ?_
      refine go_getI 42 dX4_body_39 rfl (MO_k hM) gfX4_261_5 rfl ?_
      refine go_iconst (v := nI 0) 43 dX4_body_42 rfl (by decide) ?_
      refine go_iastore 44 dX4_body_43 rfl (MO_k12 hM) vc.1 ?_
      replace vc := vc.2
      refine AWP.nm fun h4 eh4 => ?_
      replace vc := vc h4 eh4
      have hM : MO h4 o := by rw [eh4]; exact hM
      refine go_aload_n 45 0 dX4_body_44 rfl rfl rfl ?_
      refine go_dup 46 dX4_body_45 rfl rfl ?_
      refine go_getI 49 dX4_body_46 rfl (MO_k hM) gfX4_261_5 rfl ?_
      refine go_iconst (v := nI 1) 50 dX4_body_49 rfl (by decide) ?_
      refine go_iadd 51 dX4_body_50 rfl ?_
      refine go_putI 54 dX4_body_51 rfl (MO_k hM) (gpX4_261_5 _) rfl ?_
      refine AWP.nm fun h5 eh5 => ?_
      replace vc := vc h5 eh5
      have hM : MO h5 o := by rw [eh5]; exact hM
      refine go_aload_n 55 0 dX4_body_54 rfl rfl rfl ?_
      refine go_getI 58 dX4_body_55 rfl (MO_k hM) gfX4_261_5 rfl ?_
      refine go_iconst (v := nI 1) 59 dX4_body_58 rfl (by decide) ?_
      refine go_isub 60 dX4_body_59 rfl ?_
      exact go_ireturn dX4_body_60 rfl vc
    · replace vc := vc.2 e2
      refine go_bipush (v := (-3)) 23 dX4_body_21 rfl (by decide) ?_
      exact go_ireturn dX4_body_23 rfl vc
  · replace vc := vc.2 (bI_0.mp e1)
    refine go_iconst (v := (-1)) 10 dX4_body_9 rfl (by decide) ?_
    exact go_ireturn dX4_body_10 rfl vc

theorem bX4_keep_0 {h : Hp} {b : Nat × Nat} {Q : Rs → Hp → Prop} {o : Nat} {x1 : Int32} {x2 : Int32} {t : St} {g : Nat} (hM : MS h o t g) (vc : ((¬ (bt x1 0 5) → Q (rI (-1)) h) ∧ ((bt x1 0 5) → ((x2 = (-1) → (vp_in x1 6 ∧ (∀ h3, h3 = w1 h (o + 58) (nt x1) x2 → Q (rI (nI 1)) h3))) ∧ (¬ x2 = (-1) → (((bt x2 0 (nb t - 1)) → (vp_in x1 6 ∧ (∀ h5, h5 = w1 h (o + 58) (nt x1) x2 → Q (rI (nI 1)) h5))) ∧ (¬ (bt x2 0 (nb t - 1)) → Q (rI (-1)) h))))))) : AWP mX4_keep 2 0 [vR (some o), vI x1, vI x2] [] h b Q := by
  refine go_iload_n 1 1 dX4_keep_0 rfl rfl rfl ?_
  refine go_callSI (M' := mX4_isShelf) (as := [vI x1]) 4 dX4_keep_1 rfl q2060 okX4_isShelf rfl rfl rfl rfl rfl (ctX4_isShelf) ?_
  intro x0 h0 p0
  rw [p0.1, p0.2]
  refine go_if_eq 7 20 dX4_keep_4 rfl (by decide) (fun e1 => ?_) (fun e1 => ?_)
  · replace vc := vc.1 (bI_0.mp e1)
    refine go_iconst (v := (-1)) 21 dX4_keep_20 rfl (by decide) ?_
    exact go_ireturn dX4_keep_21 rfl vc
  · replace vc := vc.2 (bI_n0.mp e1)
    refine go_iload_n 8 2 dX4_keep_7 rfl rfl rfl ?_
    refine go_iconst (v := (-1)) 9 dX4_keep_8 rfl (by decide) ?_
    refine go_icmp_eq 12 22 dX4_keep_9 rfl (by decide) (fun e2 => ?_) (fun e2 => ?_)
    · replace vc := vc.1 e2
      refine go_aload_n 23 0 dX4_keep_22 rfl rfl rfl ?_
      refine go_getRe 26 dX4_keep_23 rfl (MO_k hM.1) gfX4_184_5 rfl (MO_f1490 hM.1) ?_
      refine go_iload_n 27 1 dX4_keep_26 rfl rfl rfl ?_
      refine go_iload_n 28 2 dX4_keep_27 rfl rfl rfl ?_
      refine go_iastore 29 dX4_keep_28 rfl (MO_k58 hM.1) vc.1 ?_
      replace vc := vc.2
      refine AWP.nm fun h3 eh3 => ?_
      replace vc := vc h3 eh3
      have hM : MO h3 o := by rw [eh3]; exact hM.1
      refine go_iconst (v := nI 1) 30 dX4_keep_29 rfl (by decide) ?_
      exact go_ireturn dX4_keep_30 rfl vc
    · replace vc := vc.2 e2
      refine go_aload_n 13 0 dX4_keep_12 rfl rfl rfl ?_
      refine go_iload_n 14 2 dX4_keep_13 rfl rfl rfl ?_
      refine go_callVI (M' := mX4_isBody) (as := [vI x2]) 17 dX4_keep_14 rfl q2146 okX4_isBody (MO_k hM.1) ck_4 rfl rfl rfl rfl rfl (ctX4_isBody hM) ?_
      intro x0 h0 p0
      rw [p0.1, p0.2]
      refine go_if_ne 20 22 dX4_keep_17 rfl (by decide) (fun e4 => ?_) (fun e4 => ?_)
      · replace vc := vc.1 (bI_n0.mp e4)
        refine go_aload_n 23 0 dX4_keep_22 rfl rfl rfl ?_
        refine go_getRe 26 dX4_keep_23 rfl (MO_k hM.1) gfX4_184_5 rfl (MO_f1490 hM.1) ?_
        refine go_iload_n 27 1 dX4_keep_26 rfl rfl rfl ?_
        refine go_iload_n 28 2 dX4_keep_27 rfl rfl rfl ?_
        refine go_iastore 29 dX4_keep_28 rfl (MO_k58 hM.1) vc.1 ?_
        replace vc := vc.2
        refine AWP.nm fun h5 eh5 => ?_
        replace vc := vc h5 eh5
        have hM : MO h5 o := by rw [eh5]; exact hM.1
        refine go_iconst (v := nI 1) 30 dX4_keep_29 rfl (by decide) ?_
        exact go_ireturn dX4_keep_30 rfl vc
      · replace vc := vc.2 (bI_0.mp e4)
        refine go_iconst (v := (-1)) 21 dX4_keep_20 rfl (by decide) ?_
        exact go_ireturn dX4_keep_21 rfl vc

theorem bX4_row_0 {h : Hp} {b : Nat × Nat} {Q : Rs → Hp → Prop} {o : Nat} {x1 : Int32} {x2 : Int32} {x3 : Int32} {t : St} {g : Nat} (hM : MS h o t g) (vc : ((¬ (bt x1 0 5) → Q (rI (-1)) h) ∧ ((bt x1 0 5) → ((¬ (bt x2 0 4) → Q (rI (-1)) h) ∧ ((bt x2 0 4) → ((x3 ≤ (nI 60) → ((0 ≤ x3 → (vp_in x1 6 ∧ (∀ h5, h5 = w1 h (o + 58) (nt x1) ((-2) - x2) → (vp_in x1 6 ∧ (∀ h6, h6 = w1 h5 (o + 59) (nt x1) x3 → AWP mX4_row 2 54 [vR (some o), vI x1, vI x2, vI x3, vI ((nI 60) * x1)] [] h6 b Q))))) ∧ (¬ 0 ≤ x3 → Q (rI (-14)) h))) ∧ (¬ x3 ≤ (nI 60) → Q (rI (-1)) h))))))) : AWP mX4_row 2 0 [vR (some o), vI x1, vI x2, vI x3, vU] [] h b Q := by
  refine go_iload_n 1 1 dX4_row_0 rfl rfl rfl ?_
  refine go_callSI (M' := mX4_isShelf) (as := [vI x1]) 4 dX4_row_1 rfl q2060 okX4_isShelf rfl rfl rfl rfl rfl (ctX4_isShelf) ?_
  intro x0 h0 p0
  rw [p0.1, p0.2]
  refine go_if_eq 7 22 dX4_row_4 rfl (by decide) (fun e1 => ?_) (fun e1 => ?_)
  · replace vc := vc.1 (bI_0.mp e1)
    refine go_iconst (v := (-1)) 23 dX4_row_22 rfl (by decide) ?_
    exact go_ireturn dX4_row_23 rfl vc
  · replace vc := vc.2 (bI_n0.mp e1)
    refine go_iload_n 8 2 dX4_row_7 rfl rfl rfl ?_
    refine go_iconst (v := nI 0) 9 dX4_row_8 rfl (by decide) ?_
    refine go_iconst (v := nI 4) 10 dX4_row_9 rfl (by decide) ?_
    refine go_callSI (M' := mX4_in) (as := [vI x2, vI (nI 0), vI (nI 4)]) 13 dX4_row_10 rfl q1703 okX4_in rfl rfl rfl rfl rfl (ctX4_inL rfl rfl) ?_
    intro x0 h0 p0
    rw [p0.1, p0.2]
    refine go_if_eq 16 22 dX4_row_13 rfl (by decide) (fun e2 => ?_) (fun e2 => ?_)
    · replace vc := vc.1 (bI_0.mp e2)
      refine go_iconst (v := (-1)) 23 dX4_row_22 rfl (by decide) ?_
      exact go_ireturn dX4_row_23 rfl vc
    · replace vc := vc.2 (bI_n0.mp e2)
      refine go_iload_n 17 3 dX4_row_16 rfl rfl rfl ?_
      refine go_bipush (v := nI 60) 19 dX4_row_17 rfl (by decide) ?_
      refine go_icmp_le 22 24 dX4_row_19 rfl (by decide) (fun e3 => ?_) (fun e3 => ?_)
      · replace vc := vc.1 e3
        refine go_iload_n 25 3 dX4_row_24 rfl rfl rfl ?_
        refine go_if_ge 28 31 dX4_row_25 rfl (by decide) (fun e4 => ?_) (fun e4 => ?_)
        · replace vc := vc.1 e4
          refine go_aload_n 32 0 dX4_row_31 rfl rfl rfl ?_
          refine go_getRe 35 dX4_row_32 rfl (MO_k hM.1) gfX4_184_5 rfl (MO_f1490 hM.1) ?_
          refine go_iload_n 36 1 dX4_row_35 rfl rfl rfl ?_
          refine go_bipush (v := (-2)) 38 dX4_row_36 rfl (by decide) ?_
          refine go_iload_n 39 2 dX4_row_38 rfl rfl rfl ?_
          refine go_isub 40 dX4_row_39 rfl ?_
          refine go_iastore 41 dX4_row_40 rfl (MO_k58 hM.1) vc.1 ?_
          replace vc := vc.2
          refine AWP.nm fun h5 eh5 => ?_
          replace vc := vc h5 eh5
          have hM : MO h5 o := by rw [eh5]; exact hM.1
          refine go_aload_n 42 0 dX4_row_41 rfl rfl rfl ?_
          refine go_getRe 45 dX4_row_42 rfl (MO_k hM) gfX4_187_5 rfl (MO_f1491 hM) ?_
          refine go_iload_n 46 1 dX4_row_45 rfl rfl rfl ?_
          refine go_iload_n 47 3 dX4_row_46 rfl rfl rfl ?_
          refine go_iastore 48 dX4_row_47 rfl (MO_k59 hM) vc.1 ?_
          replace vc := vc.2
          refine AWP.nm fun h6 eh6 => ?_
          replace vc := vc h6 eh6
          have hM : MO h6 o := by rw [eh6]; exact hM
          refine go_bipush (v := nI 60) 50 dX4_row_48 rfl (by decide) ?_
          refine go_iload_n 51 1 dX4_row_50 rfl rfl rfl ?_
          refine go_imul 52 dX4_row_51 rfl ?_
          refine go_istore 54 [vR (some o), vI x1, vI x2, vI x3, vI ((nI 60) * x1)] dX4_row_52 rfl rfl rfl ?_
          exact vc
        · replace vc := vc.2 e4
          refine go_bipush (v := (-14)) 30 dX4_row_28 rfl (by decide) ?_
          exact go_ireturn dX4_row_30 rfl vc
      · replace vc := vc.2 e3
        refine go_iconst (v := (-1)) 23 dX4_row_22 rfl (by decide) ?_
        exact go_ireturn dX4_row_23 rfl vc

theorem bX4_row_54 {h : Hp} {b : Nat × Nat} {Q : Rs → Hp → Prop} {o : Nat} {x1 : Int32} {x2 : Int32} {x3 : Int32} {x4 : Int32} {t : St} {g : Nat} (hM : MS h o t g) (vc : (((((nI 60) * x1) + (nI 60)) ≤ x4 → Q (rI (nI 1)) h) ∧ (¬ (((nI 60) * x1) + (nI 60)) ≤ x4 → (vp_in x4 360 ∧ (∀ h2, h2 = wL h (o + 60) (nt x4) 0 → AWP mX4_row 2 54 [vR (some o), vI x1, vI x2, vI x3, vI (x4 + nI 1)] [] h2 b Q))))) : AWP mX4_row 2 54 [vR (some o), vI x1, vI x2, vI x3, vI x4] [] h b Q := by
  refine go_iload 56 dX4_row_54 rfl rfl ?_
  refine go_bipush (v := nI 60) 58 dX4_row_56 rfl (by decide) ?_
  refine go_iload_n 59 1 dX4_row_58 rfl rfl rfl ?_
  refine go_imul 60 dX4_row_59 rfl ?_
  refine go_bipush (v := nI 60) 62 dX4_row_60 rfl (by decide) ?_
  refine go_iadd 63 dX4_row_62 rfl ?_
  refine go_icmp_ge 66 80 dX4_row_63 rfl (by decide) (fun e1 => ?_) (fun e1 => ?_)
  · replace vc := vc.1 e1
    refine go_iconst (v := nI 1) 81 dX4_row_80 rfl (by decide) ?_
    exact go_ireturn dX4_row_81 rfl vc
  · replace vc := vc.2 e1
    refine go_aload_n 67 0 dX4_row_66 rfl rfl rfl ?_
    refine go_getRe 70 dX4_row_67 rfl (MO_k hM.1) gfX4_190_5 rfl (MO_f1492 hM.1) ?_
    refine go_iload 72 dX4_row_70 rfl rfl ?_
    refine go_lconst (v := 0) 73 dX4_row_72 rfl (by decide) ?_
    refine go_lastore 74 dX4_row_73 rfl (MO_k60 hM.1) vc.1 ?_
    replace vc := vc.2
    refine AWP.nm fun h2 eh2 => ?_
    replace vc := vc h2 eh2
    have hM : MO h2 o := by rw [eh2]; exact hM.1
    refine go_iinc 77 (x4 + nI 1) [vR (some o), vI x1, vI x2, vI x3, vI (x4 + nI 1)] dX4_row_74 rfl rfl (by rfl) rfl rfl ?_
    refine go_goto 54 dX4_row_77 (by decide) ?_
    exact vc

theorem bX4_whyNoPlace_0 {h : Hp} {b : Nat × Nat} {Q : Rs → Hp → Prop} {o : Nat} {x1 : Int32} {x2 : Int32} {t : St} {g : Nat} (hM : MS h o t g) (vc : (((bt x1 0 5) → (vp_in x1 6 ∧ (nt x1) < 6 ∧ ((¬ (ho t (nt x1)) = (-1) → (vp_in x1 6 ∧ (nt x1) < 6 ∧ (((ho t (nt x1)) < 0 → (vp_in x1 6 ∧ ((¬ ((nI 0) ≤ x2 ∧ x2 ≤ ((hAI h (o + 59) (nt x1)) - (nI 1))) → Q (rI (-13)) h) ∧ (((nI 0) ≤ x2 ∧ x2 ≤ ((hAI h (o + 59) (nt x1)) - (nI 1))) → Q (rI (nI 0)) h)))) ∧ (¬ (ho t (nt x1)) < 0 → Q (rI (-12)) h)))) ∧ ((ho t (nt x1)) = (-1) → Q (rI (-11)) h)))) ∧ (¬ (bt x1 0 5) → Q (rI (-1)) h))) : AWP mX4_whyNoPlace 2 0 [vR (some o), vI x1, vI x2] [] h b Q := by
  refine go_iload_n 1 1 dX4_whyNoPlace_0 rfl rfl rfl ?_
  refine go_callSI (M' := mX4_isShelf) (as := [vI x1]) 4 dX4_whyNoPlace_1 rfl q2060 okX4_isShelf rfl rfl rfl rfl rfl (ctX4_isShelf) ?_
  intro x0 h0 p0
  rw [p0.1, p0.2]
  refine go_if_ne 7 9 dX4_whyNoPlace_4 rfl (by decide) (fun e1 => ?_) (fun e1 => ?_)
  · replace vc := vc.1 (bI_n0.mp e1)
    refine go_aload_n 10 0 dX4_whyNoPlace_9 rfl rfl rfl ?_
    refine go_getRe 13 dX4_whyNoPlace_10 rfl (MO_k hM.1) gfX4_184_5 rfl (MO_f1490 hM.1) ?_
    refine go_iload_n 14 1 dX4_whyNoPlace_13 rfl rfl rfl ?_
    refine go_iaload 15 dX4_whyNoPlace_14 rfl (MO_k58 hM.1) vc.1 ?_
    replace vc := vc.2
    rw [hM.a58 vc.1]
    replace vc := vc.2
    refine go_iconst (v := (-1)) 16 dX4_whyNoPlace_15 rfl (by decide) ?_
    refine go_icmp_ne 19 22 dX4_whyNoPlace_16 rfl (by decide) (fun e2 => ?_) (fun e2 => ?_)
    · replace vc := vc.1 e2
      refine go_aload_n 23 0 dX4_whyNoPlace_22 rfl rfl rfl ?_
      refine go_getRe 26 dX4_whyNoPlace_23 rfl (MO_k hM.1) gfX4_184_5 rfl (MO_f1490 hM.1) ?_
      refine go_iload_n 27 1 dX4_whyNoPlace_26 rfl rfl rfl ?_
      refine go_iaload 28 dX4_whyNoPlace_27 rfl (MO_k58 hM.1) vc.1 ?_
      replace vc := vc.2
      rw [hM.a58 vc.1]
      replace vc := vc.2
      refine go_if_lt 31 34 dX4_whyNoPlace_28 rfl (by decide) (fun e3 => ?_) (fun e3 => ?_)
      · replace vc := vc.1 e3
        refine go_iload_n 35 2 dX4_whyNoPlace_34 rfl rfl rfl ?_
        refine go_iconst (v := nI 0) 36 dX4_whyNoPlace_35 rfl (by decide) ?_
        refine go_aload_n 37 0 dX4_whyNoPlace_36 rfl rfl rfl ?_
        refine go_getRe 40 dX4_whyNoPlace_37 rfl (MO_k hM.1) gfX4_187_5 rfl (MO_f1491 hM.1) ?_
        refine go_iload_n 41 1 dX4_whyNoPlace_40 rfl rfl rfl ?_
        refine go_iaload 42 dX4_whyNoPlace_41 rfl (MO_k59 hM.1) vc.1 ?_
        replace vc := vc.2
        refine go_iconst (v := nI 1) 43 dX4_whyNoPlace_42 rfl (by decide) ?_
        refine go_isub 44 dX4_whyNoPlace_43 rfl ?_
        refine go_callSI (M' := mX4_in) (as := [vI x2, vI (nI 0), vI ((hAI h (o + 59) (nt x1)) - (nI 1))]) 47 dX4_whyNoPlace_44 rfl q1703 okX4_in rfl rfl rfl rfl rfl (ctX4_in) ?_
        intro x0 h0 p0
        rw [p0.1, p0.2]
        refine go_if_eq 50 54 dX4_whyNoPlace_47 rfl (by decide) (fun e4 => ?_) (fun e4 => ?_)
        · replace vc := vc.1 (bI_0.mp e4)
          refine go_bipush (v := (-13)) 56 dX4_whyNoPlace_54 rfl (by decide) ?_
          exact go_ireturn dX4_whyNoPlace_56 rfl vc
        · replace vc := vc.2 (bI_n0.mp e4)
          refine go_iconst (v := nI 0) 51 dX4_whyNoPlace_50 rfl (by decide) ?_
          refine go_goto 56 dX4_whyNoPlace_51 (by decide) ?_
          exact go_ireturn dX4_whyNoPlace_56 rfl vc
      · replace vc := vc.2 e3
        refine go_bipush (v := (-12)) 33 dX4_whyNoPlace_31 rfl (by decide) ?_
        exact go_ireturn dX4_whyNoPlace_33 rfl vc
    · replace vc := vc.2 e2
      refine go_bipush (v := (-11)) 21 dX4_whyNoPlace_19 rfl (by decide) ?_
      exact go_ireturn dX4_whyNoPlace_21 rfl vc
  · replace vc := vc.2 (bI_0.mp e1)
    refine go_iconst (v := (-1)) 8 dX4_whyNoPlace_7 rfl (by decide) ?_
    exact go_ireturn dX4_whyNoPlace_8 rfl vc

theorem bX4_place_0 {h : Hp} {b : Nat × Nat} {Q : Rs → Hp → Prop} {o : Nat} {x1 : Int32} {x2 : Int32} {x3 : Int64} {t : St} {g : Nat} (hM : MS h o t g) (vc : (∃ (P3 : Int32 → Hp → Prop), Ret mX4_whyNoPlace 2 [vR (some o), vI x1, vI x2] h 0 0 (RI P3) ∧ ∀ z1 h2, P3 z1 h2 → (∃ t5 g6, MS h2 o t5 g6 ∧ ((0 ≤ z1 → (vp_in x1 6 ∧ (nt x1) < 6 ∧ ((¬ ((-2) - (ho t5 (nt x1))) = 0 → ((¬ ((-2) - (ho t5 (nt x1))) = (nI 1) → ((¬ ((-2) - (ho t5 (nt x1))) = (nI 2) → ((¬ ((-2) - (ho t5 (nt x1))) = (nI 3) → (((lg_cmp x3 0) = 0 → (vp_in (((nI 60) * x1) + x2) 360 ∧ (∀ h13, h13 = wL h2 (o + 60) (nt (((nI 60) * x1) + x2)) 0 → Q (rI (nI 1)) h13))) ∧ (¬ (lg_cmp x3 0) = 0 → (vp_in (((nI 60) * x1) + x2) 360 ∧ (∀ h14, h14 = wL h2 (o + 60) (nt (((nI 60) * x1) + x2)) 1 → Q (rI (nI 1)) h14))))) ∧ (((-2) - (ho t5 (nt x1))) = (nI 3) → (vp_in (((nI 60) * x1) + x2) 360 ∧ (∀ h15, h15 = wL h2 (o + 60) (nt (((nI 60) * x1) + x2)) x3 → Q (rI (nI 1)) h15))))) ∧ (((-2) - (ho t5 (nt x1))) = (nI 2) → (vp_in (((nI 60) * x1) + x2) 360 ∧ (∀ h16, h16 = wL h2 (o + 60) (nt (((nI 60) * x1) + x2)) x3.toInt32.toInt64 → Q (rI (nI 1)) h16))))) ∧ (((-2) - (ho t5 (nt x1))) = (nI 1) → (vp_in (((nI 60) * x1) + x2) 360 ∧ (∀ h17, h17 = wL h2 (o + 60) (nt (((nI 60) * x1) + x2)) x3.toInt32.toInt16.toInt32.toInt64 → Q (rI (nI 1)) h17))))) ∧ (((-2) - (ho t5 (nt x1))) = 0 → (vp_in (((nI 60) * x1) + x2) 360 ∧ (∀ h18, h18 = wL h2 (o + 60) (nt (((nI 60) * x1) + x2)) x3.toInt32.toInt8.toInt32.toInt64 → Q (rI (nI 1)) h18)))))) ∧ (¬ 0 ≤ z1 → Q (rI z1) h2))))) : AWP mX4_place 3 0 [vR (some o), vI x1, vI x2, vJ x3, vU, vU, vU] [] h b Q := by
  refine go_aload_n 1 0 dX4_place_0 rfl rfl rfl ?_
  refine go_iload_n 2 1 dX4_place_1 rfl rfl rfl ?_
  refine go_iload_n 3 2 dX4_place_2 rfl rfl rfl ?_
  obtain ⟨P3, hR, vc⟩ := vc
  refine go_callVI (M' := mX4_whyNoPlace) (as := [vI x1, vI x2]) 6 dX4_place_3 rfl q2217 okX4_whyNoPlace (MO_k hM.1) ck_4 rfl rfl rfl rfl rfl hR ?_
  intro z1 h2 p1
  replace vc := vc z1 h2 p1
  obtain ⟨t5, g6, hM, vc⟩ := vc
  refine go_istore 8 [vR (some o), vI x1, vI x2, vJ x3, vU, vI z1, vU] dX4_place_6 rfl rfl rfl ?_
  refine go_iload 10 dX4_place_8 rfl rfl ?_
  refine go_if_ge 13 16 dX4_place_10 rfl (by decide) (fun e7 => ?_) (fun e7 => ?_)
  · replace vc := vc.1 e7
    refine go_bipush (v := (-2)) 18 dX4_place_16 rfl (by decide) ?_
    refine go_aload_n 19 0 dX4_place_18 rfl rfl rfl ?_
    refine go_getRe 22 dX4_place_19 rfl (MO_k hM.1) gfX4_184_5 rfl (MO_f1490 hM.1) ?_
    refine go_iload_n 23 1 dX4_place_22 rfl rfl rfl ?_
    refine go_iaload 24 dX4_place_23 rfl (MO_k58 hM.1) vc.1 ?_
    replace vc := vc.2
    rw [hM.a58 vc.1]
    replace vc := vc.2
    refine go_isub 25 dX4_place_24 rfl ?_
    refine go_istore 27 [vR (some o), vI x1, vI x2, vJ x3, vU, vI z1, vI ((-2) - (ho t5 (nt x1)))] dX4_place_25 rfl rfl rfl ?_
    refine go_aload_n 28 0 dX4_place_27 rfl rfl rfl ?_
    refine go_getRe 31 dX4_place_28 rfl (MO_k hM.1) gfX4_190_5 rfl (MO_f1492 hM.1) ?_
    refine go_bipush (v := nI 60) 33 dX4_place_31 rfl (by decide) ?_
    refine go_iload_n 34 1 dX4_place_33 rfl rfl rfl ?_
    refine go_imul 35 dX4_place_34 rfl ?_
    refine go_iload_n 36 2 dX4_place_35 rfl rfl rfl ?_
    refine go_iadd 37 dX4_place_36 rfl ?_
    refine go_iload 39 dX4_place_37 rfl rfl ?_
    refine go_if_ne 42 49 dX4_place_39 rfl (by decide) (fun e8 => ?_) (fun e8 => ?_)
    · replace vc := vc.1 e8
      refine go_iload 51 dX4_place_49 rfl rfl ?_
      refine go_iconst (v := nI 1) 52 dX4_place_51 rfl (by decide) ?_
      refine go_icmp_ne 55 62 dX4_place_52 rfl (by decide) (fun e9 => ?_) (fun e9 => ?_)
      · replace vc := vc.1 e9
        refine go_iload 64 dX4_place_62 rfl rfl ?_
        refine go_iconst (v := nI 2) 65 dX4_place_64 rfl (by decide) ?_
        refine go_icmp_ne 68 74 dX4_place_65 rfl (by decide) (fun e10 => ?_) (fun e10 => ?_)
        · replace vc := vc.1 e10
          refine go_iload 76 dX4_place_74 rfl rfl ?_
          refine go_iconst (v := nI 3) 77 dX4_place_76 rfl (by decide) ?_
          refine go_icmp_ne 80 84 dX4_place_77 rfl (by decide) (fun e11 => ?_) (fun e11 => ?_)
          · replace vc := vc.1 e11
            refine go_lload_n 85 3 dX4_place_84 rfl rfl rfl ?_
            refine go_lconst (v := 0) 86 dX4_place_85 rfl (by decide) ?_
            refine go_lcmp 87 dX4_place_86 rfl ?_
            refine go_if_eq 90 94 dX4_place_87 rfl (by decide) (fun e12 => ?_) (fun e12 => ?_)
            · replace vc := vc.1 e12
              refine go_lconst (v := 0) 95 dX4_place_94 rfl (by decide) ?_
              refine go_lastore 96 dX4_place_95 rfl (MO_k60 hM.1) vc.1 ?_
              replace vc := vc.2
              refine AWP.nm fun h13 eh13 => ?_
              replace vc := vc h13 eh13
              have hM : MO h13 o := by rw [eh13]; exact hM.1
              refine go_iconst (v := nI 1) 97 dX4_place_96 rfl (by decide) ?_
              exact go_ireturn dX4_place_97 rfl vc
            · replace vc := vc.2 e12
              refine go_lconst (v := 1) 91 dX4_place_90 rfl (by decide) ?_
              refine go_goto 95 dX4_place_91 (by decide) ?_
              refine go_lastore 96 dX4_place_95 rfl (MO_k60 hM.1) vc.1 ?_
              replace vc := vc.2
              refine AWP.nm fun h14 eh14 => ?_
              replace vc := vc h14 eh14
              have hM : MO h14 o := by rw [eh14]; exact hM.1
              refine go_iconst (v := nI 1) 97 dX4_place_96 rfl (by decide) ?_
              exact go_ireturn dX4_place_97 rfl vc
          · replace vc := vc.2 e11
            refine go_lload_n 81 3 dX4_place_80 rfl rfl rfl ?_
            refine go_goto 95 dX4_place_81 (by decide) ?_
            refine go_lastore 96 dX4_place_95 rfl (MO_k60 hM.1) vc.1 ?_
            replace vc := vc.2
            refine AWP.nm fun h15 eh15 => ?_
            replace vc := vc h15 eh15
            have hM : MO h15 o := by rw [eh15]; exact hM.1
            refine go_iconst (v := nI 1) 97 dX4_place_96 rfl (by decide) ?_
            exact go_ireturn dX4_place_97 rfl vc
        · replace vc := vc.2 e10
          refine go_lload_n 69 3 dX4_place_68 rfl rfl rfl ?_
          refine go_l2i 70 dX4_place_69 rfl ?_
          refine go_i2l 71 dX4_place_70 rfl ?_
          refine go_goto 95 dX4_place_71 (by decide) ?_
          refine go_lastore 96 dX4_place_95 rfl (MO_k60 hM.1) vc.1 ?_
          replace vc := vc.2
          refine AWP.nm fun h16 eh16 => ?_
          replace vc := vc h16 eh16
          have hM : MO h16 o := by rw [eh16]; exact hM.1
          refine go_iconst (v := nI 1) 97 dX4_place_96 rfl (by decide) ?_
          exact go_ireturn dX4_place_97 rfl vc
      · replace vc := vc.2 e9
        refine go_lload_n 56 3 dX4_place_55 rfl rfl rfl ?_
        refine go_l2i 57 dX4_place_56 rfl ?_
        refine go_i2s 58 dX4_place_57 rfl ?_
        refine go_i2l 59 dX4_place_58 rfl ?_
        refine go_goto 95 dX4_place_59 (by decide) ?_
        refine go_lastore 96 dX4_place_95 rfl (MO_k60 hM.1) vc.1 ?_
        replace vc := vc.2
        refine AWP.nm fun h17 eh17 => ?_
        replace vc := vc h17 eh17
        have hM : MO h17 o := by rw [eh17]; exact hM.1
        refine go_iconst (v := nI 1) 97 dX4_place_96 rfl (by decide) ?_
        exact go_ireturn dX4_place_97 rfl vc
    · replace vc := vc.2 e8
      refine go_lload_n 43 3 dX4_place_42 rfl rfl rfl ?_
      refine go_l2i 44 dX4_place_43 rfl ?_
      refine go_i2b 45 dX4_place_44 rfl ?_
      refine go_i2l 46 dX4_place_45 rfl ?_
      refine go_goto 95 dX4_place_46 (by decide) ?_
      refine go_lastore 96 dX4_place_95 rfl (MO_k60 hM.1) vc.1 ?_
      replace vc := vc.2
      refine AWP.nm fun h18 eh18 => ?_
      replace vc := vc h18 eh18
      have hM : MO h18 o := by rw [eh18]; exact hM.1
      refine go_iconst (v := nI 1) 97 dX4_place_96 rfl (by decide) ?_
      exact go_ireturn dX4_place_97 rfl vc
  · replace vc := vc.2 e7
    refine go_iload 15 dX4_place_13 rfl rfl ?_
    exact go_ireturn dX4_place_15 rfl vc

theorem bX4_element_0 {h : Hp} {b : Nat × Nat} {Q : Rs → Hp → Prop} {o : Nat} {x1 : Int32} {x2 : Int32} {t : St} {g : Nat} (hM : MS h o t g) (vc : (∃ (P3 : Int32 → Hp → Prop), Ret mX4_whyNoPlace 2 [vR (some o), vI x1, vI x2] h 0 0 (RI P3) ∧ ∀ z1 h2, P3 z1 h2 → (∃ t5 g6, MS h2 o t5 g6 ∧ ((0 ≤ z1 → (vp_in (((nI 60) * x1) + x2) 360 ∧ Q (rJ (hAL h2 (o + 60) (nt (((nI 60) * x1) + x2)))) h2)) ∧ (¬ 0 ≤ z1 → Q (rJ (-9223372036854775808)) h2))))) : AWP mX4_element 3 0 [vR (some o), vI x1, vI x2] [] h b Q := by
  refine go_aload_n 1 0 dX4_element_0 rfl rfl rfl ?_
  refine go_iload_n 2 1 dX4_element_1 rfl rfl rfl ?_
  refine go_iload_n 3 2 dX4_element_2 rfl rfl rfl ?_
  obtain ⟨P3, hR, vc⟩ := vc
  refine go_callVI (M' := mX4_whyNoPlace) (as := [vI x1, vI x2]) 6 dX4_element_3 rfl q2217 okX4_whyNoPlace (MO_k hM.1) ck_4 rfl rfl rfl rfl rfl hR ?_
  intro z1 h2 p1
  replace vc := vc z1 h2 p1
  obtain ⟨t5, g6, hM, vc⟩ := vc
  refine go_if_ge 9 15 dX4_element_6 rfl (by decide) (fun e7 => ?_) (fun e7 => ?_)
  · replace vc := vc.1 e7
    refine go_aload_n 16 0 dX4_element_15 rfl rfl rfl ?_
    refine go_getRe 19 dX4_element_16 rfl (MO_k hM.1) gfX4_190_5 rfl (MO_f1492 hM.1) ?_
    refine go_bipush (v := nI 60) 21 dX4_element_19 rfl (by decide) ?_
    refine go_iload_n 22 1 dX4_element_21 rfl rfl rfl ?_
    refine go_imul 23 dX4_element_22 rfl ?_
    refine go_iload_n 24 2 dX4_element_23 rfl rfl rfl ?_
    refine go_iadd 25 dX4_element_24 rfl ?_
    refine go_laload 26 dX4_element_25 rfl (MO_k60 hM.1) vc.1 ?_
    replace vc := vc.2
    exact go_lreturn dX4_element_26 rfl vc
  · replace vc := vc.2 e7
    refine go_ldc2 12 dX4_element_9 rfl q1869 ?_
    refine go_goto 26 dX4_element_12 (by decide) ?_
    exact go_lreturn dX4_element_26 rfl vc

theorem bX4_shift_0 {h : Hp} {b : Nat × Nat} {Q : Rs → Hp → Prop} {o : Nat} {x1 : Int32} {x2 : Int32} {x3 : Int32} {x4 : Int32} {x5 : Int32} {t : St} {g : Nat} (hM : MS h o t g) (vc : ((¬ (bt x1 0 5) → Q (rI (-1)) h) ∧ ((bt x1 0 5) → (((bt x3 0 5) → (vp_in x1 6 ∧ (nt x1) < 6 ∧ (((ho t (nt x1)) = (-1) → Q (rI (-11)) h) ∧ (¬ (ho t (nt x1)) = (-1) → (vp_in x3 6 ∧ (nt x3) < 6 ∧ ((¬ (ho t (nt x3)) = (-1) → (vp_in x1 6 ∧ (nt x1) < 6 ∧ ((0 ≤ (ho t (nt x1)) → Q (rI (-12)) h) ∧ (¬ 0 ≤ (ho t (nt x1)) → (vp_in x1 6 ∧ (nt x1) < 6 ∧ (vp_in x3 6 ∧ (nt x3) < 6 ∧ (((ho t (nt x1)) = (ho t (nt x3)) → ((x5 < 0 → Q (rI (-13)) h) ∧ (¬ x5 < 0 → ((x2 < 0 → Q (rI (-13)) h) ∧ (¬ x2 < 0 → ((x4 < 0 → Q (rI (-13)) h) ∧ (¬ x4 < 0 → (vp_in x1 6 ∧ ((((hAI h (o + 59) (nt x1)) - x5) < x2 → Q (rI (-13)) h) ∧ (¬ ((hAI h (o + 59) (nt x1)) - x5) < x2 → (vp_in x3 6 ∧ ((x4 ≤ ((hAI h (o + 59) (nt x3)) - x5) → AWP mX4_shift 2 113 [vR (some o), vI x1, vI x2, vI x3, vI x4, vI x5, vI (nI 0)] [] h b Q) ∧ (¬ x4 ≤ ((hAI h (o + 59) (nt x3)) - x5) → Q (rI (-13)) h))))))))))))) ∧ (¬ (ho t (nt x1)) = (ho t (nt x3)) → Q (rI (-12)) h)))))))) ∧ ((ho t (nt x3)) = (-1) → Q (rI (-11)) h))))))) ∧ (¬ (bt x3 0 5) → Q (rI (-1)) h))))) : AWP mX4_shift 2 0 [vR (some o), vI x1, vI x2, vI x3, vI x4, vI x5, vU] [] h b Q := by
  refine go_iload_n 1 1 dX4_shift_0 rfl rfl rfl ?_
  refine go_callSI (M' := mX4_isShelf) (as := [vI x1]) 4 dX4_shift_1 rfl q2060 okX4_isShelf rfl rfl rfl rfl rfl (ctX4_isShelf) ?_
  intro x0 h0 p0
  rw [p0.1, p0.2]
  refine go_if_eq 7 14 dX4_shift_4 rfl (by decide) (fun e1 => ?_) (fun e1 => ?_)
  · replace vc := vc.1 (bI_0.mp e1)
    refine go_iconst (v := (-1)) 15 dX4_shift_14 rfl (by decide) ?_
    exact go_ireturn dX4_shift_15 rfl vc
  · replace vc := vc.2 (bI_n0.mp e1)
    refine go_iload_n 8 3 dX4_shift_7 rfl rfl rfl ?_
    refine go_callSI (M' := mX4_isShelf) (as := [vI x3]) 11 dX4_shift_8 rfl q2060 okX4_isShelf rfl rfl rfl rfl rfl (ctX4_isShelf) ?_
    intro x0 h0 p0
    rw [p0.1, p0.2]
    refine go_if_ne 14 16 dX4_shift_11 rfl (by decide) (fun e2 => ?_) (fun e2 => ?_)
    · replace vc := vc.1 (bI_n0.mp e2)
      refine go_aload_n 17 0 dX4_shift_16 rfl rfl rfl ?_
      refine go_getRe 20 dX4_shift_17 rfl (MO_k hM.1) gfX4_184_5 rfl (MO_f1490 hM.1) ?_
      refine go_iload_n 21 1 dX4_shift_20 rfl rfl rfl ?_
      refine go_iaload 22 dX4_shift_21 rfl (MO_k58 hM.1) vc.1 ?_
      replace vc := vc.2
      rw [hM.a58 vc.1]
      replace vc := vc.2
      refine go_iconst (v := (-1)) 23 dX4_shift_22 rfl (by decide) ?_
      refine go_icmp_eq 26 36 dX4_shift_23 rfl (by decide) (fun e3 => ?_) (fun e3 => ?_)
      · replace vc := vc.1 e3
        refine go_bipush (v := (-11)) 38 dX4_shift_36 rfl (by decide) ?_
        exact go_ireturn dX4_shift_38 rfl vc
      · replace vc := vc.2 e3
        refine go_aload_n 27 0 dX4_shift_26 rfl rfl rfl ?_
        refine go_getRe 30 dX4_shift_27 rfl (MO_k hM.1) gfX4_184_5 rfl (MO_f1490 hM.1) ?_
        refine go_iload_n 31 3 dX4_shift_30 rfl rfl rfl ?_
        refine go_iaload 32 dX4_shift_31 rfl (MO_k58 hM.1) vc.1 ?_
        replace vc := vc.2
        rw [hM.a58 vc.1]
        replace vc := vc.2
        refine go_iconst (v := (-1)) 33 dX4_shift_32 rfl (by decide) ?_
        refine go_icmp_ne 36 39 dX4_shift_33 rfl (by decide) (fun e4 => ?_) (fun e4 => ?_)
        · replace vc := vc.1 e4
          refine go_aload_n 40 0 dX4_shift_39 rfl rfl rfl ?_
          refine go_getRe 43 dX4_shift_40 rfl (MO_k hM.1) gfX4_184_5 rfl (MO_f1490 hM.1) ?_
          refine go_iload_n 44 1 dX4_shift_43 rfl rfl rfl ?_
          refine go_iaload 45 dX4_shift_44 rfl (MO_k58 hM.1) vc.1 ?_
          replace vc := vc.2
          rw [hM.a58 vc.1]
          replace vc := vc.2
          refine go_if_ge 48 63 dX4_shift_45 rfl (by decide) (fun e5 => ?_) (fun e5 => ?_)
          · replace vc := vc.1 e5
            refine go_bipush (v := (-12)) 65 dX4_shift_63 rfl (by decide) ?_
            exact go_ireturn dX4_shift_65 rfl vc
          · replace vc := vc.2 e5
            refine go_aload_n 49 0 dX4_shift_48 rfl rfl rfl ?_
            refine go_getRe 52 dX4_shift_49 rfl (MO_k hM.1) gfX4_184_5 rfl (MO_f1490 hM.1) ?_
            refine go_iload_n 53 1 dX4_shift_52 rfl rfl rfl ?_
            refine go_iaload 54 dX4_shift_53 rfl (MO_k58 hM.1) vc.1 ?_
            replace vc := vc.2
            rw [hM.a58 vc.1]
            replace vc := vc.2
            refine go_aload_n 55 0 dX4_shift_54 rfl rfl rfl ?_
            refine go_getRe 58 dX4_shift_55 rfl (MO_k hM.1) gfX4_184_5 rfl (MO_f1490 hM.1) ?_
            refine go_iload_n 59 3 dX4_shift_58 rfl rfl rfl ?_
            refine go_iaload 60 dX4_shift_59 rfl (MO_k58 hM.1) vc.1 ?_
            replace vc := vc.2
            rw [hM.a58 vc.1]
            replace vc := vc.2
            refine go_icmp_eq 63 66 dX4_shift_60 rfl (by decide) (fun e6 => ?_) (fun e6 => ?_)
            · replace vc := vc.1 e6
              refine go_iload 68 dX4_shift_66 rfl rfl ?_
              refine go_if_lt 71 107 dX4_shift_68 rfl (by decide) (fun e7 => ?_) (fun e7 => ?_)
              · replace vc := vc.1 e7
                refine go_bipush (v := (-13)) 109 dX4_shift_107 rfl (by decide) ?_
                exact go_ireturn dX4_shift_109 rfl vc
              · replace vc := vc.2 e7
                refine go_iload_n 72 2 dX4_shift_71 rfl rfl rfl ?_
                refine go_if_lt 75 107 dX4_shift_72 rfl (by decide) (fun e8 => ?_) (fun e8 => ?_)
                · replace vc := vc.1 e8
                  refine go_bipush (v := (-13)) 109 dX4_shift_107 rfl (by decide) ?_
                  exact go_ireturn dX4_shift_109 rfl vc
                · replace vc := vc.2 e8
                  refine go_iload 77 dX4_shift_75 rfl rfl ?_
                  refine go_if_lt 80 107 dX4_shift_77 rfl (by decide) (fun e9 => ?_) (fun e9 => ?_)
                  · replace vc := vc.1 e9
                    refine go_bipush (v := (-13)) 109 dX4_shift_107 rfl (by decide) ?_
                    exact go_ireturn dX4_shift_109 rfl vc
                  · replace vc := vc.2 e9
                    refine go_iload_n 81 2 dX4_shift_80 rfl rfl rfl ?_
                    refine go_aload_n 82 0 dX4_shift_81 rfl rfl rfl ?_
                    refine go_getRe 85 dX4_shift_82 rfl (MO_k hM.1) gfX4_187_5 rfl (MO_f1491 hM.1) ?_
                    refine go_iload_n 86 1 dX4_shift_85 rfl rfl rfl ?_
                    refine go_iaload 87 dX4_shift_86 rfl (MO_k59 hM.1) vc.1 ?_
                    replace vc := vc.2
                    refine go_iload 89 dX4_shift_87 rfl rfl ?_
                    refine go_isub 90 dX4_shift_89 rfl ?_
                    refine go_icmp_gt 93 107 dX4_shift_90 rfl (by decide) (fun e10 => ?_) (fun e10 => ?_)
                    · replace vc := vc.1 e10
                      refine go_bipush (v := (-13)) 109 dX4_shift_107 rfl (by decide) ?_
                      exact go_ireturn dX4_shift_109 rfl vc
                    · replace vc := vc.2 e10
                      refine go_iload 95 dX4_shift_93 rfl rfl ?_
                      refine go_aload_n 96 0 dX4_shift_95 rfl rfl rfl ?_
                      refine go_getRe 99 dX4_shift_96 rfl (MO_k hM.1) gfX4_187_5 rfl (MO_f1491 hM.1) ?_
                      refine go_iload_n 100 3 dX4_shift_99 rfl rfl rfl ?_
                      refine go_iaload 101 dX4_shift_100 rfl (MO_k59 hM.1) vc.1 ?_
                      replace vc := vc.2
                      refine go_iload 103 dX4_shift_101 rfl rfl ?_
                      refine go_isub 104 dX4_shift_103 rfl ?_
                      refine go_icmp_le 107 110 dX4_shift_104 rfl (by decide) (fun e11 => ?_) (fun e11 => ?_)
                      · replace vc := vc.1 e11
                        refine go_iconst (v := nI 0) 111 dX4_shift_110 rfl (by decide) ?_
                        refine go_istore 113 [vR (some o), vI x1, vI x2, vI x3, vI x4, vI x5, vI (nI 0)] dX4_shift_111 rfl rfl rfl ?_
                        exact vc
                      · replace vc := vc.2 e11
                        refine go_bipush (v := (-13)) 109 dX4_shift_107 rfl (by decide) ?_
                        exact go_ireturn dX4_shift_109 rfl vc
            · replace vc := vc.2 e6
              refine go_bipush (v := (-12)) 65 dX4_shift_63 rfl (by decide) ?_
              exact go_ireturn dX4_shift_65 rfl vc
        · replace vc := vc.2 e4
          refine go_bipush (v := (-11)) 38 dX4_shift_36 rfl (by decide) ?_
          exact go_ireturn dX4_shift_38 rfl vc
    · replace vc := vc.2 (bI_0.mp e2)
      refine go_iconst (v := (-1)) 15 dX4_shift_14 rfl (by decide) ?_
      exact go_ireturn dX4_shift_15 rfl vc

theorem bX4_shift_113 {h : Hp} {b : Nat × Nat} {Q : Rs → Hp → Prop} {o : Nat} {x1 : Int32} {x2 : Int32} {x3 : Int32} {x4 : Int32} {x5 : Int32} {x6 : Int32} {t : St} {g : Nat} (hM : MS h o t g) (vc : ((x5 ≤ x6 → AWP mX4_shift 2 150 [vR (some o), vI x1, vI x2, vI x3, vI x4, vI x5, vI (nI 0)] [] h b Q) ∧ (¬ x5 ≤ x6 → (vp_in ((((nI 60) * x1) + x2) + x6) 360 ∧ (vp_in x6 60 ∧ (∀ h2, h2 = wL h (o + 61) (nt x6) (hAL h (o + 60) (nt ((((nI 60) * x1) + x2) + x6))) → AWP mX4_shift 2 113 [vR (some o), vI x1, vI x2, vI x3, vI x4, vI x5, vI (x6 + nI 1)] [] h2 b Q)))))) : AWP mX4_shift 2 113 [vR (some o), vI x1, vI x2, vI x3, vI x4, vI x5, vI x6] [] h b Q := by
  refine go_iload 115 dX4_shift_113 rfl rfl ?_
  refine go_iload 117 dX4_shift_115 rfl rfl ?_
  refine go_icmp_ge 120 147 dX4_shift_117 rfl (by decide) (fun e1 => ?_) (fun e1 => ?_)
  · replace vc := vc.1 e1
    refine go_iconst (v := nI 0) 148 dX4_shift_147 rfl (by decide) ?_
    refine go_istore 150 [vR (some o), vI x1, vI x2, vI x3, vI x4, vI x5, vI (nI 0)] dX4_shift_148 rfl rfl rfl ?_
    exact vc
  · replace vc := vc.2 e1
    refine go_aload_n 121 0 dX4_shift_120 rfl rfl rfl ?_
    refine go_getRe 124 dX4_shift_121 rfl (MO_k hM.1) gfX4_193_5 rfl (MO_f1493 hM.1) ?_
    refine go_iload 126 dX4_shift_124 rfl rfl ?_
    refine go_aload_n 127 0 dX4_shift_126 rfl rfl rfl ?_
    refine go_getRe 130 dX4_shift_127 rfl (MO_k hM.1) gfX4_190_5 rfl (MO_f1492 hM.1) ?_
    refine go_bipush (v := nI 60) 132 dX4_shift_130 rfl (by decide) ?_
    refine go_iload_n 133 1 dX4_shift_132 rfl rfl rfl ?_
    refine go_imul 134 dX4_shift_133 rfl ?_
    refine go_iload_n 135 2 dX4_shift_134 rfl rfl rfl ?_
    refine go_iadd 136 dX4_shift_135 rfl ?_
    refine go_iload 138 dX4_shift_136 rfl rfl ?_
    refine go_iadd 139 dX4_shift_138 rfl ?_
    refine go_laload 140 dX4_shift_139 rfl (MO_k60 hM.1) vc.1 ?_
    replace vc := vc.2
    refine go_lastore 141 dX4_shift_140 rfl (MO_k61 hM.1) vc.1 ?_
    replace vc := vc.2
    refine AWP.nm fun h2 eh2 => ?_
    replace vc := vc h2 eh2
    have hM : MS h2 o t g := by rw [eh2]; exact hM.fr (PE.L (by decide))
    refine go_iinc 144 (x6 + nI 1) [vR (some o), vI x1, vI x2, vI x3, vI x4, vI x5, vI (x6 + nI 1)] dX4_shift_141 rfl rfl (by rfl) rfl rfl ?_
    refine go_goto 113 dX4_shift_144 (by decide) ?_
    exact vc

theorem bX4_shift_150 {h : Hp} {b : Nat × Nat} {Q : Rs → Hp → Prop} {o : Nat} {x1 : Int32} {x2 : Int32} {x3 : Int32} {x4 : Int32} {x5 : Int32} {x6 : Int32} {t : St} {g : Nat} (hM : MS h o t g) (vc : ((x5 ≤ x6 → Q (rI x5) h) ∧ (¬ x5 ≤ x6 → (vp_in x6 60 ∧ (vp_in ((((nI 60) * x3) + x4) + x6) 360 ∧ (∀ h2, h2 = wL h (o + 60) (nt ((((nI 60) * x3) + x4) + x6)) (hAL h (o + 61) (nt x6)) → AWP mX4_shift 2 150 [vR (some o), vI x1, vI x2, vI x3, vI x4, vI x5, vI (x6 + nI 1)] [] h2 b Q)))))) : AWP mX4_shift 2 150 [vR (some o), vI x1, vI x2, vI x3, vI x4, vI x5, vI x6] [] h b Q := by
  refine go_iload 152 dX4_shift_150 rfl rfl ?_
  refine go_iload 154 dX4_shift_152 rfl rfl ?_
  refine go_icmp_ge 157 185 dX4_shift_154 rfl (by decide) (fun e1 => ?_) (fun e1 => ?_)
  · replace vc := vc.1 e1
    refine go_iload 187 dX4_shift_185 rfl rfl ?_
    exact go_ireturn dX4_shift_187 rfl vc
  · replace vc := vc.2 e1
    refine go_aload_n 158 0 dX4_shift_157 rfl rfl rfl ?_
    refine go_getRe 161 dX4_shift_158 rfl (MO_k hM.1) gfX4_190_5 rfl (MO_f1492 hM.1) ?_
    refine go_bipush (v := nI 60) 163 dX4_shift_161 rfl (by decide) ?_
    refine go_iload_n 164 3 dX4_shift_163 rfl rfl rfl ?_
    refine go_imul 165 dX4_shift_164 rfl ?_
    refine go_iload 167 dX4_shift_165 rfl rfl ?_
    refine go_iadd 168 dX4_shift_167 rfl ?_
    refine go_iload 170 dX4_shift_168 rfl rfl ?_
    refine go_iadd 171 dX4_shift_170 rfl ?_
    refine go_aload_n 172 0 dX4_shift_171 rfl rfl rfl ?_
    refine go_getRe 175 dX4_shift_172 rfl (MO_k hM.1) gfX4_193_5 rfl (MO_f1493 hM.1) ?_
    refine go_iload 177 dX4_shift_175 rfl rfl ?_
    refine go_laload 178 dX4_shift_177 rfl (MO_k61 hM.1) vc.1 ?_
    replace vc := vc.2
    refine go_lastore 179 dX4_shift_178 rfl (MO_k60 hM.1) vc.1 ?_
    replace vc := vc.2
    refine AWP.nm fun h2 eh2 => ?_
    replace vc := vc h2 eh2
    have hM : MO h2 o := by rw [eh2]; exact hM.1
    refine go_iinc 182 (x6 + nI 1) [vR (some o), vI x1, vI x2, vI x3, vI x4, vI x5, vI (x6 + nI 1)] dX4_shift_179 rfl rfl (by rfl) rfl rfl ?_
    refine go_goto 150 dX4_shift_182 (by decide) ?_
    exact vc

theorem bX4_taken_0 {h : Hp} {b : Nat × Nat} {Q : Rs → Hp → Prop} {o : Nat} {x1 : Int32} {x2 : Int32} {t : St} {g : Nat} (hM : MS h o t g) (vc : ((¬ (bt x1 0 5) → Q (rI (-1)) h) ∧ ((bt x1 0 5) → (((bt x2 0 5) → (vp_in x1 6 ∧ (nt x1) < 6 ∧ ((¬ (ho t (nt x1)) = (-1) → (vp_in x1 6 ∧ (nt x1) < 6 ∧ (((ho t (nt x1)) < 0 → Q (rI (-12)) h) ∧ (¬ (ho t (nt x1)) < 0 → (vp_in x1 6 ∧ (nt x1) < 6 ∧ (vp_in (ho t (nt x1)) 200 ∧ (nt (ho t (nt x1))) < nb t ∧ (∃ (P7 : Int32 → Hp → Prop), Ret mX4_isUnder 0 [vI (nI (bk t (nt (ho t (nt x1))))), vI x2] h 0 0 (RI P7) ∧ ∀ z5 h6, P7 z5 h6 → (∃ t9 g10, MS h6 o t9 g10 ∧ ((z5 = 0 → Q (rI (-12)) h6) ∧ (¬ z5 = 0 → (vp_in x1 6 ∧ (nt x1) < 6 ∧ (vp_in (ho t9 (nt x1)) 200 ∧ (nt (ho t9 (nt x1))) < nb t9 ∧ Q (rI (nI (bk t9 (nt (ho t9 (nt x1)))))) h6)))))))))))) ∧ ((ho t (nt x1)) = (-1) → Q (rI (-11)) h)))) ∧ (¬ (bt x2 0 5) → Q (rI (-1)) h))))) : AWP mX4_taken 2 0 [vR (some o), vI x1, vI x2] [] h b Q := by
  refine go_iload_n 1 1 dX4_taken_0 rfl rfl rfl ?_
  refine go_callSI (M' := mX4_isShelf) (as := [vI x1]) 4 dX4_taken_1 rfl q2060 okX4_isShelf rfl rfl rfl rfl rfl (ctX4_isShelf) ?_
  intro x0 h0 p0
  rw [p0.1, p0.2]
  refine go_if_eq 7 16 dX4_taken_4 rfl (by decide) (fun e1 => ?_) (fun e1 => ?_)
  · replace vc := vc.1 (bI_0.mp e1)
    refine go_iconst (v := (-1)) 17 dX4_taken_16 rfl (by decide) ?_
    exact go_ireturn dX4_taken_17 rfl vc
  · replace vc := vc.2 (bI_n0.mp e1)
    refine go_iload_n 8 2 dX4_taken_7 rfl rfl rfl ?_
    refine go_iconst (v := nI 0) 9 dX4_taken_8 rfl (by decide) ?_
    refine go_iconst (v := nI 5) 10 dX4_taken_9 rfl (by decide) ?_
    refine go_callSI (M' := mX4_in) (as := [vI x2, vI (nI 0), vI (nI 5)]) 13 dX4_taken_10 rfl q1703 okX4_in rfl rfl rfl rfl rfl (ctX4_inL rfl rfl) ?_
    intro x0 h0 p0
    rw [p0.1, p0.2]
    refine go_if_ne 16 18 dX4_taken_13 rfl (by decide) (fun e2 => ?_) (fun e2 => ?_)
    · replace vc := vc.1 (bI_n0.mp e2)
      refine go_aload_n 19 0 dX4_taken_18 rfl rfl rfl ?_
      refine go_getRe 22 dX4_taken_19 rfl (MO_k hM.1) gfX4_184_5 rfl (MO_f1490 hM.1) ?_
      refine go_iload_n 23 1 dX4_taken_22 rfl rfl rfl ?_
      refine go_iaload 24 dX4_taken_23 rfl (MO_k58 hM.1) vc.1 ?_
      replace vc := vc.2
      rw [hM.a58 vc.1]
      replace vc := vc.2
      refine go_iconst (v := (-1)) 25 dX4_taken_24 rfl (by decide) ?_
      refine go_icmp_ne 28 31 dX4_taken_25 rfl (by decide) (fun e3 => ?_) (fun e3 => ?_)
      · replace vc := vc.1 e3
        refine go_aload_n 32 0 dX4_taken_31 rfl rfl rfl ?_
        refine go_getRe 35 dX4_taken_32 rfl (MO_k hM.1) gfX4_184_5 rfl (MO_f1490 hM.1) ?_
        refine go_iload_n 36 1 dX4_taken_35 rfl rfl rfl ?_
        refine go_iaload 37 dX4_taken_36 rfl (MO_k58 hM.1) vc.1 ?_
        replace vc := vc.2
        rw [hM.a58 vc.1]
        replace vc := vc.2
        refine go_if_lt 40 72 dX4_taken_37 rfl (by decide) (fun e4 => ?_) (fun e4 => ?_)
        · replace vc := vc.1 e4
          refine go_bipush (v := (-12)) 74 dX4_taken_72 rfl (by decide) ?_
          exact go_ireturn dX4_taken_74 rfl vc
        · replace vc := vc.2 e4
          refine go_aload_n 41 0 dX4_taken_40 rfl rfl rfl ?_
          refine go_getRe 44 dX4_taken_41 rfl (MO_k hM.1) gfX4_41_5 rfl (MO_f1413 hM.1) ?_
          refine go_aload_n 45 0 dX4_taken_44 rfl rfl rfl ?_
          refine go_getRe 48 dX4_taken_45 rfl (MO_k hM.1) gfX4_184_5 rfl (MO_f1490 hM.1) ?_
          refine go_iload_n 49 1 dX4_taken_48 rfl rfl rfl ?_
          refine go_iaload 50 dX4_taken_49 rfl (MO_k58 hM.1) vc.1 ?_
          replace vc := vc.2
          rw [hM.a58 vc.1]
          replace vc := vc.2
          refine go_iaload 51 dX4_taken_50 rfl (MO_k11 hM.1) vc.1 ?_
          replace vc := vc.2
          rw [hM.a11 vc.1]
          replace vc := vc.2
          refine go_iload_n 52 2 dX4_taken_51 rfl rfl rfl ?_
          obtain ⟨P7, hR, vc⟩ := vc
          refine go_callSI (M' := mX4_isUnder) (as := [vI (nI (bk t (nt (ho t (nt x1))))), vI x2]) 55 dX4_taken_52 rfl q2154 okX4_isUnder rfl rfl rfl rfl rfl hR ?_
          intro z5 h6 p1
          replace vc := vc z5 h6 p1
          obtain ⟨t9, g10, hM, vc⟩ := vc
          refine go_if_eq 58 72 dX4_taken_55 rfl (by decide) (fun e11 => ?_) (fun e11 => ?_)
          · replace vc := vc.1 e11
            refine go_bipush (v := (-12)) 74 dX4_taken_72 rfl (by decide) ?_
            exact go_ireturn dX4_taken_74 rfl vc
          · replace vc := vc.2 e11
            refine go_aload_n 59 0 dX4_taken_58 rfl rfl rfl ?_
            refine go_getRe 62 dX4_taken_59 rfl (MO_k hM.1) gfX4_41_5 rfl (MO_f1413 hM.1) ?_
            refine go_aload_n 63 0 dX4_taken_62 rfl rfl rfl ?_
            refine go_getRe 66 dX4_taken_63 rfl (MO_k hM.1) gfX4_184_5 rfl (MO_f1490 hM.1) ?_
            refine go_iload_n 67 1 dX4_taken_66 rfl rfl rfl ?_
            refine go_iaload 68 dX4_taken_67 rfl (MO_k58 hM.1) vc.1 ?_
            replace vc := vc.2
            rw [hM.a58 vc.1]
            replace vc := vc.2
            refine go_iaload 69 dX4_taken_68 rfl (MO_k11 hM.1) vc.1 ?_
            replace vc := vc.2
            rw [hM.a11 vc.1]
            replace vc := vc.2
            refine go_goto 74 dX4_taken_69 (by decide) ?_
            exact go_ireturn dX4_taken_74 rfl vc
      · replace vc := vc.2 e3
        refine go_bipush (v := (-11)) 30 dX4_taken_28 rfl (by decide) ?_
        exact go_ireturn dX4_taken_30 rfl vc
    · replace vc := vc.2 (bI_0.mp e2)
      refine go_iconst (v := (-1)) 17 dX4_taken_16 rfl (by decide) ?_
      exact go_ireturn dX4_taken_17 rfl vc

theorem bX4_trace_0 {h : Hp} {b : Nat × Nat} {Q : Rs → Hp → Prop} {o : Nat} {x1 : Int32} {t : St} {g : Nat} (hM : MS h o t g) (vc : ((x1 < 0 → Q (rI (-1)) h) ∧ (¬ x1 < 0 → (((nI (tr t)) ≤ x1 → Q (rI (-1)) h) ∧ (¬ (nI (tr t)) ≤ x1 → (((nI 24) ≤ x1 → Q (rI (-1)) h) ∧ (¬ (nI 24) ≤ x1 → (vp_in x1 24 ∧ Q (rI (hAI h (o + 57) (nt x1))) h)))))))) : AWP mX4_trace 0 0 [vR (some o), vI x1] [] h b Q := by
  refine go_iload_n 1 1 dX4_trace_0 rfl rfl rfl ?_
  refine go_if_lt 4 27 dX4_trace_1 rfl (by decide) (fun e1 => ?_) (fun e1 => ?_)
  · replace vc := vc.1 e1
    refine go_iconst (v := (-1)) 28 dX4_trace_27 rfl (by decide) ?_
    exact go_ireturn dX4_trace_28 rfl vc
  · replace vc := vc.2 e1
    refine go_iload_n 5 1 dX4_trace_4 rfl rfl rfl ?_
    refine go_aload_n 6 0 dX4_trace_5 rfl rfl rfl ?_
    refine go_getI 9 dX4_trace_6 rfl (MO_k hM.1) gfX4_522_5 rfl ?_
    rw [hM.f488]
    refine go_icmp_ge 12 27 dX4_trace_9 rfl (by decide) (fun e2 => ?_) (fun e2 => ?_)
    · replace vc := vc.1 e2
      refine go_iconst (v := (-1)) 28 dX4_trace_27 rfl (by decide) ?_
      exact go_ireturn dX4_trace_28 rfl vc
    · replace vc := vc.2 e2
      refine go_iload_n 13 1 dX4_trace_12 rfl rfl rfl ?_
      refine go_bipush (v := nI 24) 15 dX4_trace_13 rfl (by decide) ?_
      refine go_icmp_ge 18 27 dX4_trace_15 rfl (by decide) (fun e3 => ?_) (fun e3 => ?_)
      · replace vc := vc.1 e3
        refine go_iconst (v := (-1)) 28 dX4_trace_27 rfl (by decide) ?_
        exact go_ireturn dX4_trace_28 rfl vc
      · replace vc := vc.2 e3
        refine go_aload_n 19 0 dX4_trace_18 rfl rfl rfl ?_
        refine go_getRe 22 dX4_trace_19 rfl (MO_k hM.1) gfX4_181_5 rfl (MO_f1489 hM.1) ?_
        refine go_iload_n 23 1 dX4_trace_22 rfl rfl rfl ?_
        refine go_iaload 24 dX4_trace_23 rfl (MO_k57 hM.1) vc.1 ?_
        replace vc := vc.2
        refine go_goto 28 dX4_trace_24 (by decide) ?_
        exact go_ireturn dX4_trace_28 rfl vc

theorem bX4_count_0 {h : Hp} {b : Nat × Nat} {Q : Rs → Hp → Prop} {o : Nat} {x1 : Int32} {t : St} {g : Nat} (hM : MS h o t g) (vc : ((x1 = nI 0 → Q (rI (nI (ns t))) h) ∧ (x1 = nI 1 → Q (rI (nI (nb t))) h) ∧ (x1 = nI 2 → Q (rI (nI (tl t))) h) ∧ (x1 = nI 3 → Q (rI (nI (dn t))) h) ∧ (x1 = nI 4 → Q (rI (nI (tr t))) h) ∧ (x1 = nI 5 → Q (rI (nI (sp t))) h) ∧ ((¬ x1 = nI 0 ∧ ¬ x1 = nI 1 ∧ ¬ x1 = nI 2 ∧ ¬ x1 = nI 3 ∧ ¬ x1 = nI 4 ∧ ¬ x1 = nI 5) → Q (rI (-1)) h))) : AWP mX4_count 0 0 [vR (some o), vI x1] [] h b Q := by
  refine go_iload_n 1 1 dX4_count_0 rfl rfl rfl ?_
  by_cases e1 : x1 = nI 0
  · replace vc := vc.1 e1
    refine go_tswIn 40 dX4_count_1 (by rw [e1]; decide) (by rw [e1]; decide) (by rw [e1]; rfl) (by decide) ?_
    refine go_aload_n 41 0 dX4_count_40 rfl rfl rfl ?_
    refine go_getI 44 dX4_count_41 rfl (MO_k hM.1) gfX4_200_5 rfl ?_
    rw [hM.f401]
    exact go_ireturn dX4_count_44 rfl vc
  replace vc := vc.2
  by_cases e2 : x1 = nI 1
  · replace vc := vc.1 e2
    refine go_tswIn 45 dX4_count_1 (by rw [e2]; decide) (by rw [e2]; decide) (by rw [e2]; rfl) (by decide) ?_
    refine go_aload_n 46 0 dX4_count_45 rfl rfl rfl ?_
    refine go_getI 49 dX4_count_46 rfl (MO_k hM.1) gfX4_261_5 rfl ?_
    rw [hM.f412]
    exact go_ireturn dX4_count_49 rfl vc
  replace vc := vc.2
  by_cases e3 : x1 = nI 2
  · replace vc := vc.1 e3
    refine go_tswIn 50 dX4_count_1 (by rw [e3]; decide) (by rw [e3]; decide) (by rw [e3]; rfl) (by decide) ?_
    refine go_aload_n 51 0 dX4_count_50 rfl rfl rfl ?_
    refine go_getI 54 dX4_count_51 rfl (MO_k hM.1) gfX4_214_5 rfl ?_
    rw [hM.f416]
    exact go_ireturn dX4_count_54 rfl vc
  replace vc := vc.2
  by_cases e4 : x1 = nI 3
  · replace vc := vc.1 e4
    refine go_tswIn 55 dX4_count_1 (by rw [e4]; decide) (by rw [e4]; decide) (by rw [e4]; rfl) (by decide) ?_
    refine go_aload_n 56 0 dX4_count_55 rfl rfl rfl ?_
    refine go_getI 59 dX4_count_56 rfl (MO_k hM.1) gfX4_286_5 rfl ?_
    rw [hM.f424]
    exact go_ireturn dX4_count_59 rfl vc
  replace vc := vc.2
  by_cases e5 : x1 = nI 4
  · replace vc := vc.1 e5
    refine go_tswIn 60 dX4_count_1 (by rw [e5]; decide) (by rw [e5]; decide) (by rw [e5]; rfl) (by decide) ?_
    refine go_aload_n 61 0 dX4_count_60 rfl rfl rfl ?_
    refine go_getI 64 dX4_count_61 rfl (MO_k hM.1) gfX4_522_5 rfl ?_
    rw [hM.f488]
    exact go_ireturn dX4_count_64 rfl vc
  replace vc := vc.2
  by_cases e6 : x1 = nI 5
  · replace vc := vc.1 e6
    refine go_tswIn 65 dX4_count_1 (by rw [e6]; decide) (by rw [e6]; decide) (by rw [e6]; rfl) (by decide) ?_
    refine go_aload_n 66 0 dX4_count_65 rfl rfl rfl ?_
    refine go_getI 69 dX4_count_66 rfl (MO_k hM.1) gfX4_463_5 rfl ?_
    rw [hM.f474]
    exact go_ireturn dX4_count_69 rfl vc
  replace vc := vc.2
  refine go_tswOut 70 dX4_count_1 (tsw6 e1 e2 e3 e4 e5 e6) (by decide) ?_
  replace vc := vc ⟨e1, e2, e3, e4, e5, e6⟩
  refine go_iconst (v := (-1)) 71 dX4_count_70 rfl (by decide) ?_
  exact go_ireturn dX4_count_71 rfl vc

theorem bX4_plan_0 {h : Hp} {b : Nat × Nat} {Q : Rs → Hp → Prop} {o : Nat} {x1 : Int32} {x2 : Int32} {x3 : Int32} {x4 : Int32} {t : St} {g : Nat} (hM : MS h o t g) (vc : ((¬ (isSh t x1) → Q (rI (-1)) h) ∧ ((isSh t x1) → (isSh t x1 ∧ ((¬ (isCo t x1 x2) → Q (rI (-1)) h) ∧ ((isCo t x1 x2) → ((x3 = (-1) → AWP mX4_plan 2 31 [vR (some o), vI x1, vI x2, vI x3, vI x4, vU] [] h b Q) ∧ (¬ x3 = (-1) → (isSh t x1 ∧ ((¬ (isCo t x1 x3) → Q (rI (-1)) h) ∧ ((isCo t x1 x3) → AWP mX4_plan 2 31 [vR (some o), vI x1, vI x2, vI x3, vI x4, vU] [] h b Q))))))))))) : AWP mX4_plan 2 0 [vR (some o), vI x1, vI x2, vI x3, vI x4, vU] [] h b Q := by
  refine go_aload_n 1 0 dX4_plan_0 rfl rfl rfl ?_
  refine go_iload_n 2 1 dX4_plan_1 rfl rfl rfl ?_
  refine go_callVI (M' := mX4_isShape) (as := [vI x1]) 5 dX4_plan_2 rfl q1769 okX4_isShape (MO_k hM.1) ck_4 rfl rfl rfl rfl rfl (ctX4_isShape hM) ?_
  intro x0 h0 p0
  rw [p0.1, p0.2]
  refine go_if_eq 8 56 dX4_plan_5 rfl (by decide) (fun e1 => ?_) (fun e1 => ?_)
  · replace vc := vc.1 (bI_0.mp e1)
    refine go_iconst (v := (-1)) 57 dX4_plan_56 rfl (by decide) ?_
    exact go_ireturn dX4_plan_57 rfl vc
  · replace vc := vc.2 (bI_n0.mp e1)
    refine go_aload_n 9 0 dX4_plan_8 rfl rfl rfl ?_
    refine go_iload_n 10 1 dX4_plan_9 rfl rfl rfl ?_
    refine go_iload_n 11 2 dX4_plan_10 rfl rfl rfl ?_
    refine go_callVI (M' := mX4_isCorner) (as := [vI x1, vI x2]) 14 dX4_plan_11 rfl q1746 okX4_isCorner (MO_k hM.1) ck_4 rfl rfl rfl rfl rfl (ctX4_isCorner hM vc.1) ?_
    replace vc := vc.2
    intro x0 h0 p0
    rw [p0.1, p0.2]
    refine go_if_eq 17 56 dX4_plan_14 rfl (by decide) (fun e2 => ?_) (fun e2 => ?_)
    · replace vc := vc.1 (bI_0.mp e2)
      refine go_iconst (v := (-1)) 57 dX4_plan_56 rfl (by decide) ?_
      exact go_ireturn dX4_plan_57 rfl vc
    · replace vc := vc.2 (bI_n0.mp e2)
      refine go_iload_n 18 3 dX4_plan_17 rfl rfl rfl ?_
      refine go_iconst (v := (-1)) 19 dX4_plan_18 rfl (by decide) ?_
      refine go_icmp_eq 22 31 dX4_plan_19 rfl (by decide) (fun e3 => ?_) (fun e3 => ?_)
      · replace vc := vc.1 e3
        exact vc
      · replace vc := vc.2 e3
        refine go_aload_n 23 0 dX4_plan_22 rfl rfl rfl ?_
        refine go_iload_n 24 1 dX4_plan_23 rfl rfl rfl ?_
        refine go_iload_n 25 3 dX4_plan_24 rfl rfl rfl ?_
        refine go_callVI (M' := mX4_isCorner) (as := [vI x1, vI x3]) 28 dX4_plan_25 rfl q1746 okX4_isCorner (MO_k hM.1) ck_4 rfl rfl rfl rfl rfl (ctX4_isCorner hM vc.1) ?_
        replace vc := vc.2
        intro x0 h0 p0
        rw [p0.1, p0.2]
        refine go_if_eq 31 56 dX4_plan_28 rfl (by decide) (fun e4 => ?_) (fun e4 => ?_)
        · replace vc := vc.1 (bI_0.mp e4)
          refine go_iconst (v := (-1)) 57 dX4_plan_56 rfl (by decide) ?_
          exact go_ireturn dX4_plan_57 rfl vc
        · replace vc := vc.2 (bI_n0.mp e4)
          exact vc

theorem bX4_plan_31 {h : Hp} {b : Nat × Nat} {Q : Rs → Hp → Prop} {o : Nat} {x1 : Int32} {x2 : Int32} {x3 : Int32} {x4 : Int32} {t : St} {g : Nat} (hM : MS h o t g) (vc : ((¬ (bt x4 1 3) → Q (rI (-1)) h) ∧ ((bt x4 1 3) → (((nI (pm t)) ≤ 0 → AWP mX4_plan 2 61 [vR (some o), vI x1, vI x2, vI x3, vI x4, vI (nI 0)] [] h b Q) ∧ (¬ (nI (pm t)) ≤ 0 → ((x1 = (nI (ps t)) → AWP mX4_plan 2 61 [vR (some o), vI x1, vI x2, vI x3, vI x4, vI (nI 0)] [] h b Q) ∧ (¬ x1 = (nI (ps t)) → Q (rI (-1)) h))))))) : AWP mX4_plan 2 31 [vR (some o), vI x1, vI x2, vI x3, vI x4, vU] [] h b Q := by
  refine go_iload 33 dX4_plan_31 rfl rfl ?_
  refine go_iconst (v := nI 1) 34 dX4_plan_33 rfl (by decide) ?_
  refine go_iconst (v := nI 3) 35 dX4_plan_34 rfl (by decide) ?_
  refine go_callSI (M' := mX4_in) (as := [vI x4, vI (nI 1), vI (nI 3)]) 38 dX4_plan_35 rfl q1703 okX4_in rfl rfl rfl rfl rfl (ctX4_inL rfl rfl) ?_
  intro x0 h0 p0
  rw [p0.1, p0.2]
  refine go_if_eq 41 56 dX4_plan_38 rfl (by decide) (fun e1 => ?_) (fun e1 => ?_)
  · replace vc := vc.1 (bI_0.mp e1)
    refine go_iconst (v := (-1)) 57 dX4_plan_56 rfl (by decide) ?_
    exact go_ireturn dX4_plan_57 rfl vc
  · replace vc := vc.2 (bI_n0.mp e1)
    refine go_aload_n 42 0 dX4_plan_41 rfl rfl rfl ?_
    refine go_getI 45 dX4_plan_42 rfl (MO_k hM.1) gfX4_403_5 rfl ?_
    rw [hM.f451]
    refine go_if_le 48 58 dX4_plan_45 rfl (by decide) (fun e2 => ?_) (fun e2 => ?_)
    · replace vc := vc.1 e2
      refine go_iconst (v := nI 0) 59 dX4_plan_58 rfl (by decide) ?_
      refine go_istore 61 [vR (some o), vI x1, vI x2, vI x3, vI x4, vI (nI 0)] dX4_plan_59 rfl rfl rfl ?_
      exact vc
    · replace vc := vc.2 e2
      refine go_iload_n 49 1 dX4_plan_48 rfl rfl rfl ?_
      refine go_aload_n 50 0 dX4_plan_49 rfl rfl rfl ?_
      refine go_getI 53 dX4_plan_50 rfl (MO_k hM.1) gfX4_406_5 rfl ?_
      rw [hM.f452]
      refine go_icmp_eq 56 58 dX4_plan_53 rfl (by decide) (fun e3 => ?_) (fun e3 => ?_)
      · replace vc := vc.1 e3
        refine go_iconst (v := nI 0) 59 dX4_plan_58 rfl (by decide) ?_
        refine go_istore 61 [vR (some o), vI x1, vI x2, vI x3, vI x4, vI (nI 0)] dX4_plan_59 rfl rfl rfl ?_
        exact vc
      · replace vc := vc.2 e3
        refine go_iconst (v := (-1)) 57 dX4_plan_56 rfl (by decide) ?_
        exact go_ireturn dX4_plan_57 rfl vc

theorem bX4_plan_61 {h : Hp} {b : Nat × Nat} {Q : Rs → Hp → Prop} {o : Nat} {x1 : Int32} {x2 : Int32} {x3 : Int32} {x4 : Int32} {x5 : Int32} {t : St} {g : Nat} (hM : MS h o t g) (vc : (((nI (pm t)) ≤ x5 → ((x3 < 0 → AWP mX4_plan 2 148 [vR (some o), vI x1, vI x2, vI x3, vI x4, vI x5] [] h b Q) ∧ (¬ x3 < 0 → ((x2 = x3 → Q (rI (-2)) h) ∧ (¬ x2 = x3 → ((isSh t x1 ∧ bt x2 0 5 ∧ bt x3 0 5) ∧ (((has t (nt x1) (nt x2) (nt x3) = true) → AWP mX4_plan 2 148 [vR (some o), vI x1, vI x2, vI x3, vI x4, vI x5] [] h b Q) ∧ (¬ (has t (nt x1) (nt x2) (nt x3) = true) → Q (rI (-2)) h)))))))) ∧ (¬ (nI (pm t)) ≤ x5 → (vp_in x5 8 ∧ (nt x5) < pm t ∧ ((¬ (nI (pa t (nt x5))) = x2 → AWP mX4_plan 2 92 [vR (some o), vI x1, vI x2, vI x3, vI x4, vI x5] [] h b Q) ∧ ((nI (pa t (nt x5))) = x2 → (vp_in x5 8 ∧ (nt x5) < pm t ∧ (((pb t (nt x5)) = x3 → Q (rI (-1)) h) ∧ (¬ (pb t (nt x5)) = x3 → AWP mX4_plan 2 92 [vR (some o), vI x1, vI x2, vI x3, vI x4, vI x5] [] h b Q))))))))) : AWP mX4_plan 2 61 [vR (some o), vI x1, vI x2, vI x3, vI x4, vI x5] [] h b Q := by
  refine go_iload 63 dX4_plan_61 rfl rfl ?_
  refine go_aload_n 64 0 dX4_plan_63 rfl rfl rfl ?_
  refine go_getI 67 dX4_plan_64 rfl (MO_k hM.1) gfX4_403_5 rfl ?_
  rw [hM.f451]
  refine go_icmp_ge 70 126 dX4_plan_67 rfl (by decide) (fun e1 => ?_) (fun e1 => ?_)
  · replace vc := vc.1 e1
    refine go_iload_n 127 3 dX4_plan_126 rfl rfl rfl ?_
    refine go_if_lt 130 148 dX4_plan_127 rfl (by decide) (fun e2 => ?_) (fun e2 => ?_)
    · replace vc := vc.1 e2
      exact vc
    · replace vc := vc.2 e2
      refine go_iload_n 131 2 dX4_plan_130 rfl rfl rfl ?_
      refine go_iload_n 132 3 dX4_plan_131 rfl rfl rfl ?_
      refine go_icmp_eq 135 145 dX4_plan_132 rfl (by decide) (fun e3 => ?_) (fun e3 => ?_)
      · replace vc := vc.1 e3
        refine go_bipush (v := (-2)) 147 dX4_plan_145 rfl (by decide) ?_
        exact go_ireturn dX4_plan_147 rfl vc
      · replace vc := vc.2 e3
        refine go_aload_n 136 0 dX4_plan_135 rfl rfl rfl ?_
        refine go_iload_n 137 1 dX4_plan_136 rfl rfl rfl ?_
        refine go_iload_n 138 2 dX4_plan_137 rfl rfl rfl ?_
        refine go_iload_n 139 3 dX4_plan_138 rfl rfl rfl ?_
        refine go_callVI (M' := mX4_hasPiece) (as := [vI x1, vI x2, vI x3]) 142 dX4_plan_139 rfl q1750 okX4_hasPiece (MO_k hM.1) ck_4 rfl rfl rfl rfl rfl (ctX4_hasPiece hM vc.1) ?_
        replace vc := vc.2
        intro x0 h0 p0
        rw [p0.1, p0.2]
        refine go_if_ne 145 148 dX4_plan_142 rfl (by decide) (fun e4 => ?_) (fun e4 => ?_)
        · replace vc := vc.1 (bI_n0.mp e4)
          exact vc
        · replace vc := vc.2 (bI_0.mp e4)
          refine go_bipush (v := (-2)) 147 dX4_plan_145 rfl (by decide) ?_
          exact go_ireturn dX4_plan_147 rfl vc
  · replace vc := vc.2 e1
    refine go_aload_n 71 0 dX4_plan_70 rfl rfl rfl ?_
    refine go_getRe 74 dX4_plan_71 rfl (MO_k hM.1) gfX4_115_5 rfl (MO_f1453 hM.1) ?_
    refine go_iload 76 dX4_plan_74 rfl rfl ?_
    refine go_iaload 77 dX4_plan_76 rfl (MO_k35 hM.1) vc.1 ?_
    replace vc := vc.2
    rw [hM.a35 vc.1]
    replace vc := vc.2
    refine go_iload_n 78 2 dX4_plan_77 rfl rfl rfl ?_
    refine go_icmp_ne 81 92 dX4_plan_78 rfl (by decide) (fun e5 => ?_) (fun e5 => ?_)
    · replace vc := vc.1 e5
      exact vc
    · replace vc := vc.2 e5
      refine go_aload_n 82 0 dX4_plan_81 rfl rfl rfl ?_
      refine go_getRe 85 dX4_plan_82 rfl (MO_k hM.1) gfX4_118_5 rfl (MO_f1454 hM.1) ?_
      refine go_iload 87 dX4_plan_85 rfl rfl ?_
      refine go_iaload 88 dX4_plan_87 rfl (MO_k36 hM.1) vc.1 ?_
      replace vc := vc.2
      rw [hM.a36 vc.1]
      replace vc := vc.2
      refine go_iload_n 89 3 dX4_plan_88 rfl rfl rfl ?_
      refine go_icmp_eq 92 118 dX4_plan_89 rfl (by decide) (fun e6 => ?_) (fun e6 => ?_)
      · replace vc := vc.1 e6
        refine go_iconst (v := (-1)) 119 dX4_plan_118 rfl (by decide) ?_
        exact go_ireturn dX4_plan_119 rfl vc
      · replace vc := vc.2 e6
        exact vc

theorem bX4_plan_92 {h : Hp} {b : Nat × Nat} {Q : Rs → Hp → Prop} {o : Nat} {x1 : Int32} {x2 : Int32} {x3 : Int32} {x4 : Int32} {x5 : Int32} {t : St} {g : Nat} (hM : MS h o t g) (vc : ((x3 < 0 → AWP mX4_plan 2 61 [vR (some o), vI x1, vI x2, vI x3, vI x4, vI (x5 + nI 1)] [] h b Q) ∧ (¬ x3 < 0 → (vp_in x5 8 ∧ (nt x5) < pm t ∧ ((¬ (nI (pa t (nt x5))) = x3 → AWP mX4_plan 2 61 [vR (some o), vI x1, vI x2, vI x3, vI x4, vI (x5 + nI 1)] [] h b Q) ∧ ((nI (pa t (nt x5))) = x3 → (vp_in x5 8 ∧ (nt x5) < pm t ∧ ((¬ (pb t (nt x5)) = x2 → AWP mX4_plan 2 61 [vR (some o), vI x1, vI x2, vI x3, vI x4, vI (x5 + nI 1)] [] h b Q) ∧ ((pb t (nt x5)) = x2 → Q (rI (-1)) h))))))))) : AWP mX4_plan 2 92 [vR (some o), vI x1, vI x2, vI x3, vI x4, vI x5] [] h b Q := by
  refine go_iload_n 93 3 dX4_plan_92 rfl rfl rfl ?_
  refine go_if_lt 96 120 dX4_plan_93 rfl (by decide) (fun e1 => ?_) (fun e1 => ?_)
  · replace vc := vc.1 e1
    refine go_iinc 123 (x5 + nI 1) [vR (some o), vI x1, vI x2, vI x3, vI x4, vI (x5 + nI 1)] dX4_plan_120 rfl rfl (by rfl) rfl rfl ?_
    refine go_goto 61 dX4_plan_123 (by decide) ?_
    exact vc
  · replace vc := vc.2 e1
    refine go_aload_n 97 0 dX4_plan_96 rfl rfl rfl ?_
    refine go_getRe 100 dX4_plan_97 rfl (MO_k hM.1) gfX4_115_5 rfl (MO_f1453 hM.1) ?_
    refine go_iload 102 dX4_plan_100 rfl rfl ?_
    refine go_iaload 103 dX4_plan_102 rfl (MO_k35 hM.1) vc.1 ?_
    replace vc := vc.2
    rw [hM.a35 vc.1]
    replace vc := vc.2
    refine go_iload_n 104 3 dX4_plan_103 rfl rfl rfl ?_
    refine go_icmp_ne 107 120 dX4_plan_104 rfl (by decide) (fun e2 => ?_) (fun e2 => ?_)
    · replace vc := vc.1 e2
      refine go_iinc 123 (x5 + nI 1) [vR (some o), vI x1, vI x2, vI x3, vI x4, vI (x5 + nI 1)] dX4_plan_120 rfl rfl (by rfl) rfl rfl ?_
      refine go_goto 61 dX4_plan_123 (by decide) ?_
      exact vc
    · replace vc := vc.2 e2
      refine go_aload_n 108 0 dX4_plan_107 rfl rfl rfl ?_
      refine go_getRe 111 dX4_plan_108 rfl (MO_k hM.1) gfX4_118_5 rfl (MO_f1454 hM.1) ?_
      refine go_iload 113 dX4_plan_111 rfl rfl ?_
      refine go_iaload 114 dX4_plan_113 rfl (MO_k36 hM.1) vc.1 ?_
      replace vc := vc.2
      rw [hM.a36 vc.1]
      replace vc := vc.2
      refine go_iload_n 115 2 dX4_plan_114 rfl rfl rfl ?_
      refine go_icmp_ne 118 120 dX4_plan_115 rfl (by decide) (fun e3 => ?_) (fun e3 => ?_)
      · replace vc := vc.1 e3
        refine go_iinc 123 (x5 + nI 1) [vR (some o), vI x1, vI x2, vI x3, vI x4, vI (x5 + nI 1)] dX4_plan_120 rfl rfl (by rfl) rfl rfl ?_
        refine go_goto 61 dX4_plan_123 (by decide) ?_
        exact vc
      · replace vc := vc.2 e3
        refine go_iconst (v := (-1)) 119 dX4_plan_118 rfl (by decide) ?_
        exact go_ireturn dX4_plan_119 rfl vc

theorem bX4_plan_148 {h : Hp} {b : Nat × Nat} {Q : Rs → Hp → Prop} {o : Nat} {x1 : Int32} {x2 : Int32} {x3 : Int32} {x4 : Int32} {x5 : Int32} {t : St} {g : Nat} (hM : MS h o t g) (vc : ((¬ (nI (pm t)) = (nI 6) → (∀ h2, h2 = sFI h 452 o x1 → (vp_in (hFI h2 451 o) 8 ∧ (∀ h3, h3 = w1 h2 (o + 35) (nt (hFI h2 451 o)) x2 → (vp_in (hFI h3 451 o) 8 ∧ (∀ h4, h4 = w1 h3 (o + 36) (nt (hFI h3 451 o)) x3 → (vp_in (hFI h4 451 o) 8 ∧ (∀ h5, h5 = w1 h4 (o + 37) (nt (hFI h4 451 o)) x4 → (∀ h6, h6 = sFI h5 451 o ((hFI h5 451 o) + (nI 1)) → Q (rI (hFI h6 451 o)) h6))))))))) ∧ ((nI (pm t)) = (nI 6) → Q (rI (-3)) h))) : AWP mX4_plan 2 148 [vR (some o), vI x1, vI x2, vI x3, vI x4, vI x5] [] h b Q := by
  refine go_aload_n 149 0 dX4_plan_148 rfl rfl rfl ?_
  refine go_getI 152 dX4_plan_149 rfl (MO_k hM.1) gfX4_403_5 rfl ?_
  rw [hM.f451]
  refine go_bipush (v := nI 6) 154 dX4_plan_152 rfl (by decide) ?_
  refine go_icmp_ne 157 160 dX4_plan_154 rfl (by decide) (fun e1 => ?_) (fun e1 => ?_)
  · replace vc := vc.1 e1
    refine go_aload_n 161 0 dX4_plan_160 rfl rfl rfl ?_
    refine go_iload_n 162 1 dX4_plan_161 rfl rfl rfl ?_
    refine go_putI 165 dX4_plan_162 rfl (MO_k hM.1) (gpX4_406_5 _) rfl ?_
    refine AWP.nm fun h2 eh2 => ?_
    replace vc := vc h2 eh2
    have hM : MO h2 o := by rw [eh2]; exact hM.1
    refine go_aload_n 166 0 dX4_plan_165 rfl rfl rfl ?_
    refine go_getRe 169 dX4_plan_166 rfl (MO_k hM) gfX4_115_5 rfl (MO_f1453 hM) ?_
    refine go_aload_n 170 0 dX4_plan_169 rfl rfl rfl ?_
    refine go_getI 173 dX4_plan_170 rfl (MO_k hM) gfX4_403_5 rfl ?_
    refine go_iload_n 174 2 dX4_plan_173 rfl rfl rfl ?_
    refine go_iastore 175 dX4_plan_174 rfl (MO_k35 hM) vc.1 ?_
    replace vc := vc.2
    refine AWP.nm fun h3 eh3 => ?_
    replace vc := vc h3 eh3
    have hM : MO h3 o := by rw [eh3]; exact hM
    refine go_aload_n 176 0 dX4_plan_175 rfl rfl rfl ?_
    refine go_getRe 179 dX4_plan_176 rfl (MO_k hM) gfX4_118_5 rfl (MO_f1454 hM) ?_
    refine go_aload_n 180 0 dX4_plan_179 rfl rfl rfl ?_
    refine go_getI 183 dX4_plan_180 rfl (MO_k hM) gfX4_403_5 rfl ?_
    refine go_iload_n 184 3 dX4_plan_183 rfl rfl rfl ?_
    refine go_iastore 185 dX4_plan_184 rfl (MO_k36 hM) vc.1 ?_
    replace vc := vc.2
    refine AWP.nm fun h4 eh4 => ?_
    replace vc := vc h4 eh4
    have hM : MO h4 o := by rw [eh4]; exact hM
    refine go_aload_n 186 0 dX4_plan_185 rfl rfl rfl ?_
    refine go_getRe 189 dX4_plan_186 rfl (MO_k hM) gfX4_121_5 rfl (MO_f1455 hM) ?_
    refine go_aload_n 190 0 dX4_plan_189 rfl rfl rfl ?_
    refine go_getI 193 dX4_plan_190 rfl (MO_k hM) gfX4_403_5 rfl ?_
    refine go_iload 195 dX4_plan_193 rfl rfl ?_
    refine go_iastore 196 dX4_plan_195 rfl (MO_k37 hM) vc.1 ?_
    replace vc := vc.2
    refine AWP.nm fun h5 eh5 => ?_
    replace vc := vc h5 eh5
    have hM : MO h5 o := by rw [eh5]; exact hM
    refine go_aload_n 197 0 dX4_plan_196 rfl rfl rfl ?_
    refine go_dup 198 dX4_plan_197 rfl rfl ?_
    refine go_getI 201 dX4_plan_198 rfl (MO_k hM) gfX4_403_5 rfl ?_
    refine go_iconst (v := nI 1) 202 dX4_plan_201 rfl (by decide) ?_
    refine go_iadd 203 dX4_plan_202 rfl ?_
    refine go_putI 206 dX4_plan_203 rfl (MO_k hM) (gpX4_403_5 _) rfl ?_
    refine AWP.nm fun h6 eh6 => ?_
    replace vc := vc h6 eh6
    have hM : MO h6 o := by rw [eh6]; exact hM
    refine go_aload_n 207 0 dX4_plan_206 rfl rfl rfl ?_
    refine go_getI 210 dX4_plan_207 rfl (MO_k hM) gfX4_403_5 rfl ?_
    exact go_ireturn dX4_plan_210 rfl vc
  · replace vc := vc.2 e1
    refine go_bipush (v := (-3)) 159 dX4_plan_157 rfl (by decide) ?_
    exact go_ireturn dX4_plan_159 rfl vc

theorem bX4_wish_0 {h : Hp} {b : Nat × Nat} {Q : Rs → Hp → Prop} {o : Nat} {x1 : Int32} {x2 : Int32} {x3 : Int32} {t : St} {g : Nat} (hM : MS h o t g) (vc : ((¬ (nI (pm t)) = 0 → (isSh t (nI (ps t)) ∧ ((¬ ((nI 0) ≤ x1 ∧ x1 ≤ ((nI (tones t (nt (nI (ps t))))) - (nI 1))) → Q (rI (-1)) h) ∧ (((nI 0) ≤ x1 ∧ x1 ≤ ((nI (tones t (nt (nI (ps t))))) - (nI 1))) → ((¬ (bt x2 1 9) → Q (rI (-1)) h) ∧ ((bt x2 1 9) → (((bt x3 0 99) → AWP mX4_wish 1 86 [vR (some o), vI x1, vI x2, vI x3, vI (nI 0)] [] h b Q) ∧ (¬ (bt x3 0 99) → Q (rI (-1)) h)))))))) ∧ ((nI (pm t)) = 0 → ((¬ (bt x1 0 5) → Q (rI (-1)) h) ∧ ((bt x1 0 5) → ((¬ (bt x2 1 9) → Q (rI (-1)) h) ∧ ((bt x2 1 9) → ((¬ (bt x3 0 99) → Q (rI (-1)) h) ∧ ((bt x3 0 99) → Q (rI (-4)) h))))))))) : AWP mX4_wish 1 0 [vR (some o), vI x1, vI x2, vI x3, vU] [] h b Q := by
  refine go_aload_n 1 0 dX4_wish_0 rfl rfl rfl ?_
  refine go_getI 4 dX4_wish_1 rfl (MO_k hM.1) gfX4_403_5 rfl ?_
  rw [hM.f451]
  refine go_if_ne 7 43 dX4_wish_4 rfl (by decide) (fun e1 => ?_) (fun e1 => ?_)
  · replace vc := vc.1 e1
    refine go_iload_n 44 1 dX4_wish_43 rfl rfl rfl ?_
    refine go_iconst (v := nI 0) 45 dX4_wish_44 rfl (by decide) ?_
    refine go_aload_n 46 0 dX4_wish_45 rfl rfl rfl ?_
    refine go_aload_n 47 0 dX4_wish_46 rfl rfl rfl ?_
    refine go_getI 50 dX4_wish_47 rfl (MO_k hM.1) gfX4_406_5 rfl ?_
    rw [hM.f452]
    refine go_callVI (M' := mX4_tonesOf) (as := [vI (nI (ps t))]) 53 dX4_wish_50 rfl q1778 okX4_tonesOf (MO_k hM.1) ck_4 rfl rfl rfl rfl rfl (ctX4_tonesOf hM vc.1) ?_
    replace vc := vc.2
    intro x0 h0 p0
    rw [p0.1, p0.2]
    refine go_iconst (v := nI 1) 54 dX4_wish_53 rfl (by decide) ?_
    refine go_isub 55 dX4_wish_54 rfl ?_
    refine go_callSI (M' := mX4_in) (as := [vI x1, vI (nI 0), vI ((nI (tones t (nt (nI (ps t))))) - (nI 1))]) 58 dX4_wish_55 rfl q1703 okX4_in rfl rfl rfl rfl rfl (ctX4_in) ?_
    intro x0 h0 p0
    rw [p0.1, p0.2]
    refine go_if_eq 61 81 dX4_wish_58 rfl (by decide) (fun e2 => ?_) (fun e2 => ?_)
    · replace vc := vc.1 (bI_0.mp e2)
      refine go_iconst (v := (-1)) 82 dX4_wish_81 rfl (by decide) ?_
      exact go_ireturn dX4_wish_82 rfl vc
    · replace vc := vc.2 (bI_n0.mp e2)
      refine go_iload_n 62 2 dX4_wish_61 rfl rfl rfl ?_
      refine go_iconst (v := nI 1) 63 dX4_wish_62 rfl (by decide) ?_
      refine go_bipush (v := nI 9) 65 dX4_wish_63 rfl (by decide) ?_
      refine go_callSI (M' := mX4_in) (as := [vI x2, vI (nI 1), vI (nI 9)]) 68 dX4_wish_65 rfl q1703 okX4_in rfl rfl rfl rfl rfl (ctX4_inL rfl rfl) ?_
      intro x0 h0 p0
      rw [p0.1, p0.2]
      refine go_if_eq 71 81 dX4_wish_68 rfl (by decide) (fun e3 => ?_) (fun e3 => ?_)
      · replace vc := vc.1 (bI_0.mp e3)
        refine go_iconst (v := (-1)) 82 dX4_wish_81 rfl (by decide) ?_
        exact go_ireturn dX4_wish_82 rfl vc
      · replace vc := vc.2 (bI_n0.mp e3)
        refine go_iload_n 72 3 dX4_wish_71 rfl rfl rfl ?_
        refine go_iconst (v := nI 0) 73 dX4_wish_72 rfl (by decide) ?_
        refine go_bipush (v := nI 99) 75 dX4_wish_73 rfl (by decide) ?_
        refine go_callSI (M' := mX4_in) (as := [vI x3, vI (nI 0), vI (nI 99)]) 78 dX4_wish_75 rfl q1703 okX4_in rfl rfl rfl rfl rfl (ctX4_inL rfl rfl) ?_
        intro x0 h0 p0
        rw [p0.1, p0.2]
        refine go_if_ne 81 83 dX4_wish_78 rfl (by decide) (fun e4 => ?_) (fun e4 => ?_)
        · replace vc := vc.1 (bI_n0.mp e4)
          refine go_iconst (v := nI 0) 84 dX4_wish_83 rfl (by decide) ?_
          refine go_istore 86 [vR (some o), vI x1, vI x2, vI x3, vI (nI 0)] dX4_wish_84 rfl rfl rfl ?_
          exact vc
        · replace vc := vc.2 (bI_0.mp e4)
          refine go_iconst (v := (-1)) 82 dX4_wish_81 rfl (by decide) ?_
          exact go_ireturn dX4_wish_82 rfl vc
  · replace vc := vc.2 e1
    refine go_iload_n 8 1 dX4_wish_7 rfl rfl rfl ?_
    refine go_iconst (v := nI 0) 9 dX4_wish_8 rfl (by decide) ?_
    refine go_iconst (v := nI 5) 10 dX4_wish_9 rfl (by decide) ?_
    refine go_callSI (M' := mX4_in) (as := [vI x1, vI (nI 0), vI (nI 5)]) 13 dX4_wish_10 rfl q1703 okX4_in rfl rfl rfl rfl rfl (ctX4_inL rfl rfl) ?_
    intro x0 h0 p0
    rw [p0.1, p0.2]
    refine go_if_eq 16 41 dX4_wish_13 rfl (by decide) (fun e5 => ?_) (fun e5 => ?_)
    · replace vc := vc.1 (bI_0.mp e5)
      refine go_iconst (v := (-1)) 42 dX4_wish_41 rfl (by decide) ?_
      exact go_ireturn dX4_wish_42 rfl vc
    · replace vc := vc.2 (bI_n0.mp e5)
      refine go_iload_n 17 2 dX4_wish_16 rfl rfl rfl ?_
      refine go_iconst (v := nI 1) 18 dX4_wish_17 rfl (by decide) ?_
      refine go_bipush (v := nI 9) 20 dX4_wish_18 rfl (by decide) ?_
      refine go_callSI (M' := mX4_in) (as := [vI x2, vI (nI 1), vI (nI 9)]) 23 dX4_wish_20 rfl q1703 okX4_in rfl rfl rfl rfl rfl (ctX4_inL rfl rfl) ?_
      intro x0 h0 p0
      rw [p0.1, p0.2]
      refine go_if_eq 26 41 dX4_wish_23 rfl (by decide) (fun e6 => ?_) (fun e6 => ?_)
      · replace vc := vc.1 (bI_0.mp e6)
        refine go_iconst (v := (-1)) 42 dX4_wish_41 rfl (by decide) ?_
        exact go_ireturn dX4_wish_42 rfl vc
      · replace vc := vc.2 (bI_n0.mp e6)
        refine go_iload_n 27 3 dX4_wish_26 rfl rfl rfl ?_
        refine go_iconst (v := nI 0) 28 dX4_wish_27 rfl (by decide) ?_
        refine go_bipush (v := nI 99) 30 dX4_wish_28 rfl (by decide) ?_
        refine go_callSI (M' := mX4_in) (as := [vI x3, vI (nI 0), vI (nI 99)]) 33 dX4_wish_30 rfl q1703 okX4_in rfl rfl rfl rfl rfl (ctX4_inL rfl rfl) ?_
        intro x0 h0 p0
        rw [p0.1, p0.2]
        refine go_if_eq 36 41 dX4_wish_33 rfl (by decide) (fun e7 => ?_) (fun e7 => ?_)
        · replace vc := vc.1 (bI_0.mp e7)
          refine go_iconst (v := (-1)) 42 dX4_wish_41 rfl (by decide) ?_
          exact go_ireturn dX4_wish_42 rfl vc
        · replace vc := vc.2 (bI_n0.mp e7)
          refine go_bipush (v := (-4)) 38 dX4_wish_36 rfl (by decide) ?_
          refine go_goto 42 dX4_wish_38 (by decide) ?_
          exact go_ireturn dX4_wish_42 rfl vc

theorem bX4_wish_86 {h : Hp} {b : Nat × Nat} {Q : Rs → Hp → Prop} {o : Nat} {x1 : Int32} {x2 : Int32} {x3 : Int32} {x4 : Int32} {t : St} {g : Nat} (hM : MS h o t g) (vc : (((nI (wm t)) ≤ x4 → ((¬ (nI (wm t)) = (nI 6) → (vp_in (nI (wm t)) 6 ∧ (∀ h3, h3 = w1 h (o + 38) (nt (nI (wm t))) x1 → (vp_in (hFI h3 456 o) 6 ∧ (∀ h4, h4 = w1 h3 (o + 39) (nt (hFI h3 456 o)) x2 → (vp_in (hFI h4 456 o) 6 ∧ (∀ h5, h5 = w1 h4 (o + 40) (nt (hFI h4 456 o)) x3 → (∀ h6, h6 = sFI h5 456 o ((hFI h5 456 o) + (nI 1)) → Q (rI (hFI h6 456 o)) h6)))))))) ∧ ((nI (wm t)) = (nI 6) → Q (rI (-3)) h))) ∧ (¬ (nI (wm t)) ≤ x4 → (vp_in x4 6 ∧ (nt x4) < wm t ∧ ((¬ (nI (wt t (nt x4))) = x1 → AWP mX4_wish 1 86 [vR (some o), vI x1, vI x2, vI x3, vI (x4 + nI 1)] [] h b Q) ∧ ((nI (wt t (nt x4))) = x1 → (vp_in x4 6 ∧ (nt x4) < wm t ∧ ((¬ (wb t (nt x4)) = x2 → AWP mX4_wish 1 86 [vR (some o), vI x1, vI x2, vI x3, vI (x4 + nI 1)] [] h b Q) ∧ ((wb t (nt x4)) = x2 → Q (rI (-1)) h))))))))) : AWP mX4_wish 1 86 [vR (some o), vI x1, vI x2, vI x3, vI x4] [] h b Q := by
  refine go_iload 88 dX4_wish_86 rfl rfl ?_
  refine go_aload_n 89 0 dX4_wish_88 rfl rfl rfl ?_
  refine go_getI 92 dX4_wish_89 rfl (MO_k hM.1) gfX4_409_5 rfl ?_
  rw [hM.f456]
  refine go_icmp_ge 95 125 dX4_wish_92 rfl (by decide) (fun e1 => ?_) (fun e1 => ?_)
  · replace vc := vc.1 e1
    refine go_aload_n 126 0 dX4_wish_125 rfl rfl rfl ?_
    refine go_getI 129 dX4_wish_126 rfl (MO_k hM.1) gfX4_409_5 rfl ?_
    rw [hM.f456]
    refine go_bipush (v := nI 6) 131 dX4_wish_129 rfl (by decide) ?_
    refine go_icmp_ne 134 137 dX4_wish_131 rfl (by decide) (fun e2 => ?_) (fun e2 => ?_)
    · replace vc := vc.1 e2
      refine go_aload_n 138 0 dX4_wish_137 rfl rfl rfl ?_
      refine go_getRe 141 dX4_wish_138 rfl (MO_k hM.1) gfX4_124_5 rfl (MO_f1457 hM.1) ?_
      refine go_aload_n 142 0 dX4_wish_141 rfl rfl rfl ?_
      refine go_getI 145 dX4_wish_142 rfl (MO_k hM.1) gfX4_409_5 rfl ?_
      rw [hM.f456]
      refine go_iload_n 146 1 dX4_wish_145 rfl rfl rfl ?_
      refine go_iastore 147 dX4_wish_146 rfl (MO_k38 hM.1) vc.1 ?_
      replace vc := vc.2
      refine AWP.nm fun h3 eh3 => ?_
      replace vc := vc h3 eh3
      have hM : MO h3 o := by rw [eh3]; exact hM.1
      refine go_aload_n 148 0 dX4_wish_147 rfl rfl rfl ?_
      refine go_getRe 151 dX4_wish_148 rfl (MO_k hM) gfX4_127_5 rfl (MO_f1458 hM) ?_
      refine go_aload_n 152 0 dX4_wish_151 rfl rfl rfl ?_
      refine go_getI 155 dX4_wish_152 rfl (MO_k hM) gfX4_409_5 rfl ?_
      refine go_iload_n 156 2 dX4_wish_155 rfl rfl rfl ?_
      refine go_iastore 157 dX4_wish_156 rfl (MO_k39 hM) vc.1 ?_
      replace vc := vc.2
      refine AWP.nm fun h4 eh4 => ?_
      replace vc := vc h4 eh4
      have hM : MO h4 o := by rw [eh4]; exact hM
      refine go_aload_n 158 0 dX4_wish_157 rfl rfl rfl ?_
      refine go_getRe 161 dX4_wish_158 rfl (MO_k hM) gfX4_130_5 rfl (MO_f1459 hM) ?_
      refine go_aload_n 162 0 dX4_wish_161 rfl rfl rfl ?_
      refine go_getI 165 dX4_wish_162 rfl (MO_k hM) gfX4_409_5 rfl ?_
      refine go_iload_n 166 3 dX4_wish_165 rfl rfl rfl ?_
      refine go_iastore 167 dX4_wish_166 rfl (MO_k40 hM) vc.1 ?_
      replace vc := vc.2
      refine AWP.nm fun h5 eh5 => ?_
      replace vc := vc h5 eh5
      have hM : MO h5 o := by rw [eh5]; exact hM
      refine go_aload_n 168 0 dX4_wish_167 rfl rfl rfl ?_
      refine go_dup 169 dX4_wish_168 rfl rfl ?_
      refine go_getI 172 dX4_wish_169 rfl (MO_k hM) gfX4_409_5 rfl ?_
      refine go_iconst (v := nI 1) 173 dX4_wish_172 rfl (by decide) ?_
      refine go_iadd 174 dX4_wish_173 rfl ?_
      refine go_putI 177 dX4_wish_174 rfl (MO_k hM) (gpX4_409_5 _) rfl ?_
      refine AWP.nm fun h6 eh6 => ?_
      replace vc := vc h6 eh6
      have hM : MO h6 o := by rw [eh6]; exact hM
      refine go_aload_n 178 0 dX4_wish_177 rfl rfl rfl ?_
      refine go_getI 181 dX4_wish_178 rfl (MO_k hM) gfX4_409_5 rfl ?_
      exact go_ireturn dX4_wish_181 rfl vc
    · replace vc := vc.2 e2
      refine go_bipush (v := (-3)) 136 dX4_wish_134 rfl (by decide) ?_
      exact go_ireturn dX4_wish_136 rfl vc
  · replace vc := vc.2 e1
    refine go_aload_n 96 0 dX4_wish_95 rfl rfl rfl ?_
    refine go_getRe 99 dX4_wish_96 rfl (MO_k hM.1) gfX4_124_5 rfl (MO_f1457 hM.1) ?_
    refine go_iload 101 dX4_wish_99 rfl rfl ?_
    refine go_iaload 102 dX4_wish_101 rfl (MO_k38 hM.1) vc.1 ?_
    replace vc := vc.2
    rw [hM.a38 vc.1]
    replace vc := vc.2
    refine go_iload_n 103 1 dX4_wish_102 rfl rfl rfl ?_
    refine go_icmp_ne 106 119 dX4_wish_103 rfl (by decide) (fun e7 => ?_) (fun e7 => ?_)
    · replace vc := vc.1 e7
      refine go_iinc 122 (x4 + nI 1) [vR (some o), vI x1, vI x2, vI x3, vI (x4 + nI 1)] dX4_wish_119 rfl rfl (by rfl) rfl rfl ?_
      refine go_goto 86 dX4_wish_122 (by decide) ?_
      exact vc
    · replace vc := vc.2 e7
      refine go_aload_n 107 0 dX4_wish_106 rfl rfl rfl ?_
      refine go_getRe 110 dX4_wish_107 rfl (MO_k hM.1) gfX4_127_5 rfl (MO_f1458 hM.1) ?_
      refine go_iload 112 dX4_wish_110 rfl rfl ?_
      refine go_iaload 113 dX4_wish_112 rfl (MO_k39 hM.1) vc.1 ?_
      replace vc := vc.2
      rw [hM.a39 vc.1]
      replace vc := vc.2
      refine go_iload_n 114 2 dX4_wish_113 rfl rfl rfl ?_
      refine go_icmp_ne 117 119 dX4_wish_114 rfl (by decide) (fun e8 => ?_) (fun e8 => ?_)
      · replace vc := vc.1 e8
        refine go_iinc 122 (x4 + nI 1) [vR (some o), vI x1, vI x2, vI x3, vI (x4 + nI 1)] dX4_wish_119 rfl rfl (by rfl) rfl rfl ?_
        refine go_goto 86 dX4_wish_122 (by decide) ?_
        exact vc
      · replace vc := vc.2 e8
        refine go_iconst (v := (-1)) 118 dX4_wish_117 rfl (by decide) ?_
        exact go_ireturn dX4_wish_118 rfl vc
