theorem bX4_clear_0 {h : Hp} {b : Nat × Nat} {Q : Rs → Hp → Prop} {o : Nat} {x1 : Int32} (hM : MO h o) (vc : (vp_in x1 13 ∧ (∀ h1, h1 = w1 h (o + 1) (nt x1) (nI 0) → AWP mX4_clear 0 9 [vR (some o), vI x1, vI (nI 0)] [] h1 b Q))) : AWP mX4_clear 0 0 [vR (some o), vI x1, vU] [] h b Q := by
  refine go_aload_n 1 0 dX4_clear_0 rfl rfl rfl ?_
  refine go_getRe 4 dX4_clear_1 rfl (MO_k hM) gfX4_7_5 rfl (MO_f1402 hM) ?_
  refine go_iload_n 5 1 dX4_clear_4 rfl rfl rfl ?_
  refine go_iconst (v := nI 0) 6 dX4_clear_5 rfl (by decide) ?_
  refine go_iastore 7 dX4_clear_6 rfl (MO_k1 hM) vc.1 ?_
  replace vc := vc.2
  refine AWP.nm fun h1 eh1 => ?_
  replace vc := vc h1 eh1
  have hM : MO h1 o := by rw [eh1]; exact hM
  refine go_iconst (v := nI 0) 8 dX4_clear_7 rfl (by decide) ?_
  refine go_istore_n 9 2 [vR (some o), vI x1, vI (nI 0)] dX4_clear_8 rfl rfl rfl rfl ?_
  exact vc

theorem bX4_clear_9 {h : Hp} {b : Nat × Nat} {Q : Rs → Hp → Prop} {o : Nat} {x1 : Int32} {x2 : Int32} (hM : MO h o) (vc : (((nI 6) ≤ x2 → AWP mX4_clear 0 74 [vR (some o), vI x1, vI ((nI 36) * x1)] [] h b Q) ∧ (¬ (nI 6) ≤ x2 → (vp_in (((nI 6) * x1) + x2) 78 ∧ (∀ h2, h2 = w1 h (o + 2) (nt (((nI 6) * x1) + x2)) (nI 0) → (vp_in (((nI 6) * x1) + x2) 78 ∧ (∀ h3, h3 = w1 h2 (o + 3) (nt (((nI 6) * x1) + x2)) (nI 0) → (vp_in (((nI 6) * x1) + x2) 78 ∧ (∀ h4, h4 = w1 h3 (o + 4) (nt (((nI 6) * x1) + x2)) (nI 0) → (vp_in (((nI 6) * x1) + x2) 78 ∧ (∀ h5, h5 = w1 h4 (o + 5) (nt (((nI 6) * x1) + x2)) (vp_nar .boolean (nI 0)) → AWP mX4_clear 0 9 [vR (some o), vI x1, vI (x2 + nI 1)] [] h5 b Q))))))))))) : AWP mX4_clear 0 9 [vR (some o), vI x1, vI x2] [] h b Q := by
  refine go_iload_n 10 2 dX4_clear_9 rfl rfl rfl ?_
  refine go_bipush (v := nI 6) 12 dX4_clear_10 rfl (by decide) ?_
  refine go_icmp_ge 15 69 dX4_clear_12 rfl (by decide) (fun e1 => ?_) (fun e1 => ?_)
  · replace vc := vc.1 e1
    refine go_bipush (v := nI 36) 71 dX4_clear_69 rfl (by decide) ?_
    refine go_iload_n 72 1 dX4_clear_71 rfl rfl rfl ?_
    refine go_imul 73 dX4_clear_72 rfl ?_
    refine go_istore_n 74 2 [vR (some o), vI x1, vI ((nI 36) * x1)] dX4_clear_73 rfl rfl rfl rfl ?_
    exact vc
  · replace vc := vc.2 e1
    refine go_aload_n 16 0 dX4_clear_15 rfl rfl rfl ?_
    refine go_getRe 19 dX4_clear_16 rfl (MO_k hM) gfX4_13_5 rfl (MO_f1403 hM) ?_
    refine go_bipush (v := nI 6) 21 dX4_clear_19 rfl (by decide) ?_
    refine go_iload_n 22 1 dX4_clear_21 rfl rfl rfl ?_
    refine go_imul 23 dX4_clear_22 rfl ?_
    refine go_iload_n 24 2 dX4_clear_23 rfl rfl rfl ?_
    refine go_iadd 25 dX4_clear_24 rfl ?_
    refine go_iconst (v := nI 0) 26 dX4_clear_25 rfl (by decide) ?_
    refine go_iastore 27 dX4_clear_26 rfl (MO_k2 hM) vc.1 ?_
    replace vc := vc.2
    refine AWP.nm fun h2 eh2 => ?_
    replace vc := vc h2 eh2
    have hM : MO h2 o := by rw [eh2]; exact hM
    refine go_aload_n 28 0 dX4_clear_27 rfl rfl rfl ?_
    refine go_getRe 31 dX4_clear_28 rfl (MO_k hM) gfX4_16_5 rfl (MO_f1404 hM) ?_
    refine go_bipush (v := nI 6) 33 dX4_clear_31 rfl (by decide) ?_
    refine go_iload_n 34 1 dX4_clear_33 rfl rfl rfl ?_
    refine go_imul 35 dX4_clear_34 rfl ?_
    refine go_iload_n 36 2 dX4_clear_35 rfl rfl rfl ?_
    refine go_iadd 37 dX4_clear_36 rfl ?_
    refine go_iconst (v := nI 0) 38 dX4_clear_37 rfl (by decide) ?_
    refine go_iastore 39 dX4_clear_38 rfl (MO_k3 hM) vc.1 ?_
    replace vc := vc.2
    refine AWP.nm fun h3 eh3 => ?_
    replace vc := vc h3 eh3
    have hM : MO h3 o := by rw [eh3]; exact hM
    refine go_aload_n 40 0 dX4_clear_39 rfl rfl rfl ?_
    refine go_getRe 43 dX4_clear_40 rfl (MO_k hM) gfX4_19_5 rfl (MO_f1405 hM) ?_
    refine go_bipush (v := nI 6) 45 dX4_clear_43 rfl (by decide) ?_
    refine go_iload_n 46 1 dX4_clear_45 rfl rfl rfl ?_
    refine go_imul 47 dX4_clear_46 rfl ?_
    refine go_iload_n 48 2 dX4_clear_47 rfl rfl rfl ?_
    refine go_iadd 49 dX4_clear_48 rfl ?_
    refine go_iconst (v := nI 0) 50 dX4_clear_49 rfl (by decide) ?_
    refine go_iastore 51 dX4_clear_50 rfl (MO_k4 hM) vc.1 ?_
    replace vc := vc.2
    refine AWP.nm fun h4 eh4 => ?_
    replace vc := vc h4 eh4
    have hM : MO h4 o := by rw [eh4]; exact hM
    refine go_aload_n 52 0 dX4_clear_51 rfl rfl rfl ?_
    refine go_getRe 55 dX4_clear_52 rfl (MO_k hM) gfX4_22_5 rfl (MO_f1406 hM) ?_
    refine go_bipush (v := nI 6) 57 dX4_clear_55 rfl (by decide) ?_
    refine go_iload_n 58 1 dX4_clear_57 rfl rfl rfl ?_
    refine go_imul 59 dX4_clear_58 rfl ?_
    refine go_iload_n 60 2 dX4_clear_59 rfl rfl rfl ?_
    refine go_iadd 61 dX4_clear_60 rfl ?_
    refine go_iconst (v := nI 0) 62 dX4_clear_61 rfl (by decide) ?_
    refine go_bastoreZ 63 dX4_clear_62 rfl (MO_k5 hM) vc.1 ?_
    replace vc := vc.2
    refine AWP.nm fun h5 eh5 => ?_
    replace vc := vc h5 eh5
    have hM : MO h5 o := by rw [eh5]; exact hM
    refine go_iinc 66 (x2 + nI 1) [vR (some o), vI x1, vI (x2 + nI 1)] dX4_clear_63 rfl rfl (by rfl) rfl rfl ?_
    refine go_goto 9 dX4_clear_66 (by decide) ?_
    exact vc

theorem bX4_clear_74 {h : Hp} {b : Nat × Nat} {Q : Rs → Hp → Prop} {o : Nat} {x1 : Int32} {x2 : Int32} (hM : MO h o) (vc : (((((nI 36) * x1) + (nI 36)) ≤ x2 → Q rV h) ∧ (¬ (((nI 36) * x1) + (nI 36)) ≤ x2 → (vp_in x2 468 ∧ (∀ h2, h2 = w1 h (o + 8) (nt x2) (nI 0) → (vp_in x2 468 ∧ (∀ h3, h3 = w1 h2 (o + 6) (nt x2) (nI 0) → (vp_in x2 468 ∧ (∀ h4, h4 = w1 h3 (o + 7) (nt x2) (nI 0) → AWP mX4_clear 0 74 [vR (some o), vI x1, vI (x2 + nI 1)] [] h4 b Q))))))))) : AWP mX4_clear 0 74 [vR (some o), vI x1, vI x2] [] h b Q := by
  refine go_iload_n 75 2 dX4_clear_74 rfl rfl rfl ?_
  refine go_bipush (v := nI 36) 77 dX4_clear_75 rfl (by decide) ?_
  refine go_iload_n 78 1 dX4_clear_77 rfl rfl rfl ?_
  refine go_imul 79 dX4_clear_78 rfl ?_
  refine go_bipush (v := nI 36) 81 dX4_clear_79 rfl (by decide) ?_
  refine go_iadd 82 dX4_clear_81 rfl ?_
  refine go_icmp_ge 85 112 dX4_clear_82 rfl (by decide) (fun e1 => ?_) (fun e1 => ?_)
  · replace vc := vc.1 e1
    exact go_return dX4_clear_112 rfl vc
  · replace vc := vc.2 e1
    refine go_aload_n 86 0 dX4_clear_85 rfl rfl rfl ?_
    refine go_getRe 89 dX4_clear_86 rfl (MO_k hM) gfX4_32_5 rfl (MO_f1409 hM) ?_
    refine go_iload_n 90 2 dX4_clear_89 rfl rfl rfl ?_
    refine go_iconst (v := nI 0) 91 dX4_clear_90 rfl (by decide) ?_
    refine go_iastore 92 dX4_clear_91 rfl (MO_k8 hM) vc.1 ?_
    replace vc := vc.2
    refine AWP.nm fun h2 eh2 => ?_
    replace vc := vc h2 eh2
    have hM : MO h2 o := by rw [eh2]; exact hM
    refine go_aload_n 93 0 dX4_clear_92 rfl rfl rfl ?_
    refine go_getRe 96 dX4_clear_93 rfl (MO_k hM) gfX4_26_5 rfl (MO_f1407 hM) ?_
    refine go_iload_n 97 2 dX4_clear_96 rfl rfl rfl ?_
    refine go_iconst (v := nI 0) 98 dX4_clear_97 rfl (by decide) ?_
    refine go_iastore 99 dX4_clear_98 rfl (MO_k6 hM) vc.1 ?_
    replace vc := vc.2
    refine AWP.nm fun h3 eh3 => ?_
    replace vc := vc h3 eh3
    have hM : MO h3 o := by rw [eh3]; exact hM
    refine go_aload_n 100 0 dX4_clear_99 rfl rfl rfl ?_
    refine go_getRe 103 dX4_clear_100 rfl (MO_k hM) gfX4_29_5 rfl (MO_f1408 hM) ?_
    refine go_iload_n 104 2 dX4_clear_103 rfl rfl rfl ?_
    refine go_iconst (v := nI 0) 105 dX4_clear_104 rfl (by decide) ?_
    refine go_iastore 106 dX4_clear_105 rfl (MO_k7 hM) vc.1 ?_
    replace vc := vc.2
    refine AWP.nm fun h4 eh4 => ?_
    replace vc := vc h4 eh4
    have hM : MO h4 o := by rw [eh4]; exact hM
    refine go_iinc 109 (x2 + nI 1) [vR (some o), vI x1, vI (x2 + nI 1)] dX4_clear_106 rfl rfl (by rfl) rfl rfl ?_
    refine go_goto 74 dX4_clear_109 (by decide) ?_
    exact vc

theorem bX4_bear_0 {h : Hp} {b : Nat × Nat} {Q : Rs → Hp → Prop} {o : Nat} {x1 : Int32} {x2 : Int32} {x3 : Int32} (hM : MO h o) (vc : (vp_in (hFI h 412 o) 200 ∧ (∀ h1, h1 = w1 h (o + 11) (nt (hFI h 412 o)) (nI 1) → (vp_in (hFI h1 412 o) 200 ∧ (∀ h2, h2 = w1 h1 (o + 12) (nt (hFI h1 412 o)) ((nI 36 * x1 + nI 6 * x2 + x3) + (nI 1)) → (vp_in (nI 36 * x1 + nI 6 * x2 + x3) 468 ∧ (vp_in (nI 36 * x1 + nI 6 * x2 + x3) 468 ∧ (∃ (P5 : Hp → Prop), Ret mX4_setPiece 1 [vR (some o), vI x1, vI x2, vI x3, vI (hFI h2 412 o), vI (hAI h2 (o + 6) (nt (nI 36 * x1 + nI 6 * x2 + x3))), vI (hAI h2 (o + 7) (nt (nI 36 * x1 + nI 6 * x2 + x3)))] h2 0 0 (RV P5) ∧ ∀ h4, P5 h4 → (MO h4 o ∧ (∀ h7, h7 = sFI h4 412 o ((hFI h4 412 o) + (nI 1)) → Q rV h7)))))))))) : AWP mX4_bear 2 0 [vR (some o), vI x1, vI x2, vI x3] [] h b Q := by
  refine go_aload_n 1 0 dX4_bear_0 rfl rfl rfl ?_
  refine go_getRe 4 dX4_bear_1 rfl (MO_k hM) gfX4_41_5 rfl (MO_f1413 hM) ?_
  refine go_aload_n 5 0 dX4_bear_4 rfl rfl rfl ?_
  refine go_getI 8 dX4_bear_5 rfl (MO_k hM) gfX4_261_5 rfl ?_
  refine go_iconst (v := nI 1) 9 dX4_bear_8 rfl (by decide) ?_
  refine go_iastore 10 dX4_bear_9 rfl (MO_k11 hM) vc.1 ?_
  replace vc := vc.2
  refine AWP.nm fun h1 eh1 => ?_
  replace vc := vc h1 eh1
  have hM : MO h1 o := by rw [eh1]; exact hM
  refine go_aload_n 11 0 dX4_bear_10 rfl rfl rfl ?_
  refine go_getRe 14 dX4_bear_11 rfl (MO_k hM) gfX4_44_5 rfl (MO_f1414 hM) ?_
  refine go_aload_n 15 0 dX4_bear_14 rfl rfl rfl ?_
  refine go_getI 18 dX4_bear_15 rfl (MO_k hM) gfX4_261_5 rfl ?_
  refine go_iload_n 19 1 dX4_bear_18 rfl rfl rfl ?_
  refine go_iload_n 20 2 dX4_bear_19 rfl rfl rfl ?_
  refine go_iload_n 21 3 dX4_bear_20 rfl rfl rfl ?_
  refine go_callSI (M' := mX4_at) (as := [vI x1, vI x2, vI x3]) 24 dX4_bear_21 rfl q1754 okX4_at rfl rfl rfl rfl rfl (ctX4_at) ?_
  intro x0 h0 p0
  rw [p0.1, p0.2]
  refine go_iconst (v := nI 1) 25 dX4_bear_24 rfl (by decide) ?_
  refine go_iadd 26 dX4_bear_25 rfl ?_
  refine go_iastore 27 dX4_bear_26 rfl (MO_k12 hM) vc.1 ?_
  replace vc := vc.2
  refine AWP.nm fun h2 eh2 => ?_
  replace vc := vc h2 eh2
  have hM : MO h2 o := by rw [eh2]; exact hM
  refine go_aload_n 28 0 dX4_bear_27 rfl rfl rfl ?_
  refine go_iload_n 29 1 dX4_bear_28 rfl rfl rfl ?_
  refine go_iload_n 30 2 dX4_bear_29 rfl rfl rfl ?_
  refine go_iload_n 31 3 dX4_bear_30 rfl rfl rfl ?_
  refine go_aload_n 32 0 dX4_bear_31 rfl rfl rfl ?_
  refine go_getI 35 dX4_bear_32 rfl (MO_k hM) gfX4_261_5 rfl ?_
  refine go_aload_n 36 0 dX4_bear_35 rfl rfl rfl ?_
  refine go_getRe 39 dX4_bear_36 rfl (MO_k hM) gfX4_26_5 rfl (MO_f1407 hM) ?_
  refine go_iload_n 40 1 dX4_bear_39 rfl rfl rfl ?_
  refine go_iload_n 41 2 dX4_bear_40 rfl rfl rfl ?_
  refine go_iload_n 42 3 dX4_bear_41 rfl rfl rfl ?_
  refine go_callSI (M' := mX4_at) (as := [vI x1, vI x2, vI x3]) 45 dX4_bear_42 rfl q1754 okX4_at rfl rfl rfl rfl rfl (ctX4_at) ?_
  intro x0 h0 p0
  rw [p0.1, p0.2]
  refine go_iaload 46 dX4_bear_45 rfl (MO_k6 hM) vc.1 ?_
  replace vc := vc.2
  refine go_aload_n 47 0 dX4_bear_46 rfl rfl rfl ?_
  refine go_getRe 50 dX4_bear_47 rfl (MO_k hM) gfX4_29_5 rfl (MO_f1408 hM) ?_
  refine go_iload_n 51 1 dX4_bear_50 rfl rfl rfl ?_
  refine go_iload_n 52 2 dX4_bear_51 rfl rfl rfl ?_
  refine go_iload_n 53 3 dX4_bear_52 rfl rfl rfl ?_
  refine go_callSI (M' := mX4_at) (as := [vI x1, vI x2, vI x3]) 56 dX4_bear_53 rfl q1754 okX4_at rfl rfl rfl rfl rfl (ctX4_at) ?_
  intro x0 h0 p0
  rw [p0.1, p0.2]
  refine go_iaload 57 dX4_bear_56 rfl (MO_k7 hM) vc.1 ?_
  replace vc := vc.2
  obtain ⟨P5, hR, vc⟩ := vc
  refine go_callVV (M' := mX4_setPiece) (as := [vI x1, vI x2, vI x3, vI (hFI h2 412 o), vI (hAI h2 (o + 6) (nt (nI 36 * x1 + nI 6 * x2 + x3))), vI (hAI h2 (o + 7) (nt (nI 36 * x1 + nI 6 * x2 + x3)))]) 60 dX4_bear_57 rfl q1757 okX4_setPiece (MO_k hM) ck_4 rfl rfl rfl rfl rfl hR ?_
  intro h4 p1
  replace vc := vc h4 p1
  have hM := vc.1
  replace vc := vc.2
  refine go_aload_n 61 0 dX4_bear_60 rfl rfl rfl ?_
  refine go_dup 62 dX4_bear_61 rfl rfl ?_
  refine go_getI 65 dX4_bear_62 rfl (MO_k hM) gfX4_261_5 rfl ?_
  refine go_iconst (v := nI 1) 66 dX4_bear_65 rfl (by decide) ?_
  refine go_iadd 67 dX4_bear_66 rfl ?_
  refine go_putI 70 dX4_bear_67 rfl (MO_k hM) (gpX4_261_5 _) rfl ?_
  refine AWP.nm fun h7 eh7 => ?_
  replace vc := vc h7 eh7
  have hM : MO h7 o := by rw [eh7]; exact hM
  exact go_return dX4_bear_70 rfl vc

theorem bX4_copyCorners_0 {h : Hp} {b : Nat × Nat} {Q : Rs → Hp → Prop} {o : Nat} {x1 : Int32} {x2 : Int32} {x3 : Int32} (hM : MO h o) (vc : AWP mX4_copyCorners 0 3 [vR (some o), vI x1, vI x2, vI x3, vI (nI 0), vU, vU] [] h b Q) : AWP mX4_copyCorners 0 0 [vR (some o), vI x1, vI x2, vI x3, vU, vU, vU] [] h b Q := by
  refine go_iconst (v := nI 0) 1 dX4_copyCorners_0 rfl (by decide) ?_
  refine go_istore 3 [vR (some o), vI x1, vI x2, vI x3, vI (nI 0), vU, vU] dX4_copyCorners_1 rfl rfl rfl ?_
  exact vc

theorem bX4_copyCorners_3 {h : Hp} {b : Nat × Nat} {Q : Rs → Hp → Prop} {o : Nat} {x1 : Int32} {x2 : Int32} {x3 : Int32} {x4 : Int32} {y5 : AV} {y6 : AV} (hM : MO h o) (vc : (vp_in x1 13 ∧ (((hAI h (o + 1) (nt x1)) ≤ x4 → Q rV h) ∧ (¬ (hAI h (o + 1) (nt x1)) ≤ x4 → (vp_in (((nI 6) * x1) + x4) 78 ∧ (vp_in ((((nI 6) * x2) + x3) + x4) 78 ∧ (∀ h2, h2 = w1 h (o + 2) (nt ((((nI 6) * x2) + x3) + x4)) (hAI h (o + 2) (nt (((nI 6) * x1) + x4))) → (vp_in (((nI 6) * x1) + x4) 78 ∧ (vp_in ((((nI 6) * x2) + x3) + x4) 78 ∧ (∀ h3, h3 = w1 h2 (o + 3) (nt ((((nI 6) * x2) + x3) + x4)) (hAI h2 (o + 3) (nt (((nI 6) * x1) + x4))) → (vp_in (((nI 6) * x1) + x4) 78 ∧ (vp_in ((((nI 6) * x2) + x3) + x4) 78 ∧ (∀ h4, h4 = w1 h3 (o + 4) (nt ((((nI 6) * x2) + x3) + x4)) (hAI h3 (o + 4) (nt (((nI 6) * x1) + x4))) → (vp_in (((nI 6) * x1) + x4) 78 ∧ (vp_in ((((nI 6) * x2) + x3) + x4) 78 ∧ (∀ h5, h5 = w1 h4 (o + 5) (nt ((((nI 6) * x2) + x3) + x4)) (vp_nar .boolean (hAI h4 (o + 5) (nt (((nI 6) * x1) + x4)))) → AWP mX4_copyCorners 0 3 [vR (some o), vI x1, vI x2, vI x3, vI (x4 + nI 1), vI (((nI 6) * x1) + x4), vI ((((nI 6) * x2) + x3) + x4)] [] h5 b Q)))))))))))))))) : AWP mX4_copyCorners 0 3 [vR (some o), vI x1, vI x2, vI x3, vI x4, y5, y6] [] h b Q := by
  refine go_iload 5 dX4_copyCorners_3 rfl rfl ?_
  refine go_aload_n 6 0 dX4_copyCorners_5 rfl rfl rfl ?_
  refine go_getRe 9 dX4_copyCorners_6 rfl (MO_k hM) gfX4_7_5 rfl (MO_f1402 hM) ?_
  refine go_iload_n 10 1 dX4_copyCorners_9 rfl rfl rfl ?_
  refine go_iaload 11 dX4_copyCorners_10 rfl (MO_k1 hM) vc.1 ?_
  replace vc := vc.2
  refine go_icmp_ge 14 96 dX4_copyCorners_11 rfl (by decide) (fun e1 => ?_) (fun e1 => ?_)
  · replace vc := vc.1 e1
    exact go_return dX4_copyCorners_96 rfl vc
  · replace vc := vc.2 e1
    refine go_bipush (v := nI 6) 16 dX4_copyCorners_14 rfl (by decide) ?_
    refine go_iload_n 17 1 dX4_copyCorners_16 rfl rfl rfl ?_
    refine go_imul 18 dX4_copyCorners_17 rfl ?_
    refine go_iload 20 dX4_copyCorners_18 rfl rfl ?_
    refine go_iadd 21 dX4_copyCorners_20 rfl ?_
    refine go_istore 23 [vR (some o), vI x1, vI x2, vI x3, vI x4, vI (((nI 6) * x1) + x4), y6] dX4_copyCorners_21 rfl rfl rfl ?_
    refine go_bipush (v := nI 6) 25 dX4_copyCorners_23 rfl (by decide) ?_
    refine go_iload_n 26 2 dX4_copyCorners_25 rfl rfl rfl ?_
    refine go_imul 27 dX4_copyCorners_26 rfl ?_
    refine go_iload_n 28 3 dX4_copyCorners_27 rfl rfl rfl ?_
    refine go_iadd 29 dX4_copyCorners_28 rfl ?_
    refine go_iload 31 dX4_copyCorners_29 rfl rfl ?_
    refine go_iadd 32 dX4_copyCorners_31 rfl ?_
    refine go_istore 34 [vR (some o), vI x1, vI x2, vI x3, vI x4, vI (((nI 6) * x1) + x4), vI ((((nI 6) * x2) + x3) + x4)] dX4_copyCorners_32 rfl rfl rfl ?_
    refine go_aload_n 35 0 dX4_copyCorners_34 rfl rfl rfl ?_
    refine go_getRe 38 dX4_copyCorners_35 rfl (MO_k hM) gfX4_13_5 rfl (MO_f1403 hM) ?_
    refine go_iload 40 dX4_copyCorners_38 rfl rfl ?_
    refine go_aload_n 41 0 dX4_copyCorners_40 rfl rfl rfl ?_
    refine go_getRe 44 dX4_copyCorners_41 rfl (MO_k hM) gfX4_13_5 rfl (MO_f1403 hM) ?_
    refine go_iload 46 dX4_copyCorners_44 rfl rfl ?_
    refine go_iaload 47 dX4_copyCorners_46 rfl (MO_k2 hM) vc.1 ?_
    replace vc := vc.2
    refine go_iastore 48 dX4_copyCorners_47 rfl (MO_k2 hM) vc.1 ?_
    replace vc := vc.2
    refine AWP.nm fun h2 eh2 => ?_
    replace vc := vc h2 eh2
    have hM : MO h2 o := by rw [eh2]; exact hM
    refine go_aload_n 49 0 dX4_copyCorners_48 rfl rfl rfl ?_
    refine go_getRe 52 dX4_copyCorners_49 rfl (MO_k hM) gfX4_16_5 rfl (MO_f1404 hM) ?_
    refine go_iload 54 dX4_copyCorners_52 rfl rfl ?_
    refine go_aload_n 55 0 dX4_copyCorners_54 rfl rfl rfl ?_
    refine go_getRe 58 dX4_copyCorners_55 rfl (MO_k hM) gfX4_16_5 rfl (MO_f1404 hM) ?_
    refine go_iload 60 dX4_copyCorners_58 rfl rfl ?_
    refine go_iaload 61 dX4_copyCorners_60 rfl (MO_k3 hM) vc.1 ?_
    replace vc := vc.2
    refine go_iastore 62 dX4_copyCorners_61 rfl (MO_k3 hM) vc.1 ?_
    replace vc := vc.2
    refine AWP.nm fun h3 eh3 => ?_
    replace vc := vc h3 eh3
    have hM : MO h3 o := by rw [eh3]; exact hM
    refine go_aload_n 63 0 dX4_copyCorners_62 rfl rfl rfl ?_
    refine go_getRe 66 dX4_copyCorners_63 rfl (MO_k hM) gfX4_19_5 rfl (MO_f1405 hM) ?_
    refine go_iload 68 dX4_copyCorners_66 rfl rfl ?_
    refine go_aload_n 69 0 dX4_copyCorners_68 rfl rfl rfl ?_
    refine go_getRe 72 dX4_copyCorners_69 rfl (MO_k hM) gfX4_19_5 rfl (MO_f1405 hM) ?_
    refine go_iload 74 dX4_copyCorners_72 rfl rfl ?_
    refine go_iaload 75 dX4_copyCorners_74 rfl (MO_k4 hM) vc.1 ?_
    replace vc := vc.2
    refine go_iastore 76 dX4_copyCorners_75 rfl (MO_k4 hM) vc.1 ?_
    replace vc := vc.2
    refine AWP.nm fun h4 eh4 => ?_
    replace vc := vc h4 eh4
    have hM : MO h4 o := by rw [eh4]; exact hM
    refine go_aload_n 77 0 dX4_copyCorners_76 rfl rfl rfl ?_
    refine go_getRe 80 dX4_copyCorners_77 rfl (MO_k hM) gfX4_22_5 rfl (MO_f1406 hM) ?_
    refine go_iload 82 dX4_copyCorners_80 rfl rfl ?_
    refine go_aload_n 83 0 dX4_copyCorners_82 rfl rfl rfl ?_
    refine go_getRe 86 dX4_copyCorners_83 rfl (MO_k hM) gfX4_22_5 rfl (MO_f1406 hM) ?_
    refine go_iload 88 dX4_copyCorners_86 rfl rfl ?_
    refine go_baloadZ 89 dX4_copyCorners_88 rfl (MO_k5 hM) vc.1 ?_
    replace vc := vc.2
    refine go_bastoreZ 90 dX4_copyCorners_89 rfl (MO_k5 hM) vc.1 ?_
    replace vc := vc.2
    refine AWP.nm fun h5 eh5 => ?_
    replace vc := vc h5 eh5
    have hM : MO h5 o := by rw [eh5]; exact hM
    refine go_iinc 93 (x4 + nI 1) [vR (some o), vI x1, vI x2, vI x3, vI (x4 + nI 1), vI (((nI 6) * x1) + x4), vI ((((nI 6) * x2) + x3) + x4)] dX4_copyCorners_90 rfl rfl (by rfl) rfl rfl ?_
    refine go_goto 3 dX4_copyCorners_93 (by decide) ?_
    exact vc

theorem bX4_copyPieces_0 {h : Hp} {b : Nat × Nat} {Q : Rs → Hp → Prop} {o : Nat} {x1 : Int32} {x2 : Int32} {x3 : Int32} (hM : MO h o) (vc : AWP mX4_copyPieces 3 9 [vR (some o), vI x1, vI x2, vI x3, vI (hFI h 412 o), vI (nI 0), vU, vU, vU] [] h b Q) : AWP mX4_copyPieces 3 0 [vR (some o), vI x1, vI x2, vI x3, vU, vU, vU, vU, vU] [] h b Q := by
  refine go_aload_n 1 0 dX4_copyPieces_0 rfl rfl rfl ?_
  refine go_getI 4 dX4_copyPieces_1 rfl (MO_k hM) gfX4_261_5 rfl ?_
  refine go_istore 6 [vR (some o), vI x1, vI x2, vI x3, vI (hFI h 412 o), vU, vU, vU, vU] dX4_copyPieces_4 rfl rfl rfl ?_
  refine go_iconst (v := nI 0) 7 dX4_copyPieces_6 rfl (by decide) ?_
  refine go_istore 9 [vR (some o), vI x1, vI x2, vI x3, vI (hFI h 412 o), vI (nI 0), vU, vU, vU] dX4_copyPieces_7 rfl rfl rfl ?_
  exact vc

theorem bX4_copyPieces_9 {h : Hp} {b : Nat × Nat} {Q : Rs → Hp → Prop} {o : Nat} {x1 : Int32} {x2 : Int32} {x3 : Int32} {x4 : Int32} {x5 : Int32} {y6 : AV} {y7 : AV} {y8 : AV} (hM : MO h o) (vc : ((x4 ≤ x5 → Q rV h) ∧ (¬ x4 ≤ x5 → (vp_in x5 200 ∧ ((((hAI h (o + 12) (nt x5)) - (nI 1)) < 0 → AWP mX4_copyPieces 3 9 [vR (some o), vI x1, vI x2, vI x3, vI x4, vI (x5 + nI 1), vI ((hAI h (o + 12) (nt x5)) - (nI 1)), y7, y8] [] h b Q) ∧ (¬ ((hAI h (o + 12) (nt x5)) - (nI 1)) < 0 → (((((hAI h (o + 12) (nt x5)) - (nI 1)) / (nI 36)) = x1 → AWP mX4_copyPieces 3 44 [vR (some o), vI x1, vI x2, vI x3, vI x4, vI x5, vI ((hAI h (o + 12) (nt x5)) - (nI 1)), y7, y8] [] h b Q) ∧ (¬ (((hAI h (o + 12) (nt x5)) - (nI 1)) / (nI 36)) = x1 → AWP mX4_copyPieces 3 9 [vR (some o), vI x1, vI x2, vI x3, vI x4, vI (x5 + nI 1), vI ((hAI h (o + 12) (nt x5)) - (nI 1)), y7, y8] [] h b Q)))))))) : AWP mX4_copyPieces 3 9 [vR (some o), vI x1, vI x2, vI x3, vI x4, vI x5, y6, y7, y8] [] h b Q := by
  refine go_iload 11 dX4_copyPieces_9 rfl rfl ?_
  refine go_iload 13 dX4_copyPieces_11 rfl rfl ?_
  refine go_icmp_ge 16 107 dX4_copyPieces_13 rfl (by decide) (fun e1 => ?_) (fun e1 => ?_)
  · replace vc := vc.1 e1
    exact go_return dX4_copyPieces_107 rfl vc
  · replace vc := vc.2 e1
    refine go_aload_n 17 0 dX4_copyPieces_16 rfl rfl rfl ?_
    refine go_getRe 20 dX4_copyPieces_17 rfl (MO_k hM) gfX4_44_5 rfl (MO_f1414 hM) ?_
    refine go_iload 22 dX4_copyPieces_20 rfl rfl ?_
    refine go_iaload 23 dX4_copyPieces_22 rfl (MO_k12 hM) vc.1 ?_
    replace vc := vc.2
    refine go_iconst (v := nI 1) 24 dX4_copyPieces_23 rfl (by decide) ?_
    refine go_isub 25 dX4_copyPieces_24 rfl ?_
    refine go_istore 27 [vR (some o), vI x1, vI x2, vI x3, vI x4, vI x5, vI ((hAI h (o + 12) (nt x5)) - (nI 1)), y7, y8] dX4_copyPieces_25 rfl rfl rfl ?_
    refine go_iload 29 dX4_copyPieces_27 rfl rfl ?_
    refine go_if_lt 32 101 dX4_copyPieces_29 rfl (by decide) (fun e2 => ?_) (fun e2 => ?_)
    · replace vc := vc.1 e2
      refine go_iinc 104 (x5 + nI 1) [vR (some o), vI x1, vI x2, vI x3, vI x4, vI (x5 + nI 1), vI ((hAI h (o + 12) (nt x5)) - (nI 1)), y7, y8] dX4_copyPieces_101 rfl rfl (by rfl) rfl rfl ?_
      refine go_goto 9 dX4_copyPieces_104 (by decide) ?_
      exact vc
    · replace vc := vc.2 e2
      refine go_iload 34 dX4_copyPieces_32 rfl rfl ?_
      refine go_bipush (v := nI 36) 36 dX4_copyPieces_34 rfl (by decide) ?_
      refine go_idiv 37 dX4_copyPieces_36 rfl (by decide) ?_
      refine go_iload_n 38 1 dX4_copyPieces_37 rfl rfl rfl ?_
      refine go_icmp_eq 41 44 dX4_copyPieces_38 rfl (by decide) (fun e3 => ?_) (fun e3 => ?_)
      · replace vc := vc.1 e3
        exact vc
      · replace vc := vc.2 e3
        refine go_goto 101 dX4_copyPieces_41 (by decide) ?_
        refine go_iinc 104 (x5 + nI 1) [vR (some o), vI x1, vI x2, vI x3, vI x4, vI (x5 + nI 1), vI ((hAI h (o + 12) (nt x5)) - (nI 1)), y7, y8] dX4_copyPieces_101 rfl rfl (by rfl) rfl rfl ?_
        refine go_goto 9 dX4_copyPieces_104 (by decide) ?_
        exact vc

theorem bX4_copyPieces_44 {h : Hp} {b : Nat × Nat} {Q : Rs → Hp → Prop} {o : Nat} {x1 : Int32} {x2 : Int32} {x3 : Int32} {x4 : Int32} {x5 : Int32} {x6 : Int32} {y7 : AV} {y8 : AV} (hM : MO h o) (vc : AWP mX4_copyPieces 3 65 [vR (some o), vI x1, vI x2, vI x3, vI x4, vI x5, vI x6, vI (((x6 / (nI 6)) - (x6 / (nI 6)) / (nI 6) * (nI 6)) + x3), vI ((x6 - x6 / (nI 6) * (nI 6)) + x3)] [] h b Q) : AWP mX4_copyPieces 3 44 [vR (some o), vI x1, vI x2, vI x3, vI x4, vI x5, vI x6, y7, y8] [] h b Q := by
  refine go_iload 46 dX4_copyPieces_44 rfl rfl ?_
  refine go_bipush (v := nI 6) 48 dX4_copyPieces_46 rfl (by decide) ?_
  refine go_idiv 49 dX4_copyPieces_48 rfl (by decide) ?_
  refine go_bipush (v := nI 6) 51 dX4_copyPieces_49 rfl (by decide) ?_
  refine go_irem 52 dX4_copyPieces_51 rfl (by decide) ?_
  refine go_iload_n 53 3 dX4_copyPieces_52 rfl rfl rfl ?_
  refine go_iadd 54 dX4_copyPieces_53 rfl ?_
  refine go_istore 56 [vR (some o), vI x1, vI x2, vI x3, vI x4, vI x5, vI x6, vI (((x6 / (nI 6)) - (x6 / (nI 6)) / (nI 6) * (nI 6)) + x3), y8] dX4_copyPieces_54 rfl rfl rfl ?_
  refine go_iload 58 dX4_copyPieces_56 rfl rfl ?_
  refine go_bipush (v := nI 6) 60 dX4_copyPieces_58 rfl (by decide) ?_
  refine go_irem 61 dX4_copyPieces_60 rfl (by decide) ?_
  refine go_iload_n 62 3 dX4_copyPieces_61 rfl rfl rfl ?_
  refine go_iadd 63 dX4_copyPieces_62 rfl ?_
  refine go_istore 65 [vR (some o), vI x1, vI x2, vI x3, vI x4, vI x5, vI x6, vI (((x6 / (nI 6)) - (x6 / (nI 6)) / (nI 6) * (nI 6)) + x3), vI ((x6 - x6 / (nI 6) * (nI 6)) + x3)] dX4_copyPieces_63 rfl rfl rfl ?_
  exact vc

theorem bX4_copyPieces_65 {h : Hp} {b : Nat × Nat} {Q : Rs → Hp → Prop} {o : Nat} {x1 : Int32} {x2 : Int32} {x3 : Int32} {x4 : Int32} {x5 : Int32} {x6 : Int32} {x7 : Int32} {x8 : Int32} (hM : MO h o) (vc : (vp_in x6 468 ∧ (vp_in x6 468 ∧ (∃ (P3 : Hp → Prop), Ret mX4_setPiece 1 [vR (some o), vI x2, vI x7, vI x8, vI (hFI h 412 o), vI (hAI h (o + 6) (nt x6)), vI (hAI h (o + 7) (nt x6))] h 0 0 (RV P3) ∧ ∀ h2, P3 h2 → (MO h2 o ∧ (∃ (P7 : Hp → Prop), Ret mX4_bear 2 [vR (some o), vI x2, vI x7, vI x8] h2 0 0 (RV P7) ∧ ∀ h6, P7 h6 → (MO h6 o ∧ AWP mX4_copyPieces 3 9 [vR (some o), vI x1, vI x2, vI x3, vI x4, vI (x5 + nI 1), vI x6, vI x7, vI x8] [] h6 b Q))))))) : AWP mX4_copyPieces 3 65 [vR (some o), vI x1, vI x2, vI x3, vI x4, vI x5, vI x6, vI x7, vI x8] [] h b Q := by
  refine go_aload_n 66 0 dX4_copyPieces_65 rfl rfl rfl ?_
  refine go_iload_n 67 2 dX4_copyPieces_66 rfl rfl rfl ?_
  refine go_iload 69 dX4_copyPieces_67 rfl rfl ?_
  refine go_iload 71 dX4_copyPieces_69 rfl rfl ?_
  refine go_aload_n 72 0 dX4_copyPieces_71 rfl rfl rfl ?_
  refine go_getI 75 dX4_copyPieces_72 rfl (MO_k hM) gfX4_261_5 rfl ?_
  refine go_aload_n 76 0 dX4_copyPieces_75 rfl rfl rfl ?_
  refine go_getRe 79 dX4_copyPieces_76 rfl (MO_k hM) gfX4_26_5 rfl (MO_f1407 hM) ?_
  refine go_iload 81 dX4_copyPieces_79 rfl rfl ?_
  refine go_iaload 82 dX4_copyPieces_81 rfl (MO_k6 hM) vc.1 ?_
  replace vc := vc.2
  refine go_aload_n 83 0 dX4_copyPieces_82 rfl rfl rfl ?_
  refine go_getRe 86 dX4_copyPieces_83 rfl (MO_k hM) gfX4_29_5 rfl (MO_f1408 hM) ?_
  refine go_iload 88 dX4_copyPieces_86 rfl rfl ?_
  refine go_iaload 89 dX4_copyPieces_88 rfl (MO_k7 hM) vc.1 ?_
  replace vc := vc.2
  obtain ⟨P3, hR, vc⟩ := vc
  refine go_callVV (M' := mX4_setPiece) (as := [vI x2, vI x7, vI x8, vI (hFI h 412 o), vI (hAI h (o + 6) (nt x6)), vI (hAI h (o + 7) (nt x6))]) 92 dX4_copyPieces_89 rfl q1757 okX4_setPiece (MO_k hM) ck_4 rfl rfl rfl rfl rfl hR ?_
  intro h2 p1
  replace vc := vc h2 p1
  have hM := vc.1
  replace vc := vc.2
  refine go_aload_n 93 0 dX4_copyPieces_92 rfl rfl rfl ?_
  refine go_iload_n 94 2 dX4_copyPieces_93 rfl rfl rfl ?_
  refine go_iload 96 dX4_copyPieces_94 rfl rfl ?_
  refine go_iload 98 dX4_copyPieces_96 rfl rfl ?_
  obtain ⟨P7, hR, vc⟩ := vc
  refine go_callVV (M' := mX4_bear) (as := [vI x2, vI x7, vI x8]) 101 dX4_copyPieces_98 rfl q1761 okX4_bear (MO_k hM) ck_4 rfl rfl rfl rfl rfl hR ?_
  intro h6 p1
  replace vc := vc h6 p1
  have hM := vc.1
  replace vc := vc.2
  refine go_iinc 104 (x5 + nI 1) [vR (some o), vI x1, vI x2, vI x3, vI x4, vI (x5 + nI 1), vI x6, vI x7, vI x8] dX4_copyPieces_101 rfl rfl (by rfl) rfl rfl ?_
  refine go_goto 9 dX4_copyPieces_104 (by decide) ?_
  exact vc

theorem bX4_join_0 {h : Hp} {b : Nat × Nat} {Q : Rs → Hp → Prop} {o : Nat} {x1 : Int32} {x2 : Int32} {x3 : Int32} {x4 : Int32} {t : St} {g : Nat} (hM : MS h o t g) (vc : ((¬ (isSh t x1) → Q (rI (-1)) h) ∧ ((isSh t x1) → ((¬ (isSh t x2) → Q (rI (-1)) h) ∧ ((isSh t x2) → ((x3 < 0 → Q (rI (-1)) h) ∧ (¬ x3 < 0 → (isSh t x1 ∧ ((¬ (isCo t x1 (x3 / (nI 10))) → Q (rI (-1)) h) ∧ ((isCo t x1 (x3 / (nI 10))) → (isSh t x2 ∧ ((¬ (isCo t x2 (x3 - x3 / (nI 10) * (nI 10))) → Q (rI (-1)) h) ∧ ((isCo t x2 (x3 - x3 / (nI 10) * (nI 10))) → ((¬ (bt x4 1 9) → Q (rI (-1)) h) ∧ ((bt x4 1 9) → (vp_in x1 13 ∧ (nt x1) < ns t ∧ (vp_in x2 13 ∧ (nt x2) < ns t ∧ ((((nI (nc t (nt x1))) + (nI (nc t (nt x2)))) ≤ (nI 6) → (((nI (ns t)) = (nI 12) → Q (rI (-3)) h) ∧ (¬ (nI (ns t)) = (nI 12) → (∃ (P11 : Int32 → Hp → Prop), Ret mX4_piecesOf 2 [vR (some o), vI x1] h 0 0 (RI P11) ∧ ∀ z9 h10, P11 z9 h10 → (∃ t13 g14, MS h10 o t13 g14 ∧ (∃ (P17 : Int32 → Hp → Prop), Ret mX4_piecesOf 2 [vR (some o), vI x2] h10 0 0 (RI P17) ∧ ∀ z15 h16, P17 z15 h16 → (∃ t19 g20, MS h16 o t19 g20 ∧ ((((((nI (nb t)) + z9) + z15) + (nI 1)) ≤ (nI 200) → (∃ (P24 : Hp → Prop), Ret mX4_clear 0 [vR (some o), vI (nI (ns t19))] h16 0 0 (RV P24) ∧ ∀ h23, P24 h23 → (∃ t26 g27, MS h23 o t26 g27 ∧ (vp_in x1 13 ∧ (nt x1) < ns t26 ∧ (vp_in x2 13 ∧ (nt x2) < ns t26 ∧ (vp_in (nI (ns t19)) 13 ∧ (∀ h28, h28 = w1 h23 (o + 1) (nt (nI (ns t19))) ((nI (nc t26 (nt x1))) + (nI (nc t26 (nt x2)))) → (∃ (P31 : Hp → Prop), Ret mX4_copyCorners 0 [vR (some o), vI x1, vI (nI (ns t19)), vI (nI 0)] h28 0 0 (RV P31) ∧ ∀ h30, P31 h30 → (MO h30 o ∧ (vp_in x1 13 ∧ (∃ (P35 : Hp → Prop), Ret mX4_copyCorners 0 [vR (some o), vI x2, vI (nI (ns t19)), vI (hAI h30 (o + 1) (nt x1))] h30 0 0 (RV P35) ∧ ∀ h34, P35 h34 → (MO h34 o ∧ (∃ (P39 : Hp → Prop), Ret mX4_copyPieces 3 [vR (some o), vI x1, vI (nI (ns t19)), vI (nI 0)] h34 0 0 (RV P39) ∧ ∀ h38, P39 h38 → (MO h38 o ∧ (vp_in x1 13 ∧ (∃ (P43 : Hp → Prop), Ret mX4_copyPieces 3 [vR (some o), vI x2, vI (nI (ns t19)), vI (hAI h38 (o + 1) (nt x1))] h38 0 0 (RV P43) ∧ ∀ h42, P43 h42 → (MO h42 o ∧ (vp_in x1 13 ∧ (∃ (P47 : Hp → Prop), Ret mX4_setPiece 1 [vR (some o), vI (nI (ns t19)), vI (x3 / (nI 10)), vI ((hAI h42 (o + 1) (nt x1)) + (x3 - x3 / (nI 10) * (nI 10))), vI (hFI h42 412 o), vI x4, vI (nI 0)] h42 0 0 (RV P47) ∧ ∀ h46, P47 h46 → (MO h46 o ∧ (vp_in x1 13 ∧ (∃ (P51 : Hp → Prop), Ret mX4_bear 2 [vR (some o), vI (nI (ns t19)), vI (x3 / (nI 10)), vI ((hAI h46 (o + 1) (nt x1)) + (x3 - x3 / (nI 10) * (nI 10)))] h46 0 0 (RV P51) ∧ ∀ h50, P51 h50 → (MO h50 o ∧ (vp_in (nI (ns t19)) 12 ∧ (∀ h53, h53 = w1 h50 (o + 9) (nt (nI (ns t19))) x1 → (vp_in (nI (ns t19)) 12 ∧ (∀ h54, h54 = w1 h53 (o + 10) (nt (nI (ns t19))) x2 → (∀ h55, h55 = sFI h54 401 o ((hFI h54 401 o) + (nI 1)) → Q (rI (nI (ns t19))) h55)))))))))))))))))))))))))))) ∧ (¬ ((((nI (nb t)) + z9) + z15) + (nI 1)) ≤ (nI 200) → Q (rI (-3)) h16))))))))) ∧ (¬ ((nI (nc t (nt x1))) + (nI (nc t (nt x2)))) ≤ (nI 6) → Q (rI (-1)) h))))))))))))))))))) : AWP mX4_join 4 0 [vR (some o), vI x1, vI x2, vI x3, vI x4, vU] [] h b Q := by
  refine go_aload_n 1 0 dX4_join_0 rfl rfl rfl ?_
  refine go_iload_n 2 1 dX4_join_1 rfl rfl rfl ?_
  refine go_callVI (M' := mX4_isShape) (as := [vI x1]) 5 dX4_join_2 rfl q1769 okX4_isShape (MO_k hM.1) ck_4 rfl rfl rfl rfl rfl (ctX4_isShape hM) ?_
  intro x0 h0 p0
  rw [p0.1, p0.2]
  refine go_if_eq 8 73 dX4_join_5 rfl (by decide) (fun e1 => ?_) (fun e1 => ?_)
  · replace vc := vc.1 (bI_0.mp e1)
    refine go_iconst (v := (-1)) 74 dX4_join_73 rfl (by decide) ?_
    exact go_ireturn dX4_join_74 rfl vc
  · replace vc := vc.2 (bI_n0.mp e1)
    refine go_aload_n 9 0 dX4_join_8 rfl rfl rfl ?_
    refine go_iload_n 10 2 dX4_join_9 rfl rfl rfl ?_
    refine go_callVI (M' := mX4_isShape) (as := [vI x2]) 13 dX4_join_10 rfl q1769 okX4_isShape (MO_k hM.1) ck_4 rfl rfl rfl rfl rfl (ctX4_isShape hM) ?_
    intro x0 h0 p0
    rw [p0.1, p0.2]
    refine go_if_eq 16 73 dX4_join_13 rfl (by decide) (fun e2 => ?_) (fun e2 => ?_)
    · replace vc := vc.1 (bI_0.mp e2)
      refine go_iconst (v := (-1)) 74 dX4_join_73 rfl (by decide) ?_
      exact go_ireturn dX4_join_74 rfl vc
    · replace vc := vc.2 (bI_n0.mp e2)
      refine go_iload_n 17 3 dX4_join_16 rfl rfl rfl ?_
      refine go_if_lt 20 73 dX4_join_17 rfl (by decide) (fun e3 => ?_) (fun e3 => ?_)
      · replace vc := vc.1 e3
        refine go_iconst (v := (-1)) 74 dX4_join_73 rfl (by decide) ?_
        exact go_ireturn dX4_join_74 rfl vc
      · replace vc := vc.2 e3
        refine go_aload_n 21 0 dX4_join_20 rfl rfl rfl ?_
        refine go_iload_n 22 1 dX4_join_21 rfl rfl rfl ?_
        refine go_iload_n 23 3 dX4_join_22 rfl rfl rfl ?_
        refine go_bipush (v := nI 10) 25 dX4_join_23 rfl (by decide) ?_
        refine go_idiv 26 dX4_join_25 rfl (by decide) ?_
        refine go_callVI (M' := mX4_isCorner) (as := [vI x1, vI (x3 / (nI 10))]) 29 dX4_join_26 rfl q1746 okX4_isCorner (MO_k hM.1) ck_4 rfl rfl rfl rfl rfl (ctX4_isCorner hM vc.1) ?_
        replace vc := vc.2
        intro x0 h0 p0
        rw [p0.1, p0.2]
        refine go_if_eq 32 73 dX4_join_29 rfl (by decide) (fun e4 => ?_) (fun e4 => ?_)
        · replace vc := vc.1 (bI_0.mp e4)
          refine go_iconst (v := (-1)) 74 dX4_join_73 rfl (by decide) ?_
          exact go_ireturn dX4_join_74 rfl vc
        · replace vc := vc.2 (bI_n0.mp e4)
          refine go_aload_n 33 0 dX4_join_32 rfl rfl rfl ?_
          refine go_iload_n 34 2 dX4_join_33 rfl rfl rfl ?_
          refine go_iload_n 35 3 dX4_join_34 rfl rfl rfl ?_
          refine go_bipush (v := nI 10) 37 dX4_join_35 rfl (by decide) ?_
          refine go_irem 38 dX4_join_37 rfl (by decide) ?_
          refine go_callVI (M' := mX4_isCorner) (as := [vI x2, vI (x3 - x3 / (nI 10) * (nI 10))]) 41 dX4_join_38 rfl q1746 okX4_isCorner (MO_k hM.1) ck_4 rfl rfl rfl rfl rfl (ctX4_isCorner hM vc.1) ?_
          replace vc := vc.2
          intro x0 h0 p0
          rw [p0.1, p0.2]
          refine go_if_eq 44 73 dX4_join_41 rfl (by decide) (fun e5 => ?_) (fun e5 => ?_)
          · replace vc := vc.1 (bI_0.mp e5)
            refine go_iconst (v := (-1)) 74 dX4_join_73 rfl (by decide) ?_
            exact go_ireturn dX4_join_74 rfl vc
          · replace vc := vc.2 (bI_n0.mp e5)
            refine go_iload 46 dX4_join_44 rfl rfl ?_
            refine go_iconst (v := nI 1) 47 dX4_join_46 rfl (by decide) ?_
            refine go_bipush (v := nI 9) 49 dX4_join_47 rfl (by decide) ?_
            refine go_callSI (M' := mX4_in) (as := [vI x4, vI (nI 1), vI (nI 9)]) 52 dX4_join_49 rfl q1703 okX4_in rfl rfl rfl rfl rfl (ctX4_inL rfl rfl) ?_
            intro x0 h0 p0
            rw [p0.1, p0.2]
            refine go_if_eq 55 73 dX4_join_52 rfl (by decide) (fun e6 => ?_) (fun e6 => ?_)
            · replace vc := vc.1 (bI_0.mp e6)
              refine go_iconst (v := (-1)) 74 dX4_join_73 rfl (by decide) ?_
              exact go_ireturn dX4_join_74 rfl vc
            · replace vc := vc.2 (bI_n0.mp e6)
              refine go_aload_n 56 0 dX4_join_55 rfl rfl rfl ?_
              refine go_getRe 59 dX4_join_56 rfl (MO_k hM.1) gfX4_7_5 rfl (MO_f1402 hM.1) ?_
              refine go_iload_n 60 1 dX4_join_59 rfl rfl rfl ?_
              refine go_iaload 61 dX4_join_60 rfl (MO_k1 hM.1) vc.1 ?_
              replace vc := vc.2
              rw [hM.a1 vc.1]
              replace vc := vc.2
              refine go_aload_n 62 0 dX4_join_61 rfl rfl rfl ?_
              refine go_getRe 65 dX4_join_62 rfl (MO_k hM.1) gfX4_7_5 rfl (MO_f1402 hM.1) ?_
              refine go_iload_n 66 2 dX4_join_65 rfl rfl rfl ?_
              refine go_iaload 67 dX4_join_66 rfl (MO_k1 hM.1) vc.1 ?_
              replace vc := vc.2
              rw [hM.a1 vc.1]
              replace vc := vc.2
              refine go_iadd 68 dX4_join_67 rfl ?_
              refine go_bipush (v := nI 6) 70 dX4_join_68 rfl (by decide) ?_
              refine go_icmp_le 73 75 dX4_join_70 rfl (by decide) (fun e7 => ?_) (fun e7 => ?_)
              · replace vc := vc.1 e7
                refine go_aload_n 76 0 dX4_join_75 rfl rfl rfl ?_
                refine go_getI 79 dX4_join_76 rfl (MO_k hM.1) gfX4_200_5 rfl ?_
                rw [hM.f401]
                refine go_bipush (v := nI 12) 81 dX4_join_79 rfl (by decide) ?_
                refine go_icmp_eq 84 108 dX4_join_81 rfl (by decide) (fun e8 => ?_) (fun e8 => ?_)
                · replace vc := vc.1 e8
                  refine go_bipush (v := (-3)) 110 dX4_join_108 rfl (by decide) ?_
                  exact go_ireturn dX4_join_110 rfl vc
                · replace vc := vc.2 e8
                  refine go_aload_n 85 0 dX4_join_84 rfl rfl rfl ?_
                  refine go_getI 88 dX4_join_85 rfl (MO_k hM.1) gfX4_261_5 rfl ?_
                  rw [hM.f412]
                  refine go_aload_n 89 0 dX4_join_88 rfl rfl rfl ?_
                  refine go_iload_n 90 1 dX4_join_89 rfl rfl rfl ?_
                  obtain ⟨P11, hR, vc⟩ := vc
                  refine go_callVI (M' := mX4_piecesOf) (as := [vI x1]) 93 dX4_join_90 rfl q1774 okX4_piecesOf (MO_k hM.1) ck_4 rfl rfl rfl rfl rfl hR ?_
                  intro z9 h10 p1
                  replace vc := vc z9 h10 p1
                  obtain ⟨t13, g14, hM, vc⟩ := vc
                  refine go_iadd 94 dX4_join_93 rfl ?_
                  refine go_aload_n 95 0 dX4_join_94 rfl rfl rfl ?_
                  refine go_iload_n 96 2 dX4_join_95 rfl rfl rfl ?_
                  obtain ⟨P17, hR, vc⟩ := vc
                  refine go_callVI (M' := mX4_piecesOf) (as := [vI x2]) 99 dX4_join_96 rfl q1774 okX4_piecesOf (MO_k hM.1) ck_4 rfl rfl rfl rfl rfl hR ?_
                  intro z15 h16 p1
                  replace vc := vc z15 h16 p1
                  obtain ⟨t19, g20, hM, vc⟩ := vc
                  refine go_iadd 100 dX4_join_99 rfl ?_
                  refine go_iconst (v := nI 1) 101 dX4_join_100 rfl (by decide) ?_
                  refine go_iadd 102 dX4_join_101 rfl ?_
                  refine go_sipush (v := nI 200) 105 dX4_join_102 rfl (by decide) ?_
                  refine go_icmp_le 108 111 dX4_join_105 rfl (by decide) (fun e21 => ?_) (fun e21 => ?_)
                  · replace vc := vc.1 e21
                    refine go_aload_n 112 0 dX4_join_111 rfl rfl rfl ?_
                    refine go_getI 115 dX4_join_112 rfl (MO_k hM.1) gfX4_200_5 rfl ?_
                    rw [hM.f401]
                    refine go_istore 117 [vR (some o), vI x1, vI x2, vI x3, vI x4, vI (nI (ns t19))] dX4_join_115 rfl rfl rfl ?_
                    refine go_aload_n 118 0 dX4_join_117 rfl rfl rfl ?_
                    refine go_iload 120 dX4_join_118 rfl rfl ?_
                    obtain ⟨P24, hR, vc⟩ := vc
                    refine go_callVV (M' := mX4_clear) (as := [vI (nI (ns t19))]) 123 dX4_join_120 rfl q1714 okX4_clear (MO_k hM.1) ck_4 rfl rfl rfl rfl rfl hR ?_
                    intro h23 p1
                    replace vc := vc h23 p1
                    obtain ⟨t26, g27, hM, vc⟩ := vc
                    refine go_aload_n 124 0 dX4_join_123 rfl rfl rfl ?_
                    refine go_getRe 127 dX4_join_124 rfl (MO_k hM.1) gfX4_7_5 rfl (MO_f1402 hM.1) ?_
                    refine go_iload 129 dX4_join_127 rfl rfl ?_
                    refine go_aload_n 130 0 dX4_join_129 rfl rfl rfl ?_
                    refine go_getRe 133 dX4_join_130 rfl (MO_k hM.1) gfX4_7_5 rfl (MO_f1402 hM.1) ?_
                    refine go_iload_n 134 1 dX4_join_133 rfl rfl rfl ?_
                    refine go_iaload 135 dX4_join_134 rfl (MO_k1 hM.1) vc.1 ?_
                    replace vc := vc.2
                    rw [hM.a1 vc.1]
                    replace vc := vc.2
                    refine go_aload_n 136 0 dX4_join_135 rfl rfl rfl ?_
                    refine go_getRe 139 dX4_join_136 rfl (MO_k hM.1) gfX4_7_5 rfl (MO_f1402 hM.1) ?_
                    refine go_iload_n 140 2 dX4_join_139 rfl rfl rfl ?_
                    refine go_iaload 141 dX4_join_140 rfl (MO_k1 hM.1) vc.1 ?_
                    replace vc := vc.2
                    rw [hM.a1 vc.1]
                    replace vc := vc.2
                    refine go_iadd 142 dX4_join_141 rfl ?_
                    refine go_iastore 143 dX4_join_142 rfl (MO_k1 hM.1) vc.1 ?_
                    replace vc := vc.2
                    refine AWP.nm fun h28 eh28 => ?_
                    replace vc := vc h28 eh28
                    have hM : MO h28 o := by rw [eh28]; exact hM.1
                    refine go_aload_n 144 0 dX4_join_143 rfl rfl rfl ?_
                    refine go_iload_n 145 1 dX4_join_144 rfl rfl rfl ?_
                    refine go_iload 147 dX4_join_145 rfl rfl ?_
                    refine go_iconst (v := nI 0) 148 dX4_join_147 rfl (by decide) ?_
                    obtain ⟨P31, hR, vc⟩ := vc
                    refine go_callVV (M' := mX4_copyCorners) (as := [vI x1, vI (nI (ns t19)), vI (nI 0)]) 151 dX4_join_148 rfl q2122 okX4_copyCorners (MO_k hM) ck_4 rfl rfl rfl rfl rfl hR ?_
                    intro h30 p1
                    replace vc := vc h30 p1
                    have hM := vc.1
                    replace vc := vc.2
                    refine go_aload_n 152 0 dX4_join_151 rfl rfl rfl ?_
                    refine go_iload_n 153 2 dX4_join_152 rfl rfl rfl ?_
                    refine go_iload 155 dX4_join_153 rfl rfl ?_
                    refine go_aload_n 156 0 dX4_join_155 rfl rfl rfl ?_
                    refine go_getRe 159 dX4_join_156 rfl (MO_k hM) gfX4_7_5 rfl (MO_f1402 hM) ?_
                    refine go_iload_n 160 1 dX4_join_159 rfl rfl rfl ?_
                    refine go_iaload 161 dX4_join_160 rfl (MO_k1 hM) vc.1 ?_
                    replace vc := vc.2
                    obtain ⟨P35, hR, vc⟩ := vc
                    refine go_callVV (M' := mX4_copyCorners) (as := [vI x2, vI (nI (ns t19)), vI (hAI h30 (o + 1) (nt x1))]) 164 dX4_join_161 rfl q2122 okX4_copyCorners (MO_k hM) ck_4 rfl rfl rfl rfl rfl hR ?_
                    intro h34 p1
                    replace vc := vc h34 p1
                    have hM := vc.1
                    replace vc := vc.2
                    refine go_aload_n 165 0 dX4_join_164 rfl rfl rfl ?_
                    refine go_iload_n 166 1 dX4_join_165 rfl rfl rfl ?_
                    refine go_iload 168 dX4_join_166 rfl rfl ?_
                    refine go_iconst (v := nI 0) 169 dX4_join_168 rfl (by decide) ?_
                    obtain ⟨P39, hR, vc⟩ := vc
                    refine go_callVV (M' := mX4_copyPieces) (as := [vI x1, vI (nI (ns t19)), vI (nI 0)]) 172 dX4_join_169 rfl q2126 okX4_copyPieces (MO_k hM) ck_4 rfl rfl rfl rfl rfl hR ?_
                    intro h38 p1
                    replace vc := vc h38 p1
                    have hM := vc.1
                    replace vc := vc.2
                    refine go_aload_n 173 0 dX4_join_172 rfl rfl rfl ?_
                    refine go_iload_n 174 2 dX4_join_173 rfl rfl rfl ?_
                    refine go_iload 176 dX4_join_174 rfl rfl ?_
                    refine go_aload_n 177 0 dX4_join_176 rfl rfl rfl ?_
                    refine go_getRe 180 dX4_join_177 rfl (MO_k hM) gfX4_7_5 rfl (MO_f1402 hM) ?_
                    refine go_iload_n 181 1 dX4_join_180 rfl rfl rfl ?_
                    refine go_iaload 182 dX4_join_181 rfl (MO_k1 hM) vc.1 ?_
                    replace vc := vc.2
                    obtain ⟨P43, hR, vc⟩ := vc
                    refine go_callVV (M' := mX4_copyPieces) (as := [vI x2, vI (nI (ns t19)), vI (hAI h38 (o + 1) (nt x1))]) 185 dX4_join_182 rfl q2126 okX4_copyPieces (MO_k hM) ck_4 rfl rfl rfl rfl rfl hR ?_
                    intro h42 p1
                    replace vc := vc h42 p1
                    have hM := vc.1
                    replace vc := vc.2
                    refine go_aload_n 186 0 dX4_join_185 rfl rfl rfl ?_
                    refine go_iload 188 dX4_join_186 rfl rfl ?_
                    refine go_iload_n 189 3 dX4_join_188 rfl rfl rfl ?_
                    refine go_bipush (v := nI 10) 191 dX4_join_189 rfl (by decide) ?_
                    refine go_idiv 192 dX4_join_191 rfl (by decide) ?_
                    refine go_aload_n 193 0 dX4_join_192 rfl rfl rfl ?_
                    refine go_getRe 196 dX4_join_193 rfl (MO_k hM) gfX4_7_5 rfl (MO_f1402 hM) ?_
                    refine go_iload_n 197 1 dX4_join_196 rfl rfl rfl ?_
                    refine go_iaload 198 dX4_join_197 rfl (MO_k1 hM) vc.1 ?_
                    replace vc := vc.2
                    refine go_iload_n 199 3 dX4_join_198 rfl rfl rfl ?_
                    refine go_bipush (v := nI 10) 201 dX4_join_199 rfl (by decide) ?_
                    refine go_irem 202 dX4_join_201 rfl (by decide) ?_
                    refine go_iadd 203 dX4_join_202 rfl ?_
                    refine go_aload_n 204 0 dX4_join_203 rfl rfl rfl ?_
                    refine go_getI 207 dX4_join_204 rfl (MO_k hM) gfX4_261_5 rfl ?_
                    refine go_iload 209 dX4_join_207 rfl rfl ?_
                    refine go_iconst (v := nI 0) 210 dX4_join_209 rfl (by decide) ?_
                    obtain ⟨P47, hR, vc⟩ := vc
                    refine go_callVV (M' := mX4_setPiece) (as := [vI (nI (ns t19)), vI (x3 / (nI 10)), vI ((hAI h42 (o + 1) (nt x1)) + (x3 - x3 / (nI 10) * (nI 10))), vI (hFI h42 412 o), vI x4, vI (nI 0)]) 213 dX4_join_210 rfl q1757 okX4_setPiece (MO_k hM) ck_4 rfl rfl rfl rfl rfl hR ?_
                    intro h46 p1
                    replace vc := vc h46 p1
                    have hM := vc.1
                    replace vc := vc.2
                    refine go_aload_n 214 0 dX4_join_213 rfl rfl rfl ?_
                    refine go_iload 216 dX4_join_214 rfl rfl ?_
                    refine go_iload_n 217 3 dX4_join_216 rfl rfl rfl ?_
                    refine go_bipush (v := nI 10) 219 dX4_join_217 rfl (by decide) ?_
                    refine go_idiv 220 dX4_join_219 rfl (by decide) ?_
                    refine go_aload_n 221 0 dX4_join_220 rfl rfl rfl ?_
                    refine go_getRe 224 dX4_join_221 rfl (MO_k hM) gfX4_7_5 rfl (MO_f1402 hM) ?_
                    refine go_iload_n 225 1 dX4_join_224 rfl rfl rfl ?_
                    refine go_iaload 226 dX4_join_225 rfl (MO_k1 hM) vc.1 ?_
                    replace vc := vc.2
                    refine go_iload_n 227 3 dX4_join_226 rfl rfl rfl ?_
                    refine go_bipush (v := nI 10) 229 dX4_join_227 rfl (by decide) ?_
                    refine go_irem 230 dX4_join_229 rfl (by decide) ?_
                    refine go_iadd 231 dX4_join_230 rfl ?_
                    obtain ⟨P51, hR, vc⟩ := vc
                    refine go_callVV (M' := mX4_bear) (as := [vI (nI (ns t19)), vI (x3 / (nI 10)), vI ((hAI h46 (o + 1) (nt x1)) + (x3 - x3 / (nI 10) * (nI 10)))]) 234 dX4_join_231 rfl q1761 okX4_bear (MO_k hM) ck_4 rfl rfl rfl rfl rfl hR ?_
                    intro h50 p1
                    replace vc := vc h50 p1
                    have hM := vc.1
                    replace vc := vc.2
                    refine go_aload_n 235 0 dX4_join_234 rfl rfl rfl ?_
                    refine go_getRe 238 dX4_join_235 rfl (MO_k hM) gfX4_35_5 rfl (MO_f1410 hM) ?_
                    refine go_iload 240 dX4_join_238 rfl rfl ?_
                    refine go_iload_n 241 1 dX4_join_240 rfl rfl rfl ?_
                    refine go_iastore 242 dX4_join_241 rfl (MO_k9 hM) vc.1 ?_
                    replace vc := vc.2
                    refine AWP.nm fun h53 eh53 => ?_
                    replace vc := vc h53 eh53
                    have hM : MO h53 o := by rw [eh53]; exact hM
                    refine go_aload_n 243 0 dX4_join_242 rfl rfl rfl ?_
                    refine go_getRe 246 dX4_join_243 rfl (MO_k hM) gfX4_38_5 rfl (MO_f1411 hM) ?_
                    refine go_iload 248 dX4_join_246 rfl rfl ?_
                    refine go_iload_n 249 2 dX4_join_248 rfl rfl rfl ?_
                    refine go_iastore 250 dX4_join_249 rfl (MO_k10 hM) vc.1 ?_
                    replace vc := vc.2
                    refine AWP.nm fun h54 eh54 => ?_
                    replace vc := vc h54 eh54
                    have hM : MO h54 o := by rw [eh54]; exact hM
                    refine go_aload_n 251 0 dX4_join_250 rfl rfl rfl ?_
                    refine go_dup 252 dX4_join_251 rfl rfl ?_
                    refine go_getI 255 dX4_join_252 rfl (MO_k hM) gfX4_200_5 rfl ?_
                    refine go_iconst (v := nI 1) 256 dX4_join_255 rfl (by decide) ?_
                    refine go_iadd 257 dX4_join_256 rfl ?_
                    refine go_putI 260 dX4_join_257 rfl (MO_k hM) (gpX4_200_5 _) rfl ?_
                    refine AWP.nm fun h55 eh55 => ?_
                    replace vc := vc h55 eh55
                    have hM : MO h55 o := by rw [eh55]; exact hM
                    refine go_iload 262 dX4_join_260 rfl rfl ?_
                    exact go_ireturn dX4_join_262 rfl vc
                  · replace vc := vc.2 e21
                    refine go_bipush (v := (-3)) 110 dX4_join_108 rfl (by decide) ?_
                    exact go_ireturn dX4_join_110 rfl vc
              · replace vc := vc.2 e7
                refine go_iconst (v := (-1)) 74 dX4_join_73 rfl (by decide) ?_
                exact go_ireturn dX4_join_74 rfl vc
