theorem bX4_take_0 {h : Hp} {b : Nat × Nat} {Q : Rs → Hp → Prop} {o : Nat} {x1 : Int32} {t : St} {g : Nat} (hM : MS h o t g) (vc : (vp_in x1 13 ∧ (nt x1) < ns t ∧ (∀ h1, h1 = sFI h 435 o (nI (nc t (nt x1))) → AWP mX4_take 2 12 [vR (some o), vI x1, vI (nI 0), vU] [] h1 b Q))) : AWP mX4_take 2 0 [vR (some o), vI x1, vU, vU] [] h b Q := by
  refine go_aload_n 1 0 dX4_take_0 rfl rfl rfl ?_
  refine go_aload_n 2 0 dX4_take_1 rfl rfl rfl ?_
  refine go_getRe 5 dX4_take_2 rfl (MO_k hM.1) gfX4_7_5 rfl (MO_f1402 hM.1) ?_
  refine go_iload_n 6 1 dX4_take_5 rfl rfl rfl ?_
  refine go_iaload 7 dX4_take_6 rfl (MO_k1 hM.1) vc.1 ?_
  replace vc := vc.2
  rw [hM.a1 vc.1]
  replace vc := vc.2
  refine go_putI 10 dX4_take_7 rfl (MO_k hM.1) (gpX4_307_5 _) rfl ?_
  refine AWP.nm fun h1 eh1 => ?_
  replace vc := vc h1 eh1
  have hM : MS h1 o t g := by rw [eh1]; exact hM.fr (PE.F rfl)
  refine go_iconst (v := nI 0) 11 dX4_take_10 rfl (by decide) ?_
  refine go_istore_n 12 2 [vR (some o), vI x1, vI (nI 0), vU] dX4_take_11 rfl rfl rfl rfl ?_
  exact vc

theorem bX4_take_12 {h : Hp} {b : Nat × Nat} {Q : Rs → Hp → Prop} {o : Nat} {x1 : Int32} {x2 : Int32} {y3 : AV} {t : St} {g : Nat} (hM : MS h o t g) (vc : (((hFI h 435 o) ≤ x2 → Q rV h) ∧ (¬ (hFI h 435 o) ≤ x2 → (vp_in (((nI 6) * x1) + x2) 78 ∧ (nt (((nI 6) * x1) + x2)) < 6 * ns t ∧ (vp_in (((nI 6) * x1) + x2) 78 ∧ (nt (((nI 6) * x1) + x2)) < 6 * ns t ∧ (vp_in x2 6 ∧ (∀ h2, h2 = w1 h (o + 23) (nt x2) (massO (hv t (nt (((nI 6) * x1) + x2))) (wg t (nt (((nI 6) * x1) + x2)))) → (vp_in (((nI 6) * x1) + x2) 78 ∧ (nt (((nI 6) * x1) + x2)) < 6 * ns t ∧ (vp_in x2 6 ∧ (∀ h3, h3 = w1 h2 (o + 24) (nt x2) (pd t (nt (((nI 6) * x1) + x2))) → (vp_in (((nI 6) * x1) + x2) 78 ∧ (nt (((nI 6) * x1) + x2)) < 6 * ns t ∧ (vp_in x2 6 ∧ (∀ h4, h4 = w1 h3 (o + 25) (nt x2) (vp_nar .boolean (hl t (nt (((nI 6) * x1) + x2)))) → AWP mX4_take 2 87 [vR (some o), vI x1, vI x2, vI (nI 0)] [] h4 b Q))))))))))))) : AWP mX4_take 2 12 [vR (some o), vI x1, vI x2, y3] [] h b Q := by
  refine go_iload_n 13 2 dX4_take_12 rfl rfl rfl ?_
  refine go_aload_n 14 0 dX4_take_13 rfl rfl rfl ?_
  refine go_getI 17 dX4_take_14 rfl (MO_k hM.1) gfX4_307_5 rfl ?_
  refine go_icmp_ge 20 155 dX4_take_17 rfl (by decide) (fun e1 => ?_) (fun e1 => ?_)
  · replace vc := vc.1 e1
    exact go_return dX4_take_155 rfl vc
  · replace vc := vc.2 e1
    refine go_aload_n 21 0 dX4_take_20 rfl rfl rfl ?_
    refine go_getRe 24 dX4_take_21 rfl (MO_k hM.1) gfX4_78_5 rfl (MO_f1431 hM.1) ?_
    refine go_iload_n 25 2 dX4_take_24 rfl rfl rfl ?_
    refine go_aload_n 26 0 dX4_take_25 rfl rfl rfl ?_
    refine go_getRe 29 dX4_take_26 rfl (MO_k hM.1) gfX4_13_5 rfl (MO_f1403 hM.1) ?_
    refine go_bipush (v := nI 6) 31 dX4_take_29 rfl (by decide) ?_
    refine go_iload_n 32 1 dX4_take_31 rfl rfl rfl ?_
    refine go_imul 33 dX4_take_32 rfl ?_
    refine go_iload_n 34 2 dX4_take_33 rfl rfl rfl ?_
    refine go_iadd 35 dX4_take_34 rfl ?_
    refine go_iaload 36 dX4_take_35 rfl (MO_k2 hM.1) vc.1 ?_
    replace vc := vc.2
    rw [hM.a2 vc.1]
    replace vc := vc.2
    refine go_aload_n 37 0 dX4_take_36 rfl rfl rfl ?_
    refine go_getRe 40 dX4_take_37 rfl (MO_k hM.1) gfX4_19_5 rfl (MO_f1405 hM.1) ?_
    refine go_bipush (v := nI 6) 42 dX4_take_40 rfl (by decide) ?_
    refine go_iload_n 43 1 dX4_take_42 rfl rfl rfl ?_
    refine go_imul 44 dX4_take_43 rfl ?_
    refine go_iload_n 45 2 dX4_take_44 rfl rfl rfl ?_
    refine go_iadd 46 dX4_take_45 rfl ?_
    refine go_iaload 47 dX4_take_46 rfl (MO_k4 hM.1) vc.1 ?_
    replace vc := vc.2
    rw [hM.a4 vc.1]
    replace vc := vc.2
    refine go_callSI (M' := mX4_massOf) (as := [vI (hv t (nt (((nI 6) * x1) + x2))), vI (wg t (nt (((nI 6) * x1) + x2)))]) 50 dX4_take_47 rfl q1839 okX4_massOf rfl rfl rfl rfl rfl (ctX4_massOf) ?_
    intro x0 h0 p0
    rw [p0.1, p0.2]
    refine go_iastore 51 dX4_take_50 rfl (MO_k23 hM.1) vc.1 ?_
    replace vc := vc.2
    refine AWP.nm fun h2 eh2 => ?_
    replace vc := vc h2 eh2
    have hM : MS h2 o t g := by rw [eh2]; exact hM.fr (PE.A rfl)
    refine go_aload_n 52 0 dX4_take_51 rfl rfl rfl ?_
    refine go_getRe 55 dX4_take_52 rfl (MO_k hM.1) gfX4_81_5 rfl (MO_f1432 hM.1) ?_
    refine go_iload_n 56 2 dX4_take_55 rfl rfl rfl ?_
    refine go_aload_n 57 0 dX4_take_56 rfl rfl rfl ?_
    refine go_getRe 60 dX4_take_57 rfl (MO_k hM.1) gfX4_16_5 rfl (MO_f1404 hM.1) ?_
    refine go_bipush (v := nI 6) 62 dX4_take_60 rfl (by decide) ?_
    refine go_iload_n 63 1 dX4_take_62 rfl rfl rfl ?_
    refine go_imul 64 dX4_take_63 rfl ?_
    refine go_iload_n 65 2 dX4_take_64 rfl rfl rfl ?_
    refine go_iadd 66 dX4_take_65 rfl ?_
    refine go_iaload 67 dX4_take_66 rfl (MO_k3 hM.1) vc.1 ?_
    replace vc := vc.2
    rw [hM.a3 vc.1]
    replace vc := vc.2
    refine go_iastore 68 dX4_take_67 rfl (MO_k24 hM.1) vc.1 ?_
    replace vc := vc.2
    refine AWP.nm fun h3 eh3 => ?_
    replace vc := vc h3 eh3
    have hM : MS h3 o t g := by rw [eh3]; exact hM.fr (PE.A rfl)
    refine go_aload_n 69 0 dX4_take_68 rfl rfl rfl ?_
    refine go_getRe 72 dX4_take_69 rfl (MO_k hM.1) gfX4_84_5 rfl (MO_f1433 hM.1) ?_
    refine go_iload_n 73 2 dX4_take_72 rfl rfl rfl ?_
    refine go_aload_n 74 0 dX4_take_73 rfl rfl rfl ?_
    refine go_getRe 77 dX4_take_74 rfl (MO_k hM.1) gfX4_22_5 rfl (MO_f1406 hM.1) ?_
    refine go_bipush (v := nI 6) 79 dX4_take_77 rfl (by decide) ?_
    refine go_iload_n 80 1 dX4_take_79 rfl rfl rfl ?_
    refine go_imul 81 dX4_take_80 rfl ?_
    refine go_iload_n 82 2 dX4_take_81 rfl rfl rfl ?_
    refine go_iadd 83 dX4_take_82 rfl ?_
    refine go_baloadZ 84 dX4_take_83 rfl (MO_k5 hM.1) vc.1 ?_
    replace vc := vc.2
    rw [hM.a5 vc.1]
    replace vc := vc.2
    refine go_bastoreZ 85 dX4_take_84 rfl (MO_k25 hM.1) vc.1 ?_
    replace vc := vc.2
    refine AWP.nm fun h4 eh4 => ?_
    replace vc := vc h4 eh4
    have hM : MS h4 o t g := by rw [eh4]; exact hM.fr (PE.A rfl)
    refine go_iconst (v := nI 0) 86 dX4_take_85 rfl (by decide) ?_
    refine go_istore_n 87 3 [vR (some o), vI x1, vI x2, vI (nI 0)] dX4_take_86 rfl rfl rfl rfl ?_
    exact vc

theorem bX4_take_87 {h : Hp} {b : Nat × Nat} {Q : Rs → Hp → Prop} {o : Nat} {x1 : Int32} {x2 : Int32} {x3 : Int32} {t : St} {g : Nat} (hM : MS h o t g) (vc : (((hFI h 435 o) ≤ x3 → AWP mX4_take 2 12 [vR (some o), vI x1, vI (x2 + nI 1), vI x3] [] h b Q) ∧ (¬ (hFI h 435 o) ≤ x3 → ((isSh t x1 ∧ bt x2 0 5 ∧ bt x3 0 5) ∧ ((¬ (has t (nt x1) (nt x2) (nt x3) = true) → (vp_in (((nI 6) * x2) + x3) 36 ∧ (∀ h3, h3 = w1 h (o + 26) (nt (((nI 6) * x2) + x3)) (nI 0) → AWP mX4_take 2 87 [vR (some o), vI x1, vI x2, vI (x3 + nI 1)] [] h3 b Q))) ∧ ((has t (nt x1) (nt x2) (nt x3) = true) → (vp_in (nI 36 * x1 + nI 6 * x2 + x3) 468 ∧ (nt (nI 36 * x1 + nI 6 * x2 + x3)) < 36 * ns t ∧ (vp_in (nI 36 * x1 + nI 6 * x2 + x3) 468 ∧ (nt (nI 36 * x1 + nI 6 * x2 + x3)) < 36 * ns t ∧ (vp_in (((nI 6) * x2) + x3) 36 ∧ (∀ h4, h4 = w1 h (o + 26) (nt (((nI 6) * x2) + x3)) ((sf t (nt (nI 36 * x1 + nI 6 * x2 + x3))) - (ck t (nt (nI 36 * x1 + nI 6 * x2 + x3)))) → AWP mX4_take 2 87 [vR (some o), vI x1, vI x2, vI (x3 + nI 1)] [] h4 b Q)))))))))) : AWP mX4_take 2 87 [vR (some o), vI x1, vI x2, vI x3] [] h b Q := by
  refine go_iload_n 88 3 dX4_take_87 rfl rfl rfl ?_
  refine go_aload_n 89 0 dX4_take_88 rfl rfl rfl ?_
  refine go_getI 92 dX4_take_89 rfl (MO_k hM.1) gfX4_307_5 rfl ?_
  refine go_icmp_ge 95 149 dX4_take_92 rfl (by decide) (fun e1 => ?_) (fun e1 => ?_)
  · replace vc := vc.1 e1
    refine go_iinc 152 (x2 + nI 1) [vR (some o), vI x1, vI (x2 + nI 1), vI x3] dX4_take_149 rfl rfl (by rfl) rfl rfl ?_
    refine go_goto 12 dX4_take_152 (by decide) ?_
    exact vc
  · replace vc := vc.2 e1
    refine go_aload_n 96 0 dX4_take_95 rfl rfl rfl ?_
    refine go_getRe 99 dX4_take_96 rfl (MO_k hM.1) gfX4_87_5 rfl (MO_f1434 hM.1) ?_
    refine go_bipush (v := nI 6) 101 dX4_take_99 rfl (by decide) ?_
    refine go_iload_n 102 2 dX4_take_101 rfl rfl rfl ?_
    refine go_imul 103 dX4_take_102 rfl ?_
    refine go_iload_n 104 3 dX4_take_103 rfl rfl rfl ?_
    refine go_iadd 105 dX4_take_104 rfl ?_
    refine go_aload_n 106 0 dX4_take_105 rfl rfl rfl ?_
    refine go_iload_n 107 1 dX4_take_106 rfl rfl rfl ?_
    refine go_iload_n 108 2 dX4_take_107 rfl rfl rfl ?_
    refine go_iload_n 109 3 dX4_take_108 rfl rfl rfl ?_
    refine go_callVI (M' := mX4_hasPiece) (as := [vI x1, vI x2, vI x3]) 112 dX4_take_109 rfl q1750 okX4_hasPiece (MO_k hM.1) ck_4 rfl rfl rfl rfl rfl (ctX4_hasPiece hM vc.1) ?_
    replace vc := vc.2
    intro x0 h0 p0
    rw [p0.1, p0.2]
    refine go_if_eq 115 141 dX4_take_112 rfl (by decide) (fun e2 => ?_) (fun e2 => ?_)
    · replace vc := vc.1 (bI_0.mp e2)
      refine go_iconst (v := nI 0) 142 dX4_take_141 rfl (by decide) ?_
      refine go_iastore 143 dX4_take_142 rfl (MO_k26 hM.1) vc.1 ?_
      replace vc := vc.2
      refine AWP.nm fun h3 eh3 => ?_
      replace vc := vc h3 eh3
      have hM : MS h3 o t g := by rw [eh3]; exact hM.fr (PE.A rfl)
      refine go_iinc 146 (x3 + nI 1) [vR (some o), vI x1, vI x2, vI (x3 + nI 1)] dX4_take_143 rfl rfl (by rfl) rfl rfl ?_
      refine go_goto 87 dX4_take_146 (by decide) ?_
      exact vc
    · replace vc := vc.2 (bI_n0.mp e2)
      refine go_aload_n 116 0 dX4_take_115 rfl rfl rfl ?_
      refine go_getRe 119 dX4_take_116 rfl (MO_k hM.1) gfX4_26_5 rfl (MO_f1407 hM.1) ?_
      refine go_iload_n 120 1 dX4_take_119 rfl rfl rfl ?_
      refine go_iload_n 121 2 dX4_take_120 rfl rfl rfl ?_
      refine go_iload_n 122 3 dX4_take_121 rfl rfl rfl ?_
      refine go_callSI (M' := mX4_at) (as := [vI x1, vI x2, vI x3]) 125 dX4_take_122 rfl q1754 okX4_at rfl rfl rfl rfl rfl (ctX4_at) ?_
      intro x0 h0 p0
      rw [p0.1, p0.2]
      refine go_iaload 126 dX4_take_125 rfl (MO_k6 hM.1) vc.1 ?_
      replace vc := vc.2
      rw [hM.a6 vc.1]
      replace vc := vc.2
      refine go_aload_n 127 0 dX4_take_126 rfl rfl rfl ?_
      refine go_getRe 130 dX4_take_127 rfl (MO_k hM.1) gfX4_29_5 rfl (MO_f1408 hM.1) ?_
      refine go_iload_n 131 1 dX4_take_130 rfl rfl rfl ?_
      refine go_iload_n 132 2 dX4_take_131 rfl rfl rfl ?_
      refine go_iload_n 133 3 dX4_take_132 rfl rfl rfl ?_
      refine go_callSI (M' := mX4_at) (as := [vI x1, vI x2, vI x3]) 136 dX4_take_133 rfl q1754 okX4_at rfl rfl rfl rfl rfl (ctX4_at) ?_
      intro x0 h0 p0
      rw [p0.1, p0.2]
      refine go_iaload 137 dX4_take_136 rfl (MO_k7 hM.1) vc.1 ?_
      replace vc := vc.2
      rw [hM.a7 vc.1]
      replace vc := vc.2
      refine go_isub 138 dX4_take_137 rfl ?_
      refine go_goto 142 dX4_take_138 (by decide) ?_
      refine go_iastore 143 dX4_take_142 rfl (MO_k26 hM.1) vc.1 ?_
      replace vc := vc.2
      refine AWP.nm fun h4 eh4 => ?_
      replace vc := vc h4 eh4
      have hM : MS h4 o t g := by rw [eh4]; exact hM.fr (PE.A rfl)
      refine go_iinc 146 (x3 + nI 1) [vR (some o), vI x1, vI x2, vI (x3 + nI 1)] dX4_take_143 rfl rfl (by rfl) rfl rfl ?_
      refine go_goto 87 dX4_take_146 (by decide) ?_
      exact vc

theorem bX4_layMatrix_0 {h : Hp} {b : Nat × Nat} {Q : Rs → Hp → Prop} {o : Nat} {x1 : Int32} {x2 : Int32} {t : St} {g : Nat} (hM : MS h o t g) (vc : (∀ h1, h1 = sFI h 442 o ((hFI h 442 o) + (nI 1)) → (∀ h2, h2 = sFI h1 437 o (nI 0) → AWP mX4_layMatrix 0 17 [vR (some o), vI x1, vI x2, vI (nI 0), vU, vU, vU] [] h2 b Q))) : AWP mX4_layMatrix 0 0 [vR (some o), vI x1, vI x2, vU, vU, vU, vU] [] h b Q := by
  refine go_aload_n 1 0 dX4_layMatrix_0 rfl rfl rfl ?_
  refine go_dup 2 dX4_layMatrix_1 rfl rfl ?_
  refine go_getI 5 dX4_layMatrix_2 rfl (MO_k hM.1) gfX4_313_5 rfl ?_
  refine go_iconst (v := nI 1) 6 dX4_layMatrix_5 rfl (by decide) ?_
  refine go_iadd 7 dX4_layMatrix_6 rfl ?_
  refine go_putI 10 dX4_layMatrix_7 rfl (MO_k hM.1) (gpX4_313_5 _) rfl ?_
  refine AWP.nm fun h1 eh1 => ?_
  replace vc := vc h1 eh1
  have hM : MO h1 o := by rw [eh1]; exact hM.1
  refine go_aload_n 11 0 dX4_layMatrix_10 rfl rfl rfl ?_
  refine go_iconst (v := nI 0) 12 dX4_layMatrix_11 rfl (by decide) ?_
  refine go_putI 15 dX4_layMatrix_12 rfl (MO_k hM) (gpX4_316_5 _) rfl ?_
  refine AWP.nm fun h2 eh2 => ?_
  replace vc := vc h2 eh2
  have hM : MO h2 o := by rw [eh2]; exact hM
  refine go_iconst (v := nI 0) 16 dX4_layMatrix_15 rfl (by decide) ?_
  refine go_istore_n 17 3 [vR (some o), vI x1, vI x2, vI (nI 0), vU, vU, vU] dX4_layMatrix_16 rfl rfl rfl rfl ?_
  exact vc

theorem bX4_layMatrix_17 {h : Hp} {b : Nat × Nat} {Q : Rs → Hp → Prop} {o : Nat} {x1 : Int32} {x2 : Int32} {x3 : Int32} {t : St} {g : Nat} (hM : MS h o t g) (vc : (((hFI h 435 o) ≤ x3 → AWP mX4_layMatrix 0 65 [vR (some o), vI x1, vI x2, vI (nI 0), vU, vU, vU] [] h b Q) ∧ (¬ (hFI h 435 o) ≤ x3 → (vp_in x3 6 ∧ (((hAI h (o + 25) (nt x3)) = 0 → (vp_in (hFI h 437 o) 6 ∧ (∀ h3, h3 = w1 h (o + 29) (nt (hFI h 437 o)) x3 → (∀ h4, h4 = sFI h3 437 o ((hFI h3 437 o) + (nI 1)) → AWP mX4_layMatrix 0 17 [vR (some o), vI x1, vI x2, vI (x3 + nI 1), vU, vU, vU] [] h4 b Q)))) ∧ (¬ (hAI h (o + 25) (nt x3)) = 0 → AWP mX4_layMatrix 0 17 [vR (some o), vI x1, vI x2, vI (x3 + nI 1), vU, vU, vU] [] h b Q)))))) : AWP mX4_layMatrix 0 17 [vR (some o), vI x1, vI x2, vI x3, vU, vU, vU] [] h b Q := by
  refine go_iload_n 18 3 dX4_layMatrix_17 rfl rfl rfl ?_
  refine go_aload_n 19 0 dX4_layMatrix_18 rfl rfl rfl ?_
  refine go_getI 22 dX4_layMatrix_19 rfl (MO_k hM.1) gfX4_307_5 rfl ?_
  refine go_icmp_ge 25 63 dX4_layMatrix_22 rfl (by decide) (fun e1 => ?_) (fun e1 => ?_)
  · replace vc := vc.1 e1
    refine go_iconst (v := nI 0) 64 dX4_layMatrix_63 rfl (by decide) ?_
    refine go_istore_n 65 3 [vR (some o), vI x1, vI x2, vI (nI 0), vU, vU, vU] dX4_layMatrix_64 rfl rfl rfl rfl ?_
    exact vc
  · replace vc := vc.2 e1
    refine go_aload_n 26 0 dX4_layMatrix_25 rfl rfl rfl ?_
    refine go_getRe 29 dX4_layMatrix_26 rfl (MO_k hM.1) gfX4_84_5 rfl (MO_f1433 hM.1) ?_
    refine go_iload_n 30 3 dX4_layMatrix_29 rfl rfl rfl ?_
    refine go_baloadZ 31 dX4_layMatrix_30 rfl (MO_k25 hM.1) vc.1 ?_
    replace vc := vc.2
    refine go_if_eq 34 37 dX4_layMatrix_31 rfl (by decide) (fun e2 => ?_) (fun e2 => ?_)
    · replace vc := vc.1 e2
      refine go_aload_n 38 0 dX4_layMatrix_37 rfl rfl rfl ?_
      refine go_getRe 41 dX4_layMatrix_38 rfl (MO_k hM.1) gfX4_97_5 rfl (MO_f1439 hM.1) ?_
      refine go_aload_n 42 0 dX4_layMatrix_41 rfl rfl rfl ?_
      refine go_getI 45 dX4_layMatrix_42 rfl (MO_k hM.1) gfX4_316_5 rfl ?_
      refine go_iload_n 46 3 dX4_layMatrix_45 rfl rfl rfl ?_
      refine go_iastore 47 dX4_layMatrix_46 rfl (MO_k29 hM.1) vc.1 ?_
      replace vc := vc.2
      refine AWP.nm fun h3 eh3 => ?_
      replace vc := vc h3 eh3
      have hM : MS h3 o t g := by rw [eh3]; exact hM.fr (PE.A rfl)
      refine go_aload_n 48 0 dX4_layMatrix_47 rfl rfl rfl ?_
      refine go_dup 49 dX4_layMatrix_48 rfl rfl ?_
      refine go_getI 52 dX4_layMatrix_49 rfl (MO_k hM.1) gfX4_316_5 rfl ?_
      refine go_iconst (v := nI 1) 53 dX4_layMatrix_52 rfl (by decide) ?_
      refine go_iadd 54 dX4_layMatrix_53 rfl ?_
      refine go_putI 57 dX4_layMatrix_54 rfl (MO_k hM.1) (gpX4_316_5 _) rfl ?_
      refine AWP.nm fun h4 eh4 => ?_
      replace vc := vc h4 eh4
      have hM : MS h4 o t g := by rw [eh4]; exact hM.fr (PE.F rfl)
      refine go_iinc 60 (x3 + nI 1) [vR (some o), vI x1, vI x2, vI (x3 + nI 1), vU, vU, vU] dX4_layMatrix_57 rfl rfl (by rfl) rfl rfl ?_
      refine go_goto 17 dX4_layMatrix_60 (by decide) ?_
      exact vc
    · replace vc := vc.2 e2
      refine go_goto 57 dX4_layMatrix_34 (by decide) ?_
      refine go_iinc 60 (x3 + nI 1) [vR (some o), vI x1, vI x2, vI (x3 + nI 1), vU, vU, vU] dX4_layMatrix_57 rfl rfl (by rfl) rfl rfl ?_
      refine go_goto 17 dX4_layMatrix_60 (by decide) ?_
      exact vc

theorem bX4_layMatrix_65 {h : Hp} {b : Nat × Nat} {Q : Rs → Hp → Prop} {o : Nat} {x1 : Int32} {x2 : Int32} {x3 : Int32} {y4 : AV} {y5 : AV} {y6 : AV} {t : St} {g : Nat} (hM : MS h o t g) (vc : (((hFI h 437 o) ≤ x3 → Q rV h) ∧ (¬ (hFI h 437 o) ≤ x3 → (vp_in x3 6 ∧ (vp_in (hAI h (o + 29) (nt x3)) 6 ∧ AWP mX4_layMatrix 0 93 [vR (some o), vI x1, vI x2, vI x3, vI (hAI h (o + 29) (nt x3)), vI (hAI h (o + 24) (nt (hAI h (o + 29) (nt x3)))), vI (nI 0)] [] h b Q))))) : AWP mX4_layMatrix 0 65 [vR (some o), vI x1, vI x2, vI x3, y4, y5, y6] [] h b Q := by
  refine go_iload_n 66 3 dX4_layMatrix_65 rfl rfl rfl ?_
  refine go_aload_n 67 0 dX4_layMatrix_66 rfl rfl rfl ?_
  refine go_getI 70 dX4_layMatrix_67 rfl (MO_k hM.1) gfX4_316_5 rfl ?_
  refine go_icmp_ge 73 212 dX4_layMatrix_70 rfl (by decide) (fun e1 => ?_) (fun e1 => ?_)
  · replace vc := vc.1 e1
    exact go_return dX4_layMatrix_212 rfl vc
  · replace vc := vc.2 e1
    refine go_aload_n 74 0 dX4_layMatrix_73 rfl rfl rfl ?_
    refine go_getRe 77 dX4_layMatrix_74 rfl (MO_k hM.1) gfX4_97_5 rfl (MO_f1439 hM.1) ?_
    refine go_iload_n 78 3 dX4_layMatrix_77 rfl rfl rfl ?_
    refine go_iaload 79 dX4_layMatrix_78 rfl (MO_k29 hM.1) vc.1 ?_
    replace vc := vc.2
    refine go_istore 81 [vR (some o), vI x1, vI x2, vI x3, vI (hAI h (o + 29) (nt x3)), y5, y6] dX4_layMatrix_79 rfl rfl rfl ?_
    refine go_aload_n 82 0 dX4_layMatrix_81 rfl rfl rfl ?_
    refine go_getRe 85 dX4_layMatrix_82 rfl (MO_k hM.1) gfX4_81_5 rfl (MO_f1432 hM.1) ?_
    refine go_iload 87 dX4_layMatrix_85 rfl rfl ?_
    refine go_iaload 88 dX4_layMatrix_87 rfl (MO_k24 hM.1) vc.1 ?_
    replace vc := vc.2
    refine go_istore 90 [vR (some o), vI x1, vI x2, vI x3, vI (hAI h (o + 29) (nt x3)), vI (hAI h (o + 24) (nt (hAI h (o + 29) (nt x3)))), y6] dX4_layMatrix_88 rfl rfl rfl ?_
    refine go_iconst (v := nI 0) 91 dX4_layMatrix_90 rfl (by decide) ?_
    refine go_istore 93 [vR (some o), vI x1, vI x2, vI x3, vI (hAI h (o + 29) (nt x3)), vI (hAI h (o + 24) (nt (hAI h (o + 29) (nt x3)))), vI (nI 0)] dX4_layMatrix_91 rfl rfl rfl ?_
    exact vc

theorem bX4_layMatrix_93 {h : Hp} {b : Nat × Nat} {Q : Rs → Hp → Prop} {o : Nat} {x1 : Int32} {x2 : Int32} {x3 : Int32} {x4 : Int32} {x5 : Int32} {x6 : Int32} {t : St} {g : Nat} (hM : MS h o t g) (vc : (((hFI h 435 o) ≤ x6 → AWP mX4_layMatrix 0 129 [vR (some o), vI x1, vI x2, vI x3, vI x4, vI x5, vI (nI 0)] [] h b Q) ∧ (¬ (hFI h 435 o) ≤ x6 → (vp_in (((nI 6) * x4) + x6) 36 ∧ AWP mX4_layMatrix 0 93 [vR (some o), vI x1, vI x2, vI x3, vI x4, vI (x5 + (hAI h (o + 26) (nt (((nI 6) * x4) + x6)))), vI (x6 + nI 1)] [] h b Q)))) : AWP mX4_layMatrix 0 93 [vR (some o), vI x1, vI x2, vI x3, vI x4, vI x5, vI x6] [] h b Q := by
  refine go_iload 95 dX4_layMatrix_93 rfl rfl ?_
  refine go_aload_n 96 0 dX4_layMatrix_95 rfl rfl rfl ?_
  refine go_getI 99 dX4_layMatrix_96 rfl (MO_k hM.1) gfX4_307_5 rfl ?_
  refine go_icmp_ge 102 126 dX4_layMatrix_99 rfl (by decide) (fun e1 => ?_) (fun e1 => ?_)
  · replace vc := vc.1 e1
    refine go_iconst (v := nI 0) 127 dX4_layMatrix_126 rfl (by decide) ?_
    refine go_istore 129 [vR (some o), vI x1, vI x2, vI x3, vI x4, vI x5, vI (nI 0)] dX4_layMatrix_127 rfl rfl rfl ?_
    exact vc
  · replace vc := vc.2 e1
    refine go_iload 104 dX4_layMatrix_102 rfl rfl ?_
    refine go_aload_n 105 0 dX4_layMatrix_104 rfl rfl rfl ?_
    refine go_getRe 108 dX4_layMatrix_105 rfl (MO_k hM.1) gfX4_87_5 rfl (MO_f1434 hM.1) ?_
    refine go_bipush (v := nI 6) 110 dX4_layMatrix_108 rfl (by decide) ?_
    refine go_iload 112 dX4_layMatrix_110 rfl rfl ?_
    refine go_imul 113 dX4_layMatrix_112 rfl ?_
    refine go_iload 115 dX4_layMatrix_113 rfl rfl ?_
    refine go_iadd 116 dX4_layMatrix_115 rfl ?_
    refine go_iaload 117 dX4_layMatrix_116 rfl (MO_k26 hM.1) vc.1 ?_
    replace vc := vc.2
    refine go_iadd 118 dX4_layMatrix_117 rfl ?_
    refine go_istore 120 [vR (some o), vI x1, vI x2, vI x3, vI x4, vI (x5 + (hAI h (o + 26) (nt (((nI 6) * x4) + x6)))), vI x6] dX4_layMatrix_118 rfl rfl rfl ?_
    refine go_iinc 123 (x6 + nI 1) [vR (some o), vI x1, vI x2, vI x3, vI x4, vI (x5 + (hAI h (o + 26) (nt (((nI 6) * x4) + x6)))), vI (x6 + nI 1)] dX4_layMatrix_120 rfl rfl (by rfl) rfl rfl ?_
    refine go_goto 93 dX4_layMatrix_123 (by decide) ?_
    exact vc

theorem bX4_layMatrix_129 {h : Hp} {b : Nat × Nat} {Q : Rs → Hp → Prop} {o : Nat} {x1 : Int32} {x2 : Int32} {x3 : Int32} {x4 : Int32} {x5 : Int32} {x6 : Int32} {t : St} {g : Nat} (hM : MS h o t g) (vc : (((hFI h 437 o) ≤ x6 → AWP mX4_layMatrix 0 65 [vR (some o), vI x1, vI x2, vI (x3 + nI 1), vI x4, vI x5, vI x6] [] h b Q) ∧ (¬ (hFI h 437 o) ≤ x6 → ((¬ x3 = x6 → (vp_in x6 6 ∧ (vp_in (((nI 6) * x4) + (hAI h (o + 29) (nt x6))) 36 ∧ (vp_in (((nI 6) * x3) + x6) 36 ∧ (∀ h3, h3 = wL h (o + 27) (nt (((nI 6) * x3) + x6)) ((-x2.toInt64) * ((hAI h (o + 26) (nt (((nI 6) * x4) + (hAI h (o + 29) (nt x6))))).toInt64)) → AWP mX4_layMatrix 0 129 [vR (some o), vI x1, vI x2, vI x3, vI x4, vI x5, vI (x6 + nI 1)] [] h3 b Q))))) ∧ (x3 = x6 → (vp_in x4 6 ∧ (vp_in (((nI 6) * x3) + x6) 36 ∧ (∀ h4, h4 = wL h (o + 27) (nt (((nI 6) * x3) + x6)) ((x2.toInt64 * x5.toInt64) - (x1.toInt64 * ((hAI h (o + 23) (nt x4)).toInt64))) → AWP mX4_layMatrix 0 129 [vR (some o), vI x1, vI x2, vI x3, vI x4, vI x5, vI (x6 + nI 1)] [] h4 b Q)))))))) : AWP mX4_layMatrix 0 129 [vR (some o), vI x1, vI x2, vI x3, vI x4, vI x5, vI x6] [] h b Q := by
  refine go_iload 131 dX4_layMatrix_129 rfl rfl ?_
  refine go_aload_n 132 0 dX4_layMatrix_131 rfl rfl rfl ?_
  refine go_getI 135 dX4_layMatrix_132 rfl (MO_k hM.1) gfX4_316_5 rfl ?_
  refine go_icmp_ge 138 206 dX4_layMatrix_135 rfl (by decide) (fun e1 => ?_) (fun e1 => ?_)
  · replace vc := vc.1 e1
    refine go_iinc 209 (x3 + nI 1) [vR (some o), vI x1, vI x2, vI (x3 + nI 1), vI x4, vI x5, vI x6] dX4_layMatrix_206 rfl rfl (by rfl) rfl rfl ?_
    refine go_goto 65 dX4_layMatrix_209 (by decide) ?_
    exact vc
  · replace vc := vc.2 e1
    refine go_aload_n 139 0 dX4_layMatrix_138 rfl rfl rfl ?_
    refine go_getRe 142 dX4_layMatrix_139 rfl (MO_k hM.1) gfX4_90_5 rfl (MO_f1436 hM.1) ?_
    refine go_bipush (v := nI 6) 144 dX4_layMatrix_142 rfl (by decide) ?_
    refine go_iload_n 145 3 dX4_layMatrix_144 rfl rfl rfl ?_
    refine go_imul 146 dX4_layMatrix_145 rfl ?_
    refine go_iload 148 dX4_layMatrix_146 rfl rfl ?_
    refine go_iadd 149 dX4_layMatrix_148 rfl ?_
    refine go_iload_n 150 3 dX4_layMatrix_149 rfl rfl rfl ?_
    refine go_iload 152 dX4_layMatrix_150 rfl rfl ?_
    refine go_icmp_ne 155 176 dX4_layMatrix_152 rfl (by decide) (fun e2 => ?_) (fun e2 => ?_)
    · replace vc := vc.1 e2
      refine go_iload_n 177 2 dX4_layMatrix_176 rfl rfl rfl ?_
      refine go_i2l 178 dX4_layMatrix_177 rfl ?_
      refine go_lneg 179 dX4_layMatrix_178 rfl ?_
      refine go_aload_n 180 0 dX4_layMatrix_179 rfl rfl rfl ?_
      refine go_getRe 183 dX4_layMatrix_180 rfl (MO_k hM.1) gfX4_87_5 rfl (MO_f1434 hM.1) ?_
      refine go_bipush (v := nI 6) 185 dX4_layMatrix_183 rfl (by decide) ?_
      refine go_iload 187 dX4_layMatrix_185 rfl rfl ?_
      refine go_imul 188 dX4_layMatrix_187 rfl ?_
      refine go_aload_n 189 0 dX4_layMatrix_188 rfl rfl rfl ?_
      refine go_getRe 192 dX4_layMatrix_189 rfl (MO_k hM.1) gfX4_97_5 rfl (MO_f1439 hM.1) ?_
      refine go_iload 194 dX4_layMatrix_192 rfl rfl ?_
      refine go_iaload 195 dX4_layMatrix_194 rfl (MO_k29 hM.1) vc.1 ?_
      replace vc := vc.2
      refine go_iadd 196 dX4_layMatrix_195 rfl ?_
      refine go_iaload 197 dX4_layMatrix_196 rfl (MO_k26 hM.1) vc.1 ?_
      replace vc := vc.2
      refine go_i2l 198 dX4_layMatrix_197 rfl ?_
      refine go_lmul 199 dX4_layMatrix_198 rfl ?_
      refine go_lastore 200 dX4_layMatrix_199 rfl (MO_k27 hM.1) vc.1 ?_
      replace vc := vc.2
      refine AWP.nm fun h3 eh3 => ?_
      replace vc := vc h3 eh3
      have hM : MS h3 o t g := by rw [eh3]; exact hM.fr (PE.L (by decide))
      refine go_iinc 203 (x6 + nI 1) [vR (some o), vI x1, vI x2, vI x3, vI x4, vI x5, vI (x6 + nI 1)] dX4_layMatrix_200 rfl rfl (by rfl) rfl rfl ?_
      refine go_goto 129 dX4_layMatrix_203 (by decide) ?_
      exact vc
    · replace vc := vc.2 e2
      refine go_iload_n 156 2 dX4_layMatrix_155 rfl rfl rfl ?_
      refine go_i2l 157 dX4_layMatrix_156 rfl ?_
      refine go_iload 159 dX4_layMatrix_157 rfl rfl ?_
      refine go_i2l 160 dX4_layMatrix_159 rfl ?_
      refine go_lmul 161 dX4_layMatrix_160 rfl ?_
      refine go_iload_n 162 1 dX4_layMatrix_161 rfl rfl rfl ?_
      refine go_i2l 163 dX4_layMatrix_162 rfl ?_
      refine go_aload_n 164 0 dX4_layMatrix_163 rfl rfl rfl ?_
      refine go_getRe 167 dX4_layMatrix_164 rfl (MO_k hM.1) gfX4_78_5 rfl (MO_f1431 hM.1) ?_
      refine go_iload 169 dX4_layMatrix_167 rfl rfl ?_
      refine go_iaload 170 dX4_layMatrix_169 rfl (MO_k23 hM.1) vc.1 ?_
      replace vc := vc.2
      refine go_i2l 171 dX4_layMatrix_170 rfl ?_
      refine go_lmul 172 dX4_layMatrix_171 rfl ?_
      refine go_lsub 173 dX4_layMatrix_172 rfl ?_
      refine go_goto 199 dX4_layMatrix_173 (by decide) ?_
      refine go_lastore 200 dX4_layMatrix_199 rfl (MO_k27 hM.1) vc.1 ?_
      replace vc := vc.2
      refine AWP.nm fun h4 eh4 => ?_
      replace vc := vc h4 eh4
      have hM : MS h4 o t g := by rw [eh4]; exact hM.fr (PE.L (by decide))
      refine go_iinc 203 (x6 + nI 1) [vR (some o), vI x1, vI x2, vI x3, vI x4, vI x5, vI (x6 + nI 1)] dX4_layMatrix_200 rfl rfl (by rfl) rfl rfl ?_
      refine go_goto 129 dX4_layMatrix_203 (by decide) ?_
      exact vc

theorem bX4_minor_0 {d : Nat} {h : Hp} {b : Nat × Nat} {Q : Rs → Hp → Prop} {o : Nat} {x1 : Int32} {x2 : Int32} (hdp : 0 ≤ d) {t : St} {g : Nat} (hM : MS h o t g) (vc : ((¬ x1 = 0 → (vp_in (((nI 64) * x1) + x2) 4096 ∧ ((¬ (hAI h (o + 31) (nt (((nI 64) * x1) + x2))) = (hFI h 442 o) → AWP mX4_minor d 36 [vR (some o), vI x1, vI x2, vI (((nI 64) * x1) + x2), vI (nI 0), vU, vU, vU, vU, vU, vU] [] h b Q) ∧ ((hAI h (o + 31) (nt (((nI 64) * x1) + x2))) = (hFI h 442 o) → (vp_in (((nI 64) * x1) + x2) 4096 ∧ Q (rJ (hAL h (o + 30) (nt (((nI 64) * x1) + x2)))) h))))) ∧ (x1 = 0 → Q (rJ 1) h))) : AWP mX4_minor d 0 [vR (some o), vI x1, vI x2, vU, vU, vU, vU, vU, vU, vU, vU] [] h b Q := by
  refine go_iload_n 1 1 dX4_minor_0 rfl rfl rfl ?_
  refine go_if_ne 4 6 dX4_minor_1 rfl (by decide) (fun e1 => ?_) (fun e1 => ?_)
  · replace vc := vc.1 e1
    refine go_bipush (v := nI 64) 8 dX4_minor_6 rfl (by decide) ?_
    refine go_iload_n 9 1 dX4_minor_8 rfl rfl rfl ?_
    refine go_imul 10 dX4_minor_9 rfl ?_
    refine go_iload_n 11 2 dX4_minor_10 rfl rfl rfl ?_
    refine go_iadd 12 dX4_minor_11 rfl ?_
    refine go_istore_n 13 3 [vR (some o), vI x1, vI x2, vI (((nI 64) * x1) + x2), vU, vU, vU, vU, vU, vU, vU] dX4_minor_12 rfl rfl rfl rfl ?_
    refine go_aload_n 14 0 dX4_minor_13 rfl rfl rfl ?_
    refine go_getRe 17 dX4_minor_14 rfl (MO_k hM.1) gfX4_103_5 rfl (MO_f1441 hM.1) ?_
    refine go_iload_n 18 3 dX4_minor_17 rfl rfl rfl ?_
    refine go_iaload 19 dX4_minor_18 rfl (MO_k31 hM.1) vc.1 ?_
    replace vc := vc.2
    refine go_aload_n 20 0 dX4_minor_19 rfl rfl rfl ?_
    refine go_getI 23 dX4_minor_20 rfl (MO_k hM.1) gfX4_313_5 rfl ?_
    refine go_icmp_ne 26 33 dX4_minor_23 rfl (by decide) (fun e2 => ?_) (fun e2 => ?_)
    · replace vc := vc.1 e2
      refine go_iconst (v := nI 0) 34 dX4_minor_33 rfl (by decide) ?_
      refine go_istore 36 [vR (some o), vI x1, vI x2, vI (((nI 64) * x1) + x2), vI (nI 0), vU, vU, vU, vU, vU, vU] dX4_minor_34 rfl rfl rfl ?_
      exact vc
    · replace vc := vc.2 e2
      refine go_aload_n 27 0 dX4_minor_26 rfl rfl rfl ?_
      refine go_getRe 30 dX4_minor_27 rfl (MO_k hM.1) gfX4_100_5 rfl (MO_f1440 hM.1) ?_
      refine go_iload_n 31 3 dX4_minor_30 rfl rfl rfl ?_
      refine go_laload 32 dX4_minor_31 rfl (MO_k30 hM.1) vc.1 ?_
      replace vc := vc.2
      exact go_lreturn dX4_minor_32 rfl vc
  · replace vc := vc.2 e1
    refine go_lconst (v := 1) 5 dX4_minor_4 rfl (by decide) ?_
    exact go_lreturn dX4_minor_5 rfl vc

theorem bX4_minor_36 {d : Nat} {h : Hp} {b : Nat × Nat} {Q : Rs → Hp → Prop} {o : Nat} {x1 : Int32} {x2 : Int32} {x3 : Int32} {x4 : Int32} (hdp : 0 ≤ d) {t : St} {g : Nat} (hM : MS h o t g) (vc : ((¬ ((x1 >>> (x4 &&& 31)) &&& (nI 1)) = 0 → AWP mX4_minor d 60 [vR (some o), vI x1, vI x2, vI x3, vI x4, vJ 0, vU, vI (nI 0), vI (nI 0), vU, vU] [] h b Q) ∧ (((x1 >>> (x4 &&& 31)) &&& (nI 1)) = 0 → AWP mX4_minor d 36 [vR (some o), vI x1, vI x2, vI x3, vI (x4 + nI 1), vU, vU, vU, vU, vU, vU] [] h b Q))) : AWP mX4_minor d 36 [vR (some o), vI x1, vI x2, vI x3, vI x4, vU, vU, vU, vU, vU, vU] [] h b Q := by
  refine go_iload_n 37 1 dX4_minor_36 rfl rfl rfl ?_
  refine go_iload 39 dX4_minor_37 rfl rfl ?_
  refine go_ishr 40 dX4_minor_39 rfl ?_
  refine go_iconst (v := nI 1) 41 dX4_minor_40 rfl (by decide) ?_
  refine go_iand 42 dX4_minor_41 rfl ?_
  refine go_if_ne 45 51 dX4_minor_42 rfl (by decide) (fun e1 => ?_) (fun e1 => ?_)
  · replace vc := vc.1 e1
    refine go_lconst (v := 0) 52 dX4_minor_51 rfl (by decide) ?_
    refine go_lstore 54 [vR (some o), vI x1, vI x2, vI x3, vI x4, vJ 0, vU, vU, vU, vU, vU] dX4_minor_52 rfl rfl rfl ?_
    refine go_iconst (v := nI 0) 55 dX4_minor_54 rfl (by decide) ?_
    refine go_istore 57 [vR (some o), vI x1, vI x2, vI x3, vI x4, vJ 0, vU, vI (nI 0), vU, vU, vU] dX4_minor_55 rfl rfl rfl ?_
    refine go_iconst (v := nI 0) 58 dX4_minor_57 rfl (by decide) ?_
    refine go_istore 60 [vR (some o), vI x1, vI x2, vI x3, vI x4, vJ 0, vU, vI (nI 0), vI (nI 0), vU, vU] dX4_minor_58 rfl rfl rfl ?_
    exact vc
  · replace vc := vc.2 e1
    refine go_iinc 48 (x4 + nI 1) [vR (some o), vI x1, vI x2, vI x3, vI (x4 + nI 1), vU, vU, vU, vU, vU, vU] dX4_minor_45 rfl rfl (by rfl) rfl rfl ?_
    refine go_goto 36 dX4_minor_48 (by decide) ?_
    exact vc

theorem bX4_minor_60 {d : Nat} {h : Hp} {b : Nat × Nat} {Q : Rs → Hp → Prop} {o : Nat} {x1 : Int32} {x2 : Int32} {x3 : Int32} {x4 : Int32} {x5 : Int64} {x7 : Int32} {x8 : Int32} {y9 : AV} {y10 : AV} (hdp : 0 ≤ d) {t : St} {g : Nat} (hM : MS h o t g) (vc : (((hFI h 437 o) ≤ x8 → (vp_in x3 4096 ∧ (∀ h2, h2 = w1 h (o + 31) (nt x3) (hFI h 442 o) → (vp_in x3 4096 ∧ (∀ h3, h3 = wL h2 (o + 30) (nt x3) x5 → Q (rJ x5) h3))))) ∧ (¬ (hFI h 437 o) ≤ x8 → ((¬ ((x2 >>> (x8 &&& 31)) &&& (nI 1)) = 0 → (vp_in (((nI 6) * x4) + x8) 36 ∧ (((lg_cmp (hAL h (o + 27) (nt (((nI 6) * x4) + x8))) 0) = 0 → ((¬ x7 = 0 → AWP mX4_minor d 60 [vR (some o), vI x1, vI x2, vI x3, vI x4, vJ x5, vU, vI (nI 0), vI (x8 + nI 1), y9, y10] [] h b Q) ∧ (x7 = 0 → AWP mX4_minor d 60 [vR (some o), vI x1, vI x2, vI x3, vI x4, vJ x5, vU, vI (nI 1), vI (x8 + nI 1), y9, y10] [] h b Q))) ∧ (¬ (lg_cmp (hAL h (o + 27) (nt (((nI 6) * x4) + x8))) 0) = 0 → (vp_in (((nI 6) * x4) + x8) 36 ∧ (∃ (P9 : Int64 → Hp → Prop) (d10 : Nat), Nat.ble (d10 + 1) d = true ∧ Ret mX4_minor d10 [vR (some o), vI (x1 &&& (((nI 1) <<< (x4 &&& 31)) ^^^ (-1))), vI (x2 &&& (((nI 1) <<< (x8 &&& 31)) ^^^ (-1)))] h 0 0 (RJ P9) ∧ ∀ z7 h8, P9 z7 h8 → (∃ t11 g12, MS h8 o t11 g12 ∧ ((x7 = 0 → AWP mX4_minor d 150 [vR (some o), vI x1, vI x2, vI x3, vI x4, vJ x5, vU, vI x7, vI x8, vJ ((hAL h (o + 27) (nt (((nI 6) * x4) + x8))) * z7), vU] [vJ ((hAL h (o + 27) (nt (((nI 6) * x4) + x8))) * z7), vJ x5] h8 b Q) ∧ (¬ x7 = 0 → AWP mX4_minor d 150 [vR (some o), vI x1, vI x2, vI x3, vI x4, vJ x5, vU, vI x7, vI x8, vJ ((hAL h (o + 27) (nt (((nI 6) * x4) + x8))) * z7), vU] [vJ (-((hAL h (o + 27) (nt (((nI 6) * x4) + x8))) * z7)), vJ x5] h8 b Q))))))))) ∧ (((x2 >>> (x8 &&& 31)) &&& (nI 1)) = 0 → AWP mX4_minor d 60 [vR (some o), vI x1, vI x2, vI x3, vI x4, vJ x5, vU, vI x7, vI (x8 + nI 1), y9, y10] [] h b Q))))) : AWP mX4_minor d 60 [vR (some o), vI x1, vI x2, vI x3, vI x4, vJ x5, vU, vI x7, vI x8, y9, y10] [] h b Q := by
  refine go_iload 62 dX4_minor_60 rfl rfl ?_
  refine go_aload_n 63 0 dX4_minor_62 rfl rfl rfl ?_
  refine go_getI 66 dX4_minor_63 rfl (MO_k hM.1) gfX4_316_5 rfl ?_
  refine go_icmp_ge 69 171 dX4_minor_66 rfl (by decide) (fun e1 => ?_) (fun e1 => ?_)
  · replace vc := vc.1 e1
    refine go_aload_n 172 0 dX4_minor_171 rfl rfl rfl ?_
    refine go_getRe 175 dX4_minor_172 rfl (MO_k hM.1) gfX4_103_5 rfl (MO_f1441 hM.1) ?_
    refine go_iload_n 176 3 dX4_minor_175 rfl rfl rfl ?_
    refine go_aload_n 177 0 dX4_minor_176 rfl rfl rfl ?_
    refine go_getI 180 dX4_minor_177 rfl (MO_k hM.1) gfX4_313_5 rfl ?_
    refine go_iastore 181 dX4_minor_180 rfl (MO_k31 hM.1) vc.1 ?_
    replace vc := vc.2
    refine AWP.nm fun h2 eh2 => ?_
    replace vc := vc h2 eh2
    have hM : MO h2 o := by rw [eh2]; exact hM.1
    refine go_aload_n 182 0 dX4_minor_181 rfl rfl rfl ?_
    refine go_getRe 185 dX4_minor_182 rfl (MO_k hM) gfX4_100_5 rfl (MO_f1440 hM) ?_
    refine go_iload_n 186 3 dX4_minor_185 rfl rfl rfl ?_
    refine go_lload 188 dX4_minor_186 rfl rfl ?_
    refine go_lastore 189 dX4_minor_188 rfl (MO_k30 hM) vc.1 ?_
    replace vc := vc.2
    refine AWP.nm fun h3 eh3 => ?_
    replace vc := vc h3 eh3
    have hM : MO h3 o := by rw [eh3]; exact hM
    refine go_lload 191 dX4_minor_189 rfl rfl ?_
    exact go_lreturn dX4_minor_191 rfl vc
  · replace vc := vc.2 e1
    refine go_iload_n 70 2 dX4_minor_69 rfl rfl rfl ?_
    refine go_iload 72 dX4_minor_70 rfl rfl ?_
    refine go_ishr 73 dX4_minor_72 rfl ?_
    refine go_iconst (v := nI 1) 74 dX4_minor_73 rfl (by decide) ?_
    refine go_iand 75 dX4_minor_74 rfl ?_
    refine go_if_ne 78 81 dX4_minor_75 rfl (by decide) (fun e4 => ?_) (fun e4 => ?_)
    · replace vc := vc.1 e4
      refine go_aload_n 82 0 dX4_minor_81 rfl rfl rfl ?_
      refine go_getRe 85 dX4_minor_82 rfl (MO_k hM.1) gfX4_90_5 rfl (MO_f1436 hM.1) ?_
      refine go_bipush (v := nI 6) 87 dX4_minor_85 rfl (by decide) ?_
      refine go_iload 89 dX4_minor_87 rfl rfl ?_
      refine go_imul 90 dX4_minor_89 rfl ?_
      refine go_iload 92 dX4_minor_90 rfl rfl ?_
      refine go_iadd 93 dX4_minor_92 rfl ?_
      refine go_laload 94 dX4_minor_93 rfl (MO_k27 hM.1) vc.1 ?_
      replace vc := vc.2
      refine go_lconst (v := 0) 95 dX4_minor_94 rfl (by decide) ?_
      refine go_lcmp 96 dX4_minor_95 rfl ?_
      refine go_if_eq 99 153 dX4_minor_96 rfl (by decide) (fun e5 => ?_) (fun e5 => ?_)
      · replace vc := vc.1 e5
        refine go_iload 155 dX4_minor_153 rfl rfl ?_
        refine go_if_ne 158 162 dX4_minor_155 rfl (by decide) (fun e6 => ?_) (fun e6 => ?_)
        · replace vc := vc.1 e6
          refine go_iconst (v := nI 0) 163 dX4_minor_162 rfl (by decide) ?_
          refine go_istore 165 [vR (some o), vI x1, vI x2, vI x3, vI x4, vJ x5, vU, vI (nI 0), vI x8, y9, y10] dX4_minor_163 rfl rfl rfl ?_
          refine go_iinc 168 (x8 + nI 1) [vR (some o), vI x1, vI x2, vI x3, vI x4, vJ x5, vU, vI (nI 0), vI (x8 + nI 1), y9, y10] dX4_minor_165 rfl rfl (by rfl) rfl rfl ?_
          refine go_goto 60 dX4_minor_168 (by decide) ?_
          exact vc
        · replace vc := vc.2 e6
          refine go_iconst (v := nI 1) 159 dX4_minor_158 rfl (by decide) ?_
          refine go_goto 163 dX4_minor_159 (by decide) ?_
          refine go_istore 165 [vR (some o), vI x1, vI x2, vI x3, vI x4, vJ x5, vU, vI (nI 1), vI x8, y9, y10] dX4_minor_163 rfl rfl rfl ?_
          refine go_iinc 168 (x8 + nI 1) [vR (some o), vI x1, vI x2, vI x3, vI x4, vJ x5, vU, vI (nI 1), vI (x8 + nI 1), y9, y10] dX4_minor_165 rfl rfl (by rfl) rfl rfl ?_
          refine go_goto 60 dX4_minor_168 (by decide) ?_
          exact vc
      · replace vc := vc.2 e5
        refine go_aload_n 100 0 dX4_minor_99 rfl rfl rfl ?_
        refine go_getRe 103 dX4_minor_100 rfl (MO_k hM.1) gfX4_90_5 rfl (MO_f1436 hM.1) ?_
        refine go_bipush (v := nI 6) 105 dX4_minor_103 rfl (by decide) ?_
        refine go_iload 107 dX4_minor_105 rfl rfl ?_
        refine go_imul 108 dX4_minor_107 rfl ?_
        refine go_iload 110 dX4_minor_108 rfl rfl ?_
        refine go_iadd 111 dX4_minor_110 rfl ?_
        refine go_laload 112 dX4_minor_111 rfl (MO_k27 hM.1) vc.1 ?_
        replace vc := vc.2
        refine go_aload_n 113 0 dX4_minor_112 rfl rfl rfl ?_
        refine go_iload_n 114 1 dX4_minor_113 rfl rfl rfl ?_
        refine go_iconst (v := nI 1) 115 dX4_minor_114 rfl (by decide) ?_
        refine go_iload 117 dX4_minor_115 rfl rfl ?_
        refine go_ishl 118 dX4_minor_117 rfl ?_
        refine go_iconst (v := (-1)) 119 dX4_minor_118 rfl (by decide) ?_
        refine go_ixor 120 dX4_minor_119 rfl ?_
        refine go_iand 121 dX4_minor_120 rfl ?_
        refine go_iload_n 122 2 dX4_minor_121 rfl rfl rfl ?_
        refine go_iconst (v := nI 1) 123 dX4_minor_122 rfl (by decide) ?_
        refine go_iload 125 dX4_minor_123 rfl rfl ?_
        refine go_ishl 126 dX4_minor_125 rfl ?_
        refine go_iconst (v := (-1)) 127 dX4_minor_126 rfl (by decide) ?_
        refine go_ixor 128 dX4_minor_127 rfl ?_
        refine go_iand 129 dX4_minor_128 rfl ?_
        obtain ⟨P9, d10, hD, hR, vc⟩ := vc
        refine go_callVJ (M' := mX4_minor) (as := [vI (x1 &&& (((nI 1) <<< (x4 &&& 31)) ^^^ (-1))), vI (x2 &&& (((nI 1) <<< (x8 &&& 31)) ^^^ (-1)))]) 132 dX4_minor_129 rfl q1857 okX4_minor (MO_k hM.1) ck_4 rfl rfl rfl hD rfl hR ?_
        intro z7 h8 p1
        replace vc := vc z7 h8 p1
        obtain ⟨t11, g12, hM, vc⟩ := vc
        refine go_lmul 133 dX4_minor_132 rfl ?_
        refine go_lstore 135 [vR (some o), vI x1, vI x2, vI x3, vI x4, vJ x5, vU, vI x7, vI x8, vJ ((hAL h (o + 27) (nt (((nI 6) * x4) + x8))) * z7), vU] dX4_minor_133 rfl rfl rfl ?_
        refine go_lload 137 dX4_minor_135 rfl rfl ?_
        refine go_iload 139 dX4_minor_137 rfl rfl ?_
        refine go_if_eq 142 148 dX4_minor_139 rfl (by decide) (fun e13 => ?_) (fun e13 => ?_)
        · replace vc := vc.1 e13
          refine go_lload 150 dX4_minor_148 rfl rfl ?_
          exact vc
        · replace vc := vc.2 e13
          refine go_lload 144 dX4_minor_142 rfl rfl ?_
          refine go_lneg 145 dX4_minor_144 rfl ?_
          refine go_goto 150 dX4_minor_145 (by decide) ?_
          exact vc
    · replace vc := vc.2 e4
      refine go_goto 165 dX4_minor_78 (by decide) ?_
      refine go_iinc 168 (x8 + nI 1) [vR (some o), vI x1, vI x2, vI x3, vI x4, vJ x5, vU, vI x7, vI (x8 + nI 1), y9, y10] dX4_minor_165 rfl rfl (by rfl) rfl rfl ?_
      refine go_goto 60 dX4_minor_168 (by decide) ?_
      exact vc

theorem bX4_minor_150 {d : Nat} {h : Hp} {b : Nat × Nat} {Q : Rs → Hp → Prop} {o : Nat} {x1 : Int32} {x2 : Int32} {x3 : Int32} {x4 : Int32} {x5 : Int64} {x7 : Int32} {x8 : Int32} {x9 : Int64} {s0 : Int64} {s1 : Int64} (hdp : 0 ≤ d) {t : St} {g : Nat} (hM : MS h o t g) (vc : ((¬ x7 = 0 → AWP mX4_minor d 60 [vR (some o), vI x1, vI x2, vI x3, vI x4, vJ (s0 + s1), vU, vI (nI 0), vI (x8 + nI 1), vJ x9, vU] [] h b Q) ∧ (x7 = 0 → AWP mX4_minor d 60 [vR (some o), vI x1, vI x2, vI x3, vI x4, vJ (s0 + s1), vU, vI (nI 1), vI (x8 + nI 1), vJ x9, vU] [] h b Q))) : AWP mX4_minor d 150 [vR (some o), vI x1, vI x2, vI x3, vI x4, vJ x5, vU, vI x7, vI x8, vJ x9, vU] [vJ s1, vJ s0] h b Q := by
  refine go_ladd 151 dX4_minor_150 rfl ?_
  refine go_lstore 153 [vR (some o), vI x1, vI x2, vI x3, vI x4, vJ (s0 + s1), vU, vI x7, vI x8, vJ x9, vU] dX4_minor_151 rfl rfl rfl ?_
  refine go_iload 155 dX4_minor_153 rfl rfl ?_
  refine go_if_ne 158 162 dX4_minor_155 rfl (by decide) (fun e1 => ?_) (fun e1 => ?_)
  · replace vc := vc.1 e1
    refine go_iconst (v := nI 0) 163 dX4_minor_162 rfl (by decide) ?_
    refine go_istore 165 [vR (some o), vI x1, vI x2, vI x3, vI x4, vJ (s0 + s1), vU, vI (nI 0), vI x8, vJ x9, vU] dX4_minor_163 rfl rfl rfl ?_
    refine go_iinc 168 (x8 + nI 1) [vR (some o), vI x1, vI x2, vI x3, vI x4, vJ (s0 + s1), vU, vI (nI 0), vI (x8 + nI 1), vJ x9, vU] dX4_minor_165 rfl rfl (by rfl) rfl rfl ?_
    refine go_goto 60 dX4_minor_168 (by decide) ?_
    exact vc
  · replace vc := vc.2 e1
    refine go_iconst (v := nI 1) 159 dX4_minor_158 rfl (by decide) ?_
    refine go_goto 163 dX4_minor_159 (by decide) ?_
    refine go_istore 165 [vR (some o), vI x1, vI x2, vI x3, vI x4, vJ (s0 + s1), vU, vI (nI 1), vI x8, vJ x9, vU] dX4_minor_163 rfl rfl rfl ?_
    refine go_iinc 168 (x8 + nI 1) [vR (some o), vI x1, vI x2, vI x3, vI x4, vJ (s0 + s1), vU, vI (nI 1), vI (x8 + nI 1), vJ x9, vU] dX4_minor_165 rfl rfl (by rfl) rfl rfl ?_
    refine go_goto 60 dX4_minor_168 (by decide) ?_
    exact vc

theorem bX4_findSums_0 {h : Hp} {b : Nat × Nat} {Q : Rs → Hp → Prop} {o : Nat} {x1 : Int32} {x2 : Int32} {t : St} {g : Nat} (hM : MS h o t g) (vc : (∃ (P3 : Hp → Prop), Ret mX4_layMatrix 0 [vR (some o), vI x1, vI x2] h 0 0 (RV P3) ∧ ∀ h2, P3 h2 → (∃ t5 g6, MS h2 o t5 g6 ∧ AWP mX4_findSums 13 8 [vR (some o), vI x1, vI x2, vI (nI 0)] [] h2 b Q))) : AWP mX4_findSums 13 0 [vR (some o), vI x1, vI x2, vU] [] h b Q := by
  refine go_aload_n 1 0 dX4_findSums_0 rfl rfl rfl ?_
  refine go_iload_n 2 1 dX4_findSums_1 rfl rfl rfl ?_
  refine go_iload_n 3 2 dX4_findSums_2 rfl rfl rfl ?_
  obtain ⟨P3, hR, vc⟩ := vc
  refine go_callVV (M' := mX4_layMatrix) (as := [vI x1, vI x2]) 6 dX4_findSums_3 rfl q1850 okX4_layMatrix (MO_k hM.1) ck_4 rfl rfl rfl rfl rfl hR ?_
  intro h2 p1
  replace vc := vc h2 p1
  obtain ⟨t5, g6, hM, vc⟩ := vc
  refine go_iconst (v := nI 0) 7 dX4_findSums_6 rfl (by decide) ?_
  refine go_istore_n 8 3 [vR (some o), vI x1, vI x2, vI (nI 0)] dX4_findSums_7 rfl rfl rfl rfl ?_
  exact vc

theorem bX4_findSums_8 {h : Hp} {b : Nat × Nat} {Q : Rs → Hp → Prop} {o : Nat} {x1 : Int32} {x2 : Int32} {x3 : Int32} {t : St} {g : Nat} (hM : MS h o t g) (vc : (((hFI h 437 o) < x3 → AWP mX4_findSums 13 31 [vR (some o), vI x1, vI x2, vI (nI 0)] [] h b Q) ∧ (¬ (hFI h 437 o) < x3 → (vp_in x3 7 ∧ (∀ h2, h2 = wL h (o + 28) (nt x3) 0 → AWP mX4_findSums 13 8 [vR (some o), vI x1, vI x2, vI (x3 + nI 1)] [] h2 b Q))))) : AWP mX4_findSums 13 8 [vR (some o), vI x1, vI x2, vI x3] [] h b Q := by
  refine go_iload_n 9 3 dX4_findSums_8 rfl rfl rfl ?_
  refine go_aload_n 10 0 dX4_findSums_9 rfl rfl rfl ?_
  refine go_getI 13 dX4_findSums_10 rfl (MO_k hM.1) gfX4_316_5 rfl ?_
  refine go_icmp_gt 16 29 dX4_findSums_13 rfl (by decide) (fun e1 => ?_) (fun e1 => ?_)
  · replace vc := vc.1 e1
    refine go_iconst (v := nI 0) 30 dX4_findSums_29 rfl (by decide) ?_
    refine go_istore_n 31 3 [vR (some o), vI x1, vI x2, vI (nI 0)] dX4_findSums_30 rfl rfl rfl rfl ?_
    exact vc
  · replace vc := vc.2 e1
    refine go_aload_n 17 0 dX4_findSums_16 rfl rfl rfl ?_
    refine go_getRe 20 dX4_findSums_17 rfl (MO_k hM.1) gfX4_94_5 rfl (MO_f1438 hM.1) ?_
    refine go_iload_n 21 3 dX4_findSums_20 rfl rfl rfl ?_
    refine go_lconst (v := 0) 22 dX4_findSums_21 rfl (by decide) ?_
    refine go_lastore 23 dX4_findSums_22 rfl (MO_k28 hM.1) vc.1 ?_
    replace vc := vc.2
    refine AWP.nm fun h2 eh2 => ?_
    replace vc := vc h2 eh2
    have hM : MS h2 o t g := by rw [eh2]; exact hM.fr (PE.L (by decide))
    refine go_iinc 26 (x3 + nI 1) [vR (some o), vI x1, vI x2, vI (x3 + nI 1)] dX4_findSums_23 rfl rfl (by rfl) rfl rfl ?_
    refine go_goto 8 dX4_findSums_26 (by decide) ?_
    exact vc

theorem bX4_findSums_31 {h : Hp} {b : Nat × Nat} {Q : Rs → Hp → Prop} {o : Nat} {x1 : Int32} {x2 : Int32} {x3 : Int32} {t : St} {g : Nat} (hM : MS h o t g) (vc : ((((nI 1) <<< ((hFI h 437 o) &&& 31)) ≤ x3 → Q rV h) ∧ (¬ ((nI 1) <<< ((hFI h 437 o) &&& 31)) ≤ x3 → (∃ (P4 : Int32 → Hp → Prop), Ret mX4_bitsOf 0 [vI x3] h 0 0 (RI P4) ∧ ∀ z2 h3, P4 z2 h3 → (∃ t6 g7, MS h3 o t6 g7 ∧ (vp_in z2 7 ∧ (∃ (P10 : Int64 → Hp → Prop) (d11 : Nat), Nat.ble (d11 + 1) 13 = true ∧ Ret mX4_minor d11 [vR (some o), vI x3, vI x3] h3 0 0 (RJ P10) ∧ ∀ z8 h9, P10 z8 h9 → (∃ t12 g13, MS h9 o t12 g13 ∧ (vp_in z2 7 ∧ (∀ h14, h14 = wL h9 (o + 28) (nt z2) ((hAL h3 (o + 28) (nt z2)) + z8) → AWP mX4_findSums 13 31 [vR (some o), vI x1, vI x2, vI (x3 + nI 1)] [] h14 b Q)))))))))) : AWP mX4_findSums 13 31 [vR (some o), vI x1, vI x2, vI x3] [] h b Q := by
  refine go_iload_n 32 3 dX4_findSums_31 rfl rfl rfl ?_
  refine go_iconst (v := nI 1) 33 dX4_findSums_32 rfl (by decide) ?_
  refine go_aload_n 34 0 dX4_findSums_33 rfl rfl rfl ?_
  refine go_getI 37 dX4_findSums_34 rfl (MO_k hM.1) gfX4_316_5 rfl ?_
  refine go_ishl 38 dX4_findSums_37 rfl ?_
  refine go_icmp_ge 41 65 dX4_findSums_38 rfl (by decide) (fun e1 => ?_) (fun e1 => ?_)
  · replace vc := vc.1 e1
    exact go_return dX4_findSums_65 rfl vc
  · replace vc := vc.2 e1
    refine go_aload_n 42 0 dX4_findSums_41 rfl rfl rfl ?_
    refine go_getRe 45 dX4_findSums_42 rfl (MO_k hM.1) gfX4_94_5 rfl (MO_f1438 hM.1) ?_
    refine go_iload_n 46 3 dX4_findSums_45 rfl rfl rfl ?_
    obtain ⟨P4, hR, vc⟩ := vc
    refine go_callSI (M' := mX4_bitsOf) (as := [vI x3]) 49 dX4_findSums_46 rfl q1854 okX4_bitsOf rfl rfl rfl rfl rfl hR ?_
    intro z2 h3 p1
    replace vc := vc z2 h3 p1
    obtain ⟨t6, g7, hM, vc⟩ := vc
    refine go_dup2 50 dX4_findSums_49 rfl rfl rfl ?_
    refine go_laload 51 dX4_findSums_50 rfl (MO_k28 hM.1) vc.1 ?_
    replace vc := vc.2
    refine go_aload_n 52 0 dX4_findSums_51 rfl rfl rfl ?_
    refine go_iload_n 53 3 dX4_findSums_52 rfl rfl rfl ?_
    refine go_iload_n 54 3 dX4_findSums_53 rfl rfl rfl ?_
    obtain ⟨P10, d11, hD, hR, vc⟩ := vc
    refine go_callVJ (M' := mX4_minor) (as := [vI x3, vI x3]) 57 dX4_findSums_54 rfl q1857 okX4_minor (MO_k hM.1) ck_4 rfl rfl rfl hD rfl hR ?_
    intro z8 h9 p1
    replace vc := vc z8 h9 p1
    obtain ⟨t12, g13, hM, vc⟩ := vc
    refine go_ladd 58 dX4_findSums_57 rfl ?_
    refine go_lastore 59 dX4_findSums_58 rfl (MO_k28 hM.1) vc.1 ?_
    replace vc := vc.2
    refine AWP.nm fun h14 eh14 => ?_
    replace vc := vc h14 eh14
    have hM : MS h14 o t12 g13 := by rw [eh14]; exact hM.fr (PE.L (by decide))
    refine go_iinc 62 (x3 + nI 1) [vR (some o), vI x1, vI x2, vI (x3 + nI 1)] dX4_findSums_59 rfl rfl (by rfl) rfl rfl ?_
    refine go_goto 31 dX4_findSums_62 (by decide) ?_
    exact vc

theorem bX4_changes_0 {h : Hp} {b : Nat × Nat} {Q : Rs → Hp → Prop} {o : Nat} {x1 : Int32} {x2 : Int32} {t : St} {g : Nat} (hM : MS h o t g) (vc : (∃ (P3 : Hp → Prop), Ret mX4_findSums 13 [vR (some o), vI x1, vI x2] h 0 0 (RV P3) ∧ ∀ h2, P3 h2 → (∃ t5 g6, MS h2 o t5 g6 ∧ AWP mX4_changes 14 14 [vR (some o), vI x1, vI x2, vI (nI 0), vI (nI 1), vI (nI 1)] [] h2 b Q))) : AWP mX4_changes 14 0 [vR (some o), vI x1, vI x2, vU, vU, vU] [] h b Q := by
  refine go_aload_n 1 0 dX4_changes_0 rfl rfl rfl ?_
  refine go_iload_n 2 1 dX4_changes_1 rfl rfl rfl ?_
  refine go_iload_n 3 2 dX4_changes_2 rfl rfl rfl ?_
  obtain ⟨P3, hR, vc⟩ := vc
  refine go_callVV (M' := mX4_findSums) (as := [vI x1, vI x2]) 6 dX4_changes_3 rfl q1846 okX4_findSums (MO_k hM.1) ck_4 rfl rfl rfl rfl rfl hR ?_
  intro h2 p1
  replace vc := vc h2 p1
  obtain ⟨t5, g6, hM, vc⟩ := vc
  refine go_iconst (v := nI 0) 7 dX4_changes_6 rfl (by decide) ?_
  refine go_istore_n 8 3 [vR (some o), vI x1, vI x2, vI (nI 0), vU, vU] dX4_changes_7 rfl rfl rfl rfl ?_
  refine go_iconst (v := nI 1) 9 dX4_changes_8 rfl (by decide) ?_
  refine go_istore 11 [vR (some o), vI x1, vI x2, vI (nI 0), vI (nI 1), vU] dX4_changes_9 rfl rfl rfl ?_
  refine go_iconst (v := nI 1) 12 dX4_changes_11 rfl (by decide) ?_
  refine go_istore 14 [vR (some o), vI x1, vI x2, vI (nI 0), vI (nI 1), vI (nI 1)] dX4_changes_12 rfl rfl rfl ?_
  exact vc

theorem bX4_changes_14 {h : Hp} {b : Nat × Nat} {Q : Rs → Hp → Prop} {o : Nat} {x1 : Int32} {x2 : Int32} {x3 : Int32} {x4 : Int32} {x5 : Int32} {t : St} {g : Nat} (hM : MS h o t g) (vc : (((hFI h 437 o) < x5 → Q (rI x3) h) ∧ (¬ (hFI h 437 o) < x5 → (vp_in x5 7 ∧ (((lg_cmp (hAL h (o + 28) (nt x5)) 0) = 0 → AWP mX4_changes 14 14 [vR (some o), vI x1, vI x2, vI x3, vI x4, vI (x5 + nI 1)] [] h b Q) ∧ (¬ (lg_cmp (hAL h (o + 28) (nt x5)) 0) = 0 → (vp_in x5 7 ∧ (((lg_cmp (hAL h (o + 28) (nt x5)) 0) ≤ 0 → AWP mX4_changes 14 52 [vR (some o), vI x1, vI x2, vI x3, vI x4, vI x5] [vI (nI 0)] h b Q) ∧ (¬ (lg_cmp (hAL h (o + 28) (nt x5)) 0) ≤ 0 → AWP mX4_changes 14 52 [vR (some o), vI x1, vI x2, vI x3, vI x4, vI x5] [vI (nI 1)] h b Q))))))))) : AWP mX4_changes 14 14 [vR (some o), vI x1, vI x2, vI x3, vI x4, vI x5] [] h b Q := by
  refine go_iload 16 dX4_changes_14 rfl rfl ?_
  refine go_aload_n 17 0 dX4_changes_16 rfl rfl rfl ?_
  refine go_getI 20 dX4_changes_17 rfl (MO_k hM.1) gfX4_316_5 rfl ?_
  refine go_icmp_gt 23 81 dX4_changes_20 rfl (by decide) (fun e1 => ?_) (fun e1 => ?_)
  · replace vc := vc.1 e1
    refine go_iload_n 82 3 dX4_changes_81 rfl rfl rfl ?_
    exact go_ireturn dX4_changes_82 rfl vc
  · replace vc := vc.2 e1
    refine go_aload_n 24 0 dX4_changes_23 rfl rfl rfl ?_
    refine go_getRe 27 dX4_changes_24 rfl (MO_k hM.1) gfX4_94_5 rfl (MO_f1438 hM.1) ?_
    refine go_iload 29 dX4_changes_27 rfl rfl ?_
    refine go_laload 30 dX4_changes_29 rfl (MO_k28 hM.1) vc.1 ?_
    replace vc := vc.2
    refine go_lconst (v := 0) 31 dX4_changes_30 rfl (by decide) ?_
    refine go_lcmp 32 dX4_changes_31 rfl ?_
    refine go_if_eq 35 75 dX4_changes_32 rfl (by decide) (fun e2 => ?_) (fun e2 => ?_)
    · replace vc := vc.1 e2
      refine go_iinc 78 (x5 + nI 1) [vR (some o), vI x1, vI x2, vI x3, vI x4, vI (x5 + nI 1)] dX4_changes_75 rfl rfl (by rfl) rfl rfl ?_
      refine go_goto 14 dX4_changes_78 (by decide) ?_
      exact vc
    · replace vc := vc.2 e2
      refine go_aload_n 36 0 dX4_changes_35 rfl rfl rfl ?_
      refine go_getRe 39 dX4_changes_36 rfl (MO_k hM.1) gfX4_94_5 rfl (MO_f1438 hM.1) ?_
      refine go_iload 41 dX4_changes_39 rfl rfl ?_
      refine go_laload 42 dX4_changes_41 rfl (MO_k28 hM.1) vc.1 ?_
      replace vc := vc.2
      refine go_lconst (v := 0) 43 dX4_changes_42 rfl (by decide) ?_
      refine go_lcmp 44 dX4_changes_43 rfl ?_
      refine go_if_le 47 51 dX4_changes_44 rfl (by decide) (fun e3 => ?_) (fun e3 => ?_)
      · replace vc := vc.1 e3
        refine go_iconst (v := nI 0) 52 dX4_changes_51 rfl (by decide) ?_
        exact vc
      · replace vc := vc.2 e3
        refine go_iconst (v := nI 1) 48 dX4_changes_47 rfl (by decide) ?_
        refine go_goto 52 dX4_changes_48 (by decide) ?_
        exact vc

theorem bX4_changes_52 {h : Hp} {b : Nat × Nat} {Q : Rs → Hp → Prop} {o : Nat} {x1 : Int32} {x2 : Int32} {x3 : Int32} {x4 : Int32} {x5 : Int32} {s0 : Int32} {t : St} {g : Nat} (hM : MS h o t g) (vc : ((¬ s0 = x4 → ((¬ x4 = 0 → AWP mX4_changes 14 14 [vR (some o), vI x1, vI x2, vI (x3 + nI 1), vI (nI 0), vI (x5 + nI 1)] [] h b Q) ∧ (x4 = 0 → AWP mX4_changes 14 14 [vR (some o), vI x1, vI x2, vI (x3 + nI 1), vI (nI 1), vI (x5 + nI 1)] [] h b Q))) ∧ (s0 = x4 → AWP mX4_changes 14 14 [vR (some o), vI x1, vI x2, vI x3, vI x4, vI (x5 + nI 1)] [] h b Q))) : AWP mX4_changes 14 52 [vR (some o), vI x1, vI x2, vI x3, vI x4, vI x5] [vI s0] h b Q := by
  refine go_iload 54 dX4_changes_52 rfl rfl ?_
  refine go_icmp_ne 57 60 dX4_changes_54 rfl (by decide) (fun e1 => ?_) (fun e1 => ?_)
  · replace vc := vc.1 e1
    refine go_iload 62 dX4_changes_60 rfl rfl ?_
    refine go_if_ne 65 69 dX4_changes_62 rfl (by decide) (fun e2 => ?_) (fun e2 => ?_)
    · replace vc := vc.1 e2
      refine go_iconst (v := nI 0) 70 dX4_changes_69 rfl (by decide) ?_
      refine go_istore 72 [vR (some o), vI x1, vI x2, vI x3, vI (nI 0), vI x5] dX4_changes_70 rfl rfl rfl ?_
      refine go_iinc 75 (x3 + nI 1) [vR (some o), vI x1, vI x2, vI (x3 + nI 1), vI (nI 0), vI x5] dX4_changes_72 rfl rfl (by rfl) rfl rfl ?_
      refine go_iinc 78 (x5 + nI 1) [vR (some o), vI x1, vI x2, vI (x3 + nI 1), vI (nI 0), vI (x5 + nI 1)] dX4_changes_75 rfl rfl (by rfl) rfl rfl ?_
      refine go_goto 14 dX4_changes_78 (by decide) ?_
      exact vc
    · replace vc := vc.2 e2
      refine go_iconst (v := nI 1) 66 dX4_changes_65 rfl (by decide) ?_
      refine go_goto 70 dX4_changes_66 (by decide) ?_
      refine go_istore 72 [vR (some o), vI x1, vI x2, vI x3, vI (nI 1), vI x5] dX4_changes_70 rfl rfl rfl ?_
      refine go_iinc 75 (x3 + nI 1) [vR (some o), vI x1, vI x2, vI (x3 + nI 1), vI (nI 1), vI x5] dX4_changes_72 rfl rfl (by rfl) rfl rfl ?_
      refine go_iinc 78 (x5 + nI 1) [vR (some o), vI x1, vI x2, vI (x3 + nI 1), vI (nI 1), vI (x5 + nI 1)] dX4_changes_75 rfl rfl (by rfl) rfl rfl ?_
      refine go_goto 14 dX4_changes_78 (by decide) ?_
      exact vc
  · replace vc := vc.2 e1
    refine go_goto 75 dX4_changes_57 (by decide) ?_
    refine go_iinc 78 (x5 + nI 1) [vR (some o), vI x1, vI x2, vI x3, vI x4, vI (x5 + nI 1)] dX4_changes_75 rfl rfl (by rfl) rfl rfl ?_
    refine go_goto 14 dX4_changes_78 (by decide) ?_
    exact vc

theorem bX4_atMark_0 {h : Hp} {b : Nat × Nat} {Q : Rs → Hp → Prop} {o : Nat} {x1 : Int32} {x2 : Int32} {t : St} {g : Nat} (hM : MS h o t g) (vc : (∃ (P3 : Hp → Prop), Ret mX4_findSums 13 [vR (some o), vI x1, vI x2] h 0 0 (RV P3) ∧ ∀ h2, P3 h2 → (∃ t5 g6, MS h2 o t5 g6 ∧ AWP mX4_atMark 14 14 [vR (some o), vI x1, vI x2, vI (nI 0), vI (hFI h2 437 o)] [] h2 b Q))) : AWP mX4_atMark 14 0 [vR (some o), vI x1, vI x2, vU, vU] [] h b Q := by
  refine go_aload_n 1 0 dX4_atMark_0 rfl rfl rfl ?_
  refine go_iload_n 2 1 dX4_atMark_1 rfl rfl rfl ?_
  refine go_iload_n 3 2 dX4_atMark_2 rfl rfl rfl ?_
  obtain ⟨P3, hR, vc⟩ := vc
  refine go_callVV (M' := mX4_findSums) (as := [vI x1, vI x2]) 6 dX4_atMark_3 rfl q1846 okX4_findSums (MO_k hM.1) ck_4 rfl rfl rfl rfl rfl hR ?_
  intro h2 p1
  replace vc := vc h2 p1
  obtain ⟨t5, g6, hM, vc⟩ := vc
  refine go_iconst (v := nI 0) 7 dX4_atMark_6 rfl (by decide) ?_
  refine go_istore_n 8 3 [vR (some o), vI x1, vI x2, vI (nI 0), vU] dX4_atMark_7 rfl rfl rfl rfl ?_
  refine go_aload_n 9 0 dX4_atMark_8 rfl rfl rfl ?_
  refine go_getI 12 dX4_atMark_9 rfl (MO_k hM.1) gfX4_316_5 rfl ?_
  refine go_istore 14 [vR (some o), vI x1, vI x2, vI (nI 0), vI (hFI h2 437 o)] dX4_atMark_12 rfl rfl rfl ?_
  exact vc

theorem bX4_atMark_14 {h : Hp} {b : Nat × Nat} {Q : Rs → Hp → Prop} {o : Nat} {x1 : Int32} {x2 : Int32} {x3 : Int32} {x4 : Int32} {t : St} {g : Nat} (hM : MS h o t g) (vc : ((x4 ≤ 0 → Q (rI x3) h) ∧ (¬ x4 ≤ 0 → (vp_in x4 7 ∧ ((¬ (lg_cmp (hAL h (o + 28) (nt x4)) 0) = 0 → Q (rI x3) h) ∧ ((lg_cmp (hAL h (o + 28) (nt x4)) 0) = 0 → AWP mX4_atMark 14 14 [vR (some o), vI x1, vI x2, vI (x3 + nI 1), vI (x4 + (-1))] [] h b Q)))))) : AWP mX4_atMark 14 14 [vR (some o), vI x1, vI x2, vI x3, vI x4] [] h b Q := by
  refine go_iload 16 dX4_atMark_14 rfl rfl ?_
  refine go_if_le 19 40 dX4_atMark_16 rfl (by decide) (fun e1 => ?_) (fun e1 => ?_)
  · replace vc := vc.1 e1
    refine go_iload_n 41 3 dX4_atMark_40 rfl rfl rfl ?_
    exact go_ireturn dX4_atMark_41 rfl vc
  · replace vc := vc.2 e1
    refine go_aload_n 20 0 dX4_atMark_19 rfl rfl rfl ?_
    refine go_getRe 23 dX4_atMark_20 rfl (MO_k hM.1) gfX4_94_5 rfl (MO_f1438 hM.1) ?_
    refine go_iload 25 dX4_atMark_23 rfl rfl ?_
    refine go_laload 26 dX4_atMark_25 rfl (MO_k28 hM.1) vc.1 ?_
    replace vc := vc.2
    refine go_lconst (v := 0) 27 dX4_atMark_26 rfl (by decide) ?_
    refine go_lcmp 28 dX4_atMark_27 rfl ?_
    refine go_if_ne 31 40 dX4_atMark_28 rfl (by decide) (fun e2 => ?_) (fun e2 => ?_)
    · replace vc := vc.1 e2
      refine go_iload_n 41 3 dX4_atMark_40 rfl rfl rfl ?_
      exact go_ireturn dX4_atMark_41 rfl vc
    · replace vc := vc.2 e2
      refine go_iinc 34 (x3 + nI 1) [vR (some o), vI x1, vI x2, vI (x3 + nI 1), vI x4] dX4_atMark_31 rfl rfl (by rfl) rfl rfl ?_
      refine go_iinc 37 (x4 + (-1)) [vR (some o), vI x1, vI x2, vI (x3 + nI 1), vI (x4 + (-1))] dX4_atMark_34 rfl rfl (by rfl) rfl rfl ?_
      refine go_goto 14 dX4_atMark_37 (by decide) ?_
      exact vc

theorem bX4_below_0 {h : Hp} {b : Nat × Nat} {Q : Rs → Hp → Prop} {o : Nat} {x1 : Int32} {x2 : Int32} {x3 : Int32} {t : St} {g : Nat} (hM : MS h o t g) (vc : ((¬ (isSh t x1) → Q (rI (-1)) h) ∧ ((isSh t x1) → ((¬ (isMk x2) → Q (rI (-1)) h) ∧ ((isMk x2) → (((bt x3 0 1) → (∃ (P6 : Hp → Prop), Ret mX4_take 2 [vR (some o), vI x1] h 0 0 (RV P6) ∧ ∀ h5, P6 h5 → (∃ t8 g9, MS h5 o t8 g9 ∧ ((¬ x3 = 0 → (∃ (P13 : Int32 → Hp → Prop), Ret mX4_atMark 14 [vR (some o), vI (x2 / (nI 10)), vI (x2 - x2 / (nI 10) * (nI 10))] h5 0 0 (RI P13) ∧ ∀ z11 h12, P13 z11 h12 → (∃ t15 g16, MS h12 o t15 g16 ∧ Q (rI z11) h12))) ∧ (x3 = 0 → (∃ (P19 : Int32 → Hp → Prop), Ret mX4_changes 14 [vR (some o), vI (x2 / (nI 10)), vI (x2 - x2 / (nI 10) * (nI 10))] h5 0 0 (RI P19) ∧ ∀ z17 h18, P19 z17 h18 → (∃ t21 g22, MS h18 o t21 g22 ∧ Q (rI z17) h18))))))) ∧ (¬ (bt x3 0 1) → Q (rI (-1)) h))))))) : AWP mX4_below 15 0 [vR (some o), vI x1, vI x2, vI x3] [] h b Q := by
  refine go_aload_n 1 0 dX4_below_0 rfl rfl rfl ?_
  refine go_iload_n 2 1 dX4_below_1 rfl rfl rfl ?_
  refine go_callVI (M' := mX4_isShape) (as := [vI x1]) 5 dX4_below_2 rfl q1769 okX4_isShape (MO_k hM.1) ck_4 rfl rfl rfl rfl rfl (ctX4_isShape hM) ?_
  intro x0 h0 p0
  rw [p0.1, p0.2]
  refine go_if_eq 8 24 dX4_below_5 rfl (by decide) (fun e1 => ?_) (fun e1 => ?_)
  · replace vc := vc.1 (bI_0.mp e1)
    refine go_iconst (v := (-1)) 25 dX4_below_24 rfl (by decide) ?_
    exact go_ireturn dX4_below_25 rfl vc
  · replace vc := vc.2 (bI_n0.mp e1)
    refine go_iload_n 9 2 dX4_below_8 rfl rfl rfl ?_
    refine go_callSI (M' := mX4_isMark) (as := [vI x2]) 12 dX4_below_9 rfl q1832 okX4_isMark rfl rfl rfl rfl rfl (ctX4_isMark) ?_
    intro x0 h0 p0
    rw [p0.1, p0.2]
    refine go_if_eq 15 24 dX4_below_12 rfl (by decide) (fun e2 => ?_) (fun e2 => ?_)
    · replace vc := vc.1 (bI_0.mp e2)
      refine go_iconst (v := (-1)) 25 dX4_below_24 rfl (by decide) ?_
      exact go_ireturn dX4_below_25 rfl vc
    · replace vc := vc.2 (bI_n0.mp e2)
      refine go_iload_n 16 3 dX4_below_15 rfl rfl rfl ?_
      refine go_iconst (v := nI 0) 17 dX4_below_16 rfl (by decide) ?_
      refine go_iconst (v := nI 1) 18 dX4_below_17 rfl (by decide) ?_
      refine go_callSI (M' := mX4_in) (as := [vI x3, vI (nI 0), vI (nI 1)]) 21 dX4_below_18 rfl q1703 okX4_in rfl rfl rfl rfl rfl (ctX4_inL rfl rfl) ?_
      intro x0 h0 p0
      rw [p0.1, p0.2]
      refine go_if_ne 24 26 dX4_below_21 rfl (by decide) (fun e3 => ?_) (fun e3 => ?_)
      · replace vc := vc.1 (bI_n0.mp e3)
        refine go_aload_n 27 0 dX4_below_26 rfl rfl rfl ?_
        refine go_iload_n 28 1 dX4_below_27 rfl rfl rfl ?_
        obtain ⟨P6, hR, vc⟩ := vc
        refine go_callVV (M' := mX4_take) (as := [vI x1]) 31 dX4_below_28 rfl q1835 okX4_take (MO_k hM.1) ck_4 rfl rfl rfl rfl rfl hR ?_
        intro h5 p1
        replace vc := vc h5 p1
        obtain ⟨t8, g9, hM, vc⟩ := vc
        refine go_iload_n 32 3 dX4_below_31 rfl rfl rfl ?_
        refine go_if_ne 35 50 dX4_below_32 rfl (by decide) (fun e10 => ?_) (fun e10 => ?_)
        · replace vc := vc.1 e10
          refine go_aload_n 51 0 dX4_below_50 rfl rfl rfl ?_
          refine go_iload_n 52 2 dX4_below_51 rfl rfl rfl ?_
          refine go_bipush (v := nI 10) 54 dX4_below_52 rfl (by decide) ?_
          refine go_idiv 55 dX4_below_54 rfl (by decide) ?_
          refine go_iload_n 56 2 dX4_below_55 rfl rfl rfl ?_
          refine go_bipush (v := nI 10) 58 dX4_below_56 rfl (by decide) ?_
          refine go_irem 59 dX4_below_58 rfl (by decide) ?_
          obtain ⟨P13, hR, vc⟩ := vc
          refine go_callVI (M' := mX4_atMark) (as := [vI (x2 / (nI 10)), vI (x2 - x2 / (nI 10) * (nI 10))]) 62 dX4_below_59 rfl q1861 okX4_atMark (MO_k hM.1) ck_4 rfl rfl rfl rfl rfl hR ?_
          intro z11 h12 p1
          replace vc := vc z11 h12 p1
          obtain ⟨t15, g16, hM, vc⟩ := vc
          exact go_ireturn dX4_below_62 rfl vc
        · replace vc := vc.2 e10
          refine go_aload_n 36 0 dX4_below_35 rfl rfl rfl ?_
          refine go_iload_n 37 2 dX4_below_36 rfl rfl rfl ?_
          refine go_bipush (v := nI 10) 39 dX4_below_37 rfl (by decide) ?_
          refine go_idiv 40 dX4_below_39 rfl (by decide) ?_
          refine go_iload_n 41 2 dX4_below_40 rfl rfl rfl ?_
          refine go_bipush (v := nI 10) 43 dX4_below_41 rfl (by decide) ?_
          refine go_irem 44 dX4_below_43 rfl (by decide) ?_
          obtain ⟨P19, hR, vc⟩ := vc
          refine go_callVI (M' := mX4_changes) (as := [vI (x2 / (nI 10)), vI (x2 - x2 / (nI 10) * (nI 10))]) 47 dX4_below_44 rfl q1842 okX4_changes (MO_k hM.1) ck_4 rfl rfl rfl rfl rfl hR ?_
          intro z17 h18 p1
          replace vc := vc z17 h18 p1
          obtain ⟨t21, g22, hM, vc⟩ := vc
          refine go_goto 62 dX4_below_47 (by decide) ?_
          exact go_ireturn dX4_below_62 rfl vc
      · replace vc := vc.2 (bI_0.mp e3)
        refine go_iconst (v := (-1)) 25 dX4_below_24 rfl (by decide) ?_
        exact go_ireturn dX4_below_25 rfl vc

theorem bX4_sums_0 {h : Hp} {b : Nat × Nat} {Q : Rs → Hp → Prop} {o : Nat} {x1 : Int32} {x2 : Int32} {x3 : Int32} {t : St} {g : Nat} (hM : MS h o t g) (vc : ((¬ (isSh t x1) → Q (rJ (-9223372036854775808)) h) ∧ ((isSh t x1) → ((¬ (isMk x2) → Q (rJ (-9223372036854775808)) h) ∧ ((isMk x2) → (isSh t x1 ∧ ((((nI 0) ≤ x3 ∧ x3 ≤ (nI (tones t (nt x1)))) → (∃ (P6 : Hp → Prop), Ret mX4_take 2 [vR (some o), vI x1] h 0 0 (RV P6) ∧ ∀ h5, P6 h5 → (∃ t8 g9, MS h5 o t8 g9 ∧ (∃ (P12 : Hp → Prop), Ret mX4_findSums 13 [vR (some o), vI (x2 / (nI 10)), vI (x2 - x2 / (nI 10) * (nI 10))] h5 0 0 (RV P12) ∧ ∀ h11, P12 h11 → (∃ t14 g15, MS h11 o t14 g15 ∧ (vp_in x3 7 ∧ Q (rJ (hAL h11 (o + 28) (nt x3))) h11)))))) ∧ (¬ ((nI 0) ≤ x3 ∧ x3 ≤ (nI (tones t (nt x1)))) → Q (rJ (-9223372036854775808)) h)))))))) : AWP mX4_sums 14 0 [vR (some o), vI x1, vI x2, vI x3] [] h b Q := by
  refine go_aload_n 1 0 dX4_sums_0 rfl rfl rfl ?_
  refine go_iload_n 2 1 dX4_sums_1 rfl rfl rfl ?_
  refine go_callVI (M' := mX4_isShape) (as := [vI x1]) 5 dX4_sums_2 rfl q1769 okX4_isShape (MO_k hM.1) ck_4 rfl rfl rfl rfl rfl (ctX4_isShape hM) ?_
  intro x0 h0 p0
  rw [p0.1, p0.2]
  refine go_if_eq 8 28 dX4_sums_5 rfl (by decide) (fun e1 => ?_) (fun e1 => ?_)
  · replace vc := vc.1 (bI_0.mp e1)
    refine go_ldc2 31 dX4_sums_28 rfl q1869 ?_
    exact go_lreturn dX4_sums_31 rfl vc
  · replace vc := vc.2 (bI_n0.mp e1)
    refine go_iload_n 9 2 dX4_sums_8 rfl rfl rfl ?_
    refine go_callSI (M' := mX4_isMark) (as := [vI x2]) 12 dX4_sums_9 rfl q1832 okX4_isMark rfl rfl rfl rfl rfl (ctX4_isMark) ?_
    intro x0 h0 p0
    rw [p0.1, p0.2]
    refine go_if_eq 15 28 dX4_sums_12 rfl (by decide) (fun e2 => ?_) (fun e2 => ?_)
    · replace vc := vc.1 (bI_0.mp e2)
      refine go_ldc2 31 dX4_sums_28 rfl q1869 ?_
      exact go_lreturn dX4_sums_31 rfl vc
    · replace vc := vc.2 (bI_n0.mp e2)
      refine go_iload_n 16 3 dX4_sums_15 rfl rfl rfl ?_
      refine go_iconst (v := nI 0) 17 dX4_sums_16 rfl (by decide) ?_
      refine go_aload_n 18 0 dX4_sums_17 rfl rfl rfl ?_
      refine go_iload_n 19 1 dX4_sums_18 rfl rfl rfl ?_
      refine go_callVI (M' := mX4_tonesOf) (as := [vI x1]) 22 dX4_sums_19 rfl q1778 okX4_tonesOf (MO_k hM.1) ck_4 rfl rfl rfl rfl rfl (ctX4_tonesOf hM vc.1) ?_
      replace vc := vc.2
      intro x0 h0 p0
      rw [p0.1, p0.2]
      refine go_callSI (M' := mX4_in) (as := [vI x3, vI (nI 0), vI (nI (tones t (nt x1)))]) 25 dX4_sums_22 rfl q1703 okX4_in rfl rfl rfl rfl rfl (ctX4_in) ?_
      intro x0 h0 p0
      rw [p0.1, p0.2]
      refine go_if_ne 28 32 dX4_sums_25 rfl (by decide) (fun e3 => ?_) (fun e3 => ?_)
      · replace vc := vc.1 (bI_n0.mp e3)
        refine go_aload_n 33 0 dX4_sums_32 rfl rfl rfl ?_
        refine go_iload_n 34 1 dX4_sums_33 rfl rfl rfl ?_
        obtain ⟨P6, hR, vc⟩ := vc
        refine go_callVV (M' := mX4_take) (as := [vI x1]) 37 dX4_sums_34 rfl q1835 okX4_take (MO_k hM.1) ck_4 rfl rfl rfl rfl rfl hR ?_
        intro h5 p1
        replace vc := vc h5 p1
        obtain ⟨t8, g9, hM, vc⟩ := vc
        refine go_aload_n 38 0 dX4_sums_37 rfl rfl rfl ?_
        refine go_iload_n 39 2 dX4_sums_38 rfl rfl rfl ?_
        refine go_bipush (v := nI 10) 41 dX4_sums_39 rfl (by decide) ?_
        refine go_idiv 42 dX4_sums_41 rfl (by decide) ?_
        refine go_iload_n 43 2 dX4_sums_42 rfl rfl rfl ?_
        refine go_bipush (v := nI 10) 45 dX4_sums_43 rfl (by decide) ?_
        refine go_irem 46 dX4_sums_45 rfl (by decide) ?_
        obtain ⟨P12, hR, vc⟩ := vc
        refine go_callVV (M' := mX4_findSums) (as := [vI (x2 / (nI 10)), vI (x2 - x2 / (nI 10) * (nI 10))]) 49 dX4_sums_46 rfl q1846 okX4_findSums (MO_k hM.1) ck_4 rfl rfl rfl rfl rfl hR ?_
        intro h11 p1
        replace vc := vc h11 p1
        obtain ⟨t14, g15, hM, vc⟩ := vc
        refine go_aload_n 50 0 dX4_sums_49 rfl rfl rfl ?_
        refine go_getRe 53 dX4_sums_50 rfl (MO_k hM.1) gfX4_94_5 rfl (MO_f1438 hM.1) ?_
        refine go_iload_n 54 3 dX4_sums_53 rfl rfl rfl ?_
        refine go_laload 55 dX4_sums_54 rfl (MO_k28 hM.1) vc.1 ?_
        replace vc := vc.2
        exact go_lreturn dX4_sums_55 rfl vc
      · replace vc := vc.2 (bI_0.mp e3)
        refine go_ldc2 31 dX4_sums_28 rfl q1869 ?_
        exact go_lreturn dX4_sums_31 rfl vc

theorem bX4_forgetChanges_0 {h : Hp} {b : Nat × Nat} {Q : Rs → Hp → Prop} {o : Nat}  {t : St} {g : Nat} (hM : MS h o t g) (vc : AWP mX4_forgetChanges 0 2 [vR (some o), vI (nI 0)] [] h b Q) : AWP mX4_forgetChanges 0 0 [vR (some o), vU] [] h b Q := by
  refine go_iconst (v := nI 0) 1 dX4_forgetChanges_0 rfl (by decide) ?_
  refine go_istore_n 2 1 [vR (some o), vI (nI 0)] dX4_forgetChanges_1 rfl rfl rfl rfl ?_
  exact vc

theorem bX4_forgetChanges_2 {h : Hp} {b : Nat × Nat} {Q : Rs → Hp → Prop} {o : Nat} {x1 : Int32} {t : St} {g : Nat} (hM : MS h o t g) (vc : (((nI 100) ≤ x1 → Q rV h) ∧ (¬ (nI 100) ≤ x1 → (vp_in x1 100 ∧ (∀ h2, h2 = w1 h (o + 32) (nt x1) (nI 0) → AWP mX4_forgetChanges 0 2 [vR (some o), vI (x1 + nI 1)] [] h2 b Q))))) : AWP mX4_forgetChanges 0 2 [vR (some o), vI x1] [] h b Q := by
  refine go_iload_n 3 1 dX4_forgetChanges_2 rfl rfl rfl ?_
  refine go_bipush (v := nI 100) 5 dX4_forgetChanges_3 rfl (by decide) ?_
  refine go_icmp_ge 8 21 dX4_forgetChanges_5 rfl (by decide) (fun e1 => ?_) (fun e1 => ?_)
  · replace vc := vc.1 e1
    exact go_return dX4_forgetChanges_21 rfl vc
  · replace vc := vc.2 e1
    refine go_aload_n 9 0 dX4_forgetChanges_8 rfl rfl rfl ?_
    refine go_getRe 12 dX4_forgetChanges_9 rfl (MO_k hM.1) gfX4_106_5 rfl (MO_f1443 hM.1) ?_
    refine go_iload_n 13 1 dX4_forgetChanges_12 rfl rfl rfl ?_
    refine go_iconst (v := nI 0) 14 dX4_forgetChanges_13 rfl (by decide) ?_
    refine go_iastore 15 dX4_forgetChanges_14 rfl (MO_k32 hM.1) vc.1 ?_
    replace vc := vc.2
    refine AWP.nm fun h2 eh2 => ?_
    replace vc := vc h2 eh2
    have hM : MS h2 o t g := by rw [eh2]; exact hM.fr (PE.A rfl)
    refine go_iinc 18 (x1 + nI 1) [vR (some o), vI (x1 + nI 1)] dX4_forgetChanges_15 rfl rfl (by rfl) rfl rfl ?_
    refine go_goto 2 dX4_forgetChanges_18 (by decide) ?_
    exact vc

theorem bX4_shutOf_0 {h : Hp} {b : Nat × Nat} {Q : Rs → Hp → Prop} {o : Nat} {x1 : Int32} {x2 : Int32} {t : St} {g : Nat} (hM : MS h o t g) (vc : AWP mX4_shutOf 15 6 [vR (some o), vI x1, vI x2, vI (nI 0), vI (nI 100), vU] [] h b Q) : AWP mX4_shutOf 15 0 [vR (some o), vI x1, vI x2, vU, vU, vU] [] h b Q := by
  refine go_iconst (v := nI 0) 1 dX4_shutOf_0 rfl (by decide) ?_
  refine go_istore_n 2 3 [vR (some o), vI x1, vI x2, vI (nI 0), vU, vU] dX4_shutOf_1 rfl rfl rfl rfl ?_
  refine go_bipush (v := nI 100) 4 dX4_shutOf_2 rfl (by decide) ?_
  refine go_istore 6 [vR (some o), vI x1, vI x2, vI (nI 0), vI (nI 100), vU] dX4_shutOf_4 rfl rfl rfl ?_
  exact vc

theorem bX4_shutOf_6 {h : Hp} {b : Nat × Nat} {Q : Rs → Hp → Prop} {o : Nat} {x1 : Int32} {x2 : Int32} {x3 : Int32} {x4 : Int32} {y5 : AV} {t : St} {g : Nat} (hM : MS h o t g) (vc : (((x4 - x3) ≤ (nI 1) → Q (rI x3) h) ∧ (¬ (x4 - x3) ≤ (nI 1) → (vp_in ((x3 + x4) / (nI 2)) 100 ∧ ((¬ (hAI h (o + 32) (nt ((x3 + x4) / (nI 2)))) = 0 → AWP mX4_shutOf 15 48 [vR (some o), vI x1, vI x2, vI x3, vI x4, vI ((x3 + x4) / (nI 2))] [] h b Q) ∧ ((hAI h (o + 32) (nt ((x3 + x4) / (nI 2)))) = 0 → (∃ (P5 : Int32 → Hp → Prop), Ret mX4_changes 14 [vR (some o), vI ((x3 + x4) / (nI 2)), vI x2] h 0 0 (RI P5) ∧ ∀ z3 h4, P5 z3 h4 → (∃ t7 g8, MS h4 o t7 g8 ∧ (vp_in ((x3 + x4) / (nI 2)) 100 ∧ (∀ h9, h9 = w1 h4 (o + 32) (nt ((x3 + x4) / (nI 2))) ((nI 1) + z3) → AWP mX4_shutOf 15 48 [vR (some o), vI x1, vI x2, vI x3, vI x4, vI ((x3 + x4) / (nI 2))] [] h9 b Q)))))))))) : AWP mX4_shutOf 15 6 [vR (some o), vI x1, vI x2, vI x3, vI x4, y5] [] h b Q := by
  refine go_iload 8 dX4_shutOf_6 rfl rfl ?_
  refine go_iload_n 9 3 dX4_shutOf_8 rfl rfl rfl ?_
  refine go_isub 10 dX4_shutOf_9 rfl ?_
  refine go_iconst (v := nI 1) 11 dX4_shutOf_10 rfl (by decide) ?_
  refine go_icmp_le 14 74 dX4_shutOf_11 rfl (by decide) (fun e1 => ?_) (fun e1 => ?_)
  · replace vc := vc.1 e1
    refine go_iload_n 75 3 dX4_shutOf_74 rfl rfl rfl ?_
    exact go_ireturn dX4_shutOf_75 rfl vc
  · replace vc := vc.2 e1
    refine go_iload_n 15 3 dX4_shutOf_14 rfl rfl rfl ?_
    refine go_iload 17 dX4_shutOf_15 rfl rfl ?_
    refine go_iadd 18 dX4_shutOf_17 rfl ?_
    refine go_iconst (v := nI 2) 19 dX4_shutOf_18 rfl (by decide) ?_
    refine go_idiv 20 dX4_shutOf_19 rfl (by decide) ?_
    refine go_istore 22 [vR (some o), vI x1, vI x2, vI x3, vI x4, vI ((x3 + x4) / (nI 2))] dX4_shutOf_20 rfl rfl rfl ?_
    refine go_aload_n 23 0 dX4_shutOf_22 rfl rfl rfl ?_
    refine go_getRe 26 dX4_shutOf_23 rfl (MO_k hM.1) gfX4_106_5 rfl (MO_f1443 hM.1) ?_
    refine go_iload 28 dX4_shutOf_26 rfl rfl ?_
    refine go_iaload 29 dX4_shutOf_28 rfl (MO_k32 hM.1) vc.1 ?_
    replace vc := vc.2
    refine go_if_ne 32 48 dX4_shutOf_29 rfl (by decide) (fun e2 => ?_) (fun e2 => ?_)
    · replace vc := vc.1 e2
      exact vc
    · replace vc := vc.2 e2
      refine go_aload_n 33 0 dX4_shutOf_32 rfl rfl rfl ?_
      refine go_getRe 36 dX4_shutOf_33 rfl (MO_k hM.1) gfX4_106_5 rfl (MO_f1443 hM.1) ?_
      refine go_iload 38 dX4_shutOf_36 rfl rfl ?_
      refine go_iconst (v := nI 1) 39 dX4_shutOf_38 rfl (by decide) ?_
      refine go_aload_n 40 0 dX4_shutOf_39 rfl rfl rfl ?_
      refine go_iload 42 dX4_shutOf_40 rfl rfl ?_
      refine go_iload_n 43 2 dX4_shutOf_42 rfl rfl rfl ?_
      obtain ⟨P5, hR, vc⟩ := vc
      refine go_callVI (M' := mX4_changes) (as := [vI ((x3 + x4) / (nI 2)), vI x2]) 46 dX4_shutOf_43 rfl q1842 okX4_changes (MO_k hM.1) ck_4 rfl rfl rfl rfl rfl hR ?_
      intro z3 h4 p1
      replace vc := vc z3 h4 p1
      obtain ⟨t7, g8, hM, vc⟩ := vc
      refine go_iadd 47 dX4_shutOf_46 rfl ?_
      refine go_iastore 48 dX4_shutOf_47 rfl (MO_k32 hM.1) vc.1 ?_
      replace vc := vc.2
      refine AWP.nm fun h9 eh9 => ?_
      replace vc := vc h9 eh9
      have hM : MS h9 o t7 g8 := by rw [eh9]; exact hM.fr (PE.A rfl)
      exact vc

theorem bX4_shutOf_48 {h : Hp} {b : Nat × Nat} {Q : Rs → Hp → Prop} {o : Nat} {x1 : Int32} {x2 : Int32} {x3 : Int32} {x4 : Int32} {x5 : Int32} {t : St} {g : Nat} (hM : MS h o t g) (vc : (vp_in x5 100 ∧ ((x1 < ((hAI h (o + 32) (nt x5)) - (nI 1)) → AWP mX4_shutOf 15 6 [vR (some o), vI x1, vI x2, vI x3, vI x5, vI x5] [] h b Q) ∧ (¬ x1 < ((hAI h (o + 32) (nt x5)) - (nI 1)) → AWP mX4_shutOf 15 6 [vR (some o), vI x1, vI x2, vI x5, vI x4, vI x5] [] h b Q)))) : AWP mX4_shutOf 15 48 [vR (some o), vI x1, vI x2, vI x3, vI x4, vI x5] [] h b Q := by
  refine go_aload_n 49 0 dX4_shutOf_48 rfl rfl rfl ?_
  refine go_getRe 52 dX4_shutOf_49 rfl (MO_k hM.1) gfX4_106_5 rfl (MO_f1443 hM.1) ?_
  refine go_iload 54 dX4_shutOf_52 rfl rfl ?_
  refine go_iaload 55 dX4_shutOf_54 rfl (MO_k32 hM.1) vc.1 ?_
  replace vc := vc.2
  refine go_iconst (v := nI 1) 56 dX4_shutOf_55 rfl (by decide) ?_
  refine go_isub 57 dX4_shutOf_56 rfl ?_
  refine go_iload_n 58 1 dX4_shutOf_57 rfl rfl rfl ?_
  refine go_icmp_gt 61 67 dX4_shutOf_58 rfl (by decide) (fun e1 => ?_) (fun e1 => ?_)
  · replace vc := vc.1 e1
    refine go_iload 69 dX4_shutOf_67 rfl rfl ?_
    refine go_istore 71 [vR (some o), vI x1, vI x2, vI x3, vI x5, vI x5] dX4_shutOf_69 rfl rfl rfl ?_
    refine go_goto 6 dX4_shutOf_71 (by decide) ?_
    exact vc
  · replace vc := vc.2 e1
    refine go_iload 63 dX4_shutOf_61 rfl rfl ?_
    refine go_istore_n 64 3 [vR (some o), vI x1, vI x2, vI x5, vI x4, vI x5] dX4_shutOf_63 rfl rfl rfl rfl ?_
    refine go_goto 71 dX4_shutOf_64 (by decide) ?_
    refine go_goto 6 dX4_shutOf_71 (by decide) ?_
    exact vc

theorem bX4_shutNow_0 {h : Hp} {b : Nat × Nat} {Q : Rs → Hp → Prop} {o : Nat} {x1 : Int32} {x2 : Int32} {t : St} {g : Nat} (hM : MS h o t g) (vc : (∃ (P3 : Hp → Prop), Ret mX4_forgetChanges 0 [vR (some o)] h 0 0 (RV P3) ∧ ∀ h2, P3 h2 → (∃ t5 g6, MS h2 o t5 g6 ∧ (∃ (P9 : Int32 → Hp → Prop), Ret mX4_shutOf 15 [vR (some o), vI x1, vI x2] h2 0 0 (RI P9) ∧ ∀ z7 h8, P9 z7 h8 → (∃ t11 g12, MS h8 o t11 g12 ∧ Q (rI z7) h8))))) : AWP mX4_shutNow 16 0 [vR (some o), vI x1, vI x2] [] h b Q := by
  refine go_aload_n 1 0 dX4_shutNow_0 rfl rfl rfl ?_
  obtain ⟨P3, hR, vc⟩ := vc
  refine go_callVV (M' := mX4_forgetChanges) (as := []) 4 dX4_shutNow_1 rfl q1878 okX4_forgetChanges (MO_k hM.1) ck_4 rfl rfl rfl rfl rfl hR ?_
  intro h2 p1
  replace vc := vc h2 p1
  obtain ⟨t5, g6, hM, vc⟩ := vc
  refine go_aload_n 5 0 dX4_shutNow_4 rfl rfl rfl ?_
  refine go_iload_n 6 1 dX4_shutNow_5 rfl rfl rfl ?_
  refine go_iload_n 7 2 dX4_shutNow_6 rfl rfl rfl ?_
  obtain ⟨P9, hR, vc⟩ := vc
  refine go_callVI (M' := mX4_shutOf) (as := [vI x1, vI x2]) 10 dX4_shutNow_7 rfl q1882 okX4_shutOf (MO_k hM.1) ck_4 rfl rfl rfl rfl rfl hR ?_
  intro z7 h8 p1
  replace vc := vc z7 h8 p1
  obtain ⟨t11, g12, hM, vc⟩ := vc
  exact go_ireturn dX4_shutNow_10 rfl vc

theorem bX4_shut_0 {h : Hp} {b : Nat × Nat} {Q : Rs → Hp → Prop} {o : Nat} {x1 : Int32} {x2 : Int32} {x3 : Int32} {t : St} {g : Nat} (hM : MS h o t g) (vc : ((¬ (isSh t x1) → Q (rI (-1)) h) ∧ ((isSh t x1) → (isSh t x1 ∧ ((¬ ((nI 0) ≤ x2 ∧ x2 ≤ ((nI (tones t (nt x1))) - (nI 1))) → Q (rI (-1)) h) ∧ (((nI 0) ≤ x2 ∧ x2 ≤ ((nI (tones t (nt x1))) - (nI 1))) → (((bt x3 1 9) → (∃ (P6 : Hp → Prop), Ret mX4_take 2 [vR (some o), vI x1] h 0 0 (RV P6) ∧ ∀ h5, P6 h5 → (∃ t8 g9, MS h5 o t8 g9 ∧ (∃ (P12 : Int32 → Hp → Prop), Ret mX4_shutNow 16 [vR (some o), vI x2, vI x3] h5 0 0 (RI P12) ∧ ∀ z10 h11, P12 z10 h11 → (∃ t14 g15, MS h11 o t14 g15 ∧ Q (rI z10) h11))))) ∧ (¬ (bt x3 1 9) → Q (rI (-1)) h)))))))) : AWP mX4_shut 17 0 [vR (some o), vI x1, vI x2, vI x3] [] h b Q := by
  refine go_aload_n 1 0 dX4_shut_0 rfl rfl rfl ?_
  refine go_iload_n 2 1 dX4_shut_1 rfl rfl rfl ?_
  refine go_callVI (M' := mX4_isShape) (as := [vI x1]) 5 dX4_shut_2 rfl q1769 okX4_isShape (MO_k hM.1) ck_4 rfl rfl rfl rfl rfl (ctX4_isShape hM) ?_
  intro x0 h0 p0
  rw [p0.1, p0.2]
  refine go_if_eq 8 33 dX4_shut_5 rfl (by decide) (fun e1 => ?_) (fun e1 => ?_)
  · replace vc := vc.1 (bI_0.mp e1)
    refine go_iconst (v := (-1)) 34 dX4_shut_33 rfl (by decide) ?_
    exact go_ireturn dX4_shut_34 rfl vc
  · replace vc := vc.2 (bI_n0.mp e1)
    refine go_iload_n 9 2 dX4_shut_8 rfl rfl rfl ?_
    refine go_iconst (v := nI 0) 10 dX4_shut_9 rfl (by decide) ?_
    refine go_aload_n 11 0 dX4_shut_10 rfl rfl rfl ?_
    refine go_iload_n 12 1 dX4_shut_11 rfl rfl rfl ?_
    refine go_callVI (M' := mX4_tonesOf) (as := [vI x1]) 15 dX4_shut_12 rfl q1778 okX4_tonesOf (MO_k hM.1) ck_4 rfl rfl rfl rfl rfl (ctX4_tonesOf hM vc.1) ?_
    replace vc := vc.2
    intro x0 h0 p0
    rw [p0.1, p0.2]
    refine go_iconst (v := nI 1) 16 dX4_shut_15 rfl (by decide) ?_
    refine go_isub 17 dX4_shut_16 rfl ?_
    refine go_callSI (M' := mX4_in) (as := [vI x2, vI (nI 0), vI ((nI (tones t (nt x1))) - (nI 1))]) 20 dX4_shut_17 rfl q1703 okX4_in rfl rfl rfl rfl rfl (ctX4_in) ?_
    intro x0 h0 p0
    rw [p0.1, p0.2]
    refine go_if_eq 23 33 dX4_shut_20 rfl (by decide) (fun e2 => ?_) (fun e2 => ?_)
    · replace vc := vc.1 (bI_0.mp e2)
      refine go_iconst (v := (-1)) 34 dX4_shut_33 rfl (by decide) ?_
      exact go_ireturn dX4_shut_34 rfl vc
    · replace vc := vc.2 (bI_n0.mp e2)
      refine go_iload_n 24 3 dX4_shut_23 rfl rfl rfl ?_
      refine go_iconst (v := nI 1) 25 dX4_shut_24 rfl (by decide) ?_
      refine go_bipush (v := nI 9) 27 dX4_shut_25 rfl (by decide) ?_
      refine go_callSI (M' := mX4_in) (as := [vI x3, vI (nI 1), vI (nI 9)]) 30 dX4_shut_27 rfl q1703 okX4_in rfl rfl rfl rfl rfl (ctX4_inL rfl rfl) ?_
      intro x0 h0 p0
      rw [p0.1, p0.2]
      refine go_if_ne 33 35 dX4_shut_30 rfl (by decide) (fun e3 => ?_) (fun e3 => ?_)
      · replace vc := vc.1 (bI_n0.mp e3)
        refine go_aload_n 36 0 dX4_shut_35 rfl rfl rfl ?_
        refine go_iload_n 37 1 dX4_shut_36 rfl rfl rfl ?_
        obtain ⟨P6, hR, vc⟩ := vc
        refine go_callVV (M' := mX4_take) (as := [vI x1]) 40 dX4_shut_37 rfl q1835 okX4_take (MO_k hM.1) ck_4 rfl rfl rfl rfl rfl hR ?_
        intro h5 p1
        replace vc := vc h5 p1
        obtain ⟨t8, g9, hM, vc⟩ := vc
        refine go_aload_n 41 0 dX4_shut_40 rfl rfl rfl ?_
        refine go_iload_n 42 2 dX4_shut_41 rfl rfl rfl ?_
        refine go_iload_n 43 3 dX4_shut_42 rfl rfl rfl ?_
        obtain ⟨P12, hR, vc⟩ := vc
        refine go_callVI (M' := mX4_shutNow) (as := [vI x2, vI x3]) 46 dX4_shut_43 rfl q1874 okX4_shutNow (MO_k hM.1) ck_4 rfl rfl rfl rfl rfl hR ?_
        intro z10 h11 p1
        replace vc := vc z10 h11 p1
        obtain ⟨t14, g15, hM, vc⟩ := vc
        exact go_ireturn dX4_shut_46 rfl vc
      · replace vc := vc.2 (bI_0.mp e3)
        refine go_iconst (v := (-1)) 34 dX4_shut_33 rfl (by decide) ?_
        exact go_ireturn dX4_shut_34 rfl vc

theorem bX4_still_0 {h : Hp} {b : Nat × Nat} {Q : Rs → Hp → Prop} {o : Nat} {x1 : Int32} {x2 : Int32} {x3 : Int32} {t : St} {g : Nat} (hM : MS h o t g) (vc : ((¬ (isSh t x1) → Q (rI (-1)) h) ∧ ((isSh t x1) → (isSh t x1 ∧ ((¬ (isCo t x1 x2) → Q (rI (-1)) h) ∧ ((isCo t x1 x2) → (vp_in (((nI 6) * x1) + x2) 78 ∧ (nt (((nI 6) * x1) + x2)) < 6 * ns t ∧ ((¬ (hl t (nt (((nI 6) * x1) + x2))) = 0 → Q (rI (-1)) h) ∧ ((hl t (nt (((nI 6) * x1) + x2))) = 0 → (((isMk x3) → (∃ (P7 : Hp → Prop), Ret mX4_take 2 [vR (some o), vI x1] h 0 0 (RV P7) ∧ ∀ h6, P7 h6 → (∃ t9 g10, MS h6 o t9 g10 ∧ (∃ (P13 : Int32 → Hp → Prop), Ret mX4_atMark 14 [vR (some o), vI (x3 / (nI 10)), vI (x3 - x3 / (nI 10) * (nI 10))] h6 0 0 (RI P13) ∧ ∀ z11 h12, P13 z11 h12 → (∃ t15 g16, MS h12 o t15 g16 ∧ (vp_in x2 6 ∧ (∀ h17, h17 = w1 h12 (o + 25) (nt x2) (vp_nar .boolean (nI 1)) → ((z11 ≤ 0 → Q (rI (nI 0)) h17) ∧ (¬ z11 ≤ 0 → (∃ (P21 : Int32 → Hp → Prop), Ret mX4_atMark 14 [vR (some o), vI (x3 / (nI 10)), vI (x3 - x3 / (nI 10) * (nI 10))] h17 0 0 (RI P21) ∧ ∀ z19 h20, P21 z19 h20 → (∃ t23 g24, MS h20 o t23 g24 ∧ ((z19 < z11 → Q (rI (nI 0)) h20) ∧ (¬ z19 < z11 → Q (rI (nI 1)) h20))))))))))))) ∧ (¬ (isMk x3) → Q (rI (-1)) h))))))))))) : AWP mX4_still 15 0 [vR (some o), vI x1, vI x2, vI x3, vU] [] h b Q := by
  refine go_aload_n 1 0 dX4_still_0 rfl rfl rfl ?_
  refine go_iload_n 2 1 dX4_still_1 rfl rfl rfl ?_
  refine go_callVI (M' := mX4_isShape) (as := [vI x1]) 5 dX4_still_2 rfl q1769 okX4_isShape (MO_k hM.1) ck_4 rfl rfl rfl rfl rfl (ctX4_isShape hM) ?_
  intro x0 h0 p0
  rw [p0.1, p0.2]
  refine go_if_eq 8 38 dX4_still_5 rfl (by decide) (fun e1 => ?_) (fun e1 => ?_)
  · replace vc := vc.1 (bI_0.mp e1)
    refine go_iconst (v := (-1)) 39 dX4_still_38 rfl (by decide) ?_
    exact go_ireturn dX4_still_39 rfl vc
  · replace vc := vc.2 (bI_n0.mp e1)
    refine go_aload_n 9 0 dX4_still_8 rfl rfl rfl ?_
    refine go_iload_n 10 1 dX4_still_9 rfl rfl rfl ?_
    refine go_iload_n 11 2 dX4_still_10 rfl rfl rfl ?_
    refine go_callVI (M' := mX4_isCorner) (as := [vI x1, vI x2]) 14 dX4_still_11 rfl q1746 okX4_isCorner (MO_k hM.1) ck_4 rfl rfl rfl rfl rfl (ctX4_isCorner hM vc.1) ?_
    replace vc := vc.2
    intro x0 h0 p0
    rw [p0.1, p0.2]
    refine go_if_eq 17 38 dX4_still_14 rfl (by decide) (fun e2 => ?_) (fun e2 => ?_)
    · replace vc := vc.1 (bI_0.mp e2)
      refine go_iconst (v := (-1)) 39 dX4_still_38 rfl (by decide) ?_
      exact go_ireturn dX4_still_39 rfl vc
    · replace vc := vc.2 (bI_n0.mp e2)
      refine go_aload_n 18 0 dX4_still_17 rfl rfl rfl ?_
      refine go_getRe 21 dX4_still_18 rfl (MO_k hM.1) gfX4_22_5 rfl (MO_f1406 hM.1) ?_
      refine go_bipush (v := nI 6) 23 dX4_still_21 rfl (by decide) ?_
      refine go_iload_n 24 1 dX4_still_23 rfl rfl rfl ?_
      refine go_imul 25 dX4_still_24 rfl ?_
      refine go_iload_n 26 2 dX4_still_25 rfl rfl rfl ?_
      refine go_iadd 27 dX4_still_26 rfl ?_
      refine go_baloadZ 28 dX4_still_27 rfl (MO_k5 hM.1) vc.1 ?_
      replace vc := vc.2
      rw [hM.a5 vc.1]
      replace vc := vc.2
      refine go_if_ne 31 38 dX4_still_28 rfl (by decide) (fun e3 => ?_) (fun e3 => ?_)
      · replace vc := vc.1 e3
        refine go_iconst (v := (-1)) 39 dX4_still_38 rfl (by decide) ?_
        exact go_ireturn dX4_still_39 rfl vc
      · replace vc := vc.2 e3
        refine go_iload_n 32 3 dX4_still_31 rfl rfl rfl ?_
        refine go_callSI (M' := mX4_isMark) (as := [vI x3]) 35 dX4_still_32 rfl q1832 okX4_isMark rfl rfl rfl rfl rfl (ctX4_isMark) ?_
        intro x0 h0 p0
        rw [p0.1, p0.2]
        refine go_if_ne 38 40 dX4_still_35 rfl (by decide) (fun e4 => ?_) (fun e4 => ?_)
        · replace vc := vc.1 (bI_n0.mp e4)
          refine go_aload_n 41 0 dX4_still_40 rfl rfl rfl ?_
          refine go_iload_n 42 1 dX4_still_41 rfl rfl rfl ?_
          obtain ⟨P7, hR, vc⟩ := vc
          refine go_callVV (M' := mX4_take) (as := [vI x1]) 45 dX4_still_42 rfl q1835 okX4_take (MO_k hM.1) ck_4 rfl rfl rfl rfl rfl hR ?_
          intro h6 p1
          replace vc := vc h6 p1
          obtain ⟨t9, g10, hM, vc⟩ := vc
          refine go_aload_n 46 0 dX4_still_45 rfl rfl rfl ?_
          refine go_iload_n 47 3 dX4_still_46 rfl rfl rfl ?_
          refine go_bipush (v := nI 10) 49 dX4_still_47 rfl (by decide) ?_
          refine go_idiv 50 dX4_still_49 rfl (by decide) ?_
          refine go_iload_n 51 3 dX4_still_50 rfl rfl rfl ?_
          refine go_bipush (v := nI 10) 53 dX4_still_51 rfl (by decide) ?_
          refine go_irem 54 dX4_still_53 rfl (by decide) ?_
          obtain ⟨P13, hR, vc⟩ := vc
          refine go_callVI (M' := mX4_atMark) (as := [vI (x3 / (nI 10)), vI (x3 - x3 / (nI 10) * (nI 10))]) 57 dX4_still_54 rfl q1861 okX4_atMark (MO_k hM.1) ck_4 rfl rfl rfl rfl rfl hR ?_
          intro z11 h12 p1
          replace vc := vc z11 h12 p1
          obtain ⟨t15, g16, hM, vc⟩ := vc
          refine go_istore 59 [vR (some o), vI x1, vI x2, vI x3, vI z11] dX4_still_57 rfl rfl rfl ?_
          refine go_aload_n 60 0 dX4_still_59 rfl rfl rfl ?_
          refine go_getRe 63 dX4_still_60 rfl (MO_k hM.1) gfX4_84_5 rfl (MO_f1433 hM.1) ?_
          refine go_iload_n 64 2 dX4_still_63 rfl rfl rfl ?_
          refine go_iconst (v := nI 1) 65 dX4_still_64 rfl (by decide) ?_
          refine go_bastoreZ 66 dX4_still_65 rfl (MO_k25 hM.1) vc.1 ?_
          replace vc := vc.2
          refine AWP.nm fun h17 eh17 => ?_
          replace vc := vc h17 eh17
          have hM : MS h17 o t15 g16 := by rw [eh17]; exact hM.fr (PE.A rfl)
          refine go_iload 68 dX4_still_66 rfl rfl ?_
          refine go_if_le 71 92 dX4_still_68 rfl (by decide) (fun e18 => ?_) (fun e18 => ?_)
          · replace vc := vc.1 e18
            refine go_iconst (v := nI 0) 93 dX4_still_92 rfl (by decide) ?_
            exact go_ireturn dX4_still_93 rfl vc
          · replace vc := vc.2 e18
            refine go_aload_n 72 0 dX4_still_71 rfl rfl rfl ?_
            refine go_iload_n 73 3 dX4_still_72 rfl rfl rfl ?_
            refine go_bipush (v := nI 10) 75 dX4_still_73 rfl (by decide) ?_
            refine go_idiv 76 dX4_still_75 rfl (by decide) ?_
            refine go_iload_n 77 3 dX4_still_76 rfl rfl rfl ?_
            refine go_bipush (v := nI 10) 79 dX4_still_77 rfl (by decide) ?_
            refine go_irem 80 dX4_still_79 rfl (by decide) ?_
            obtain ⟨P21, hR, vc⟩ := vc
            refine go_callVI (M' := mX4_atMark) (as := [vI (x3 / (nI 10)), vI (x3 - x3 / (nI 10) * (nI 10))]) 83 dX4_still_80 rfl q1861 okX4_atMark (MO_k hM.1) ck_4 rfl rfl rfl rfl rfl hR ?_
            intro z19 h20 p1
            replace vc := vc z19 h20 p1
            obtain ⟨t23, g24, hM, vc⟩ := vc
            refine go_iload 85 dX4_still_83 rfl rfl ?_
            refine go_icmp_lt 88 92 dX4_still_85 rfl (by decide) (fun e25 => ?_) (fun e25 => ?_)
            · replace vc := vc.1 e25
              refine go_iconst (v := nI 0) 93 dX4_still_92 rfl (by decide) ?_
              exact go_ireturn dX4_still_93 rfl vc
            · replace vc := vc.2 e25
              refine go_iconst (v := nI 1) 89 dX4_still_88 rfl (by decide) ?_
              refine go_goto 93 dX4_still_89 (by decide) ?_
              exact go_ireturn dX4_still_93 rfl vc
        · replace vc := vc.2 (bI_0.mp e4)
          refine go_iconst (v := (-1)) 39 dX4_still_38 rfl (by decide) ?_
          exact go_ireturn dX4_still_39 rfl vc

theorem bX4_setCount_0 {h : Hp} {b : Nat × Nat} {Q : Rs → Hp → Prop} {o : Nat} {x1 : Int32} {x2 : Int32} {x3 : Int32} {t : St} {g : Nat} (hM : MS h o t g) (vc : (vp_in (((nI 6) * x1) + x2) 36 ∧ (∀ h1, h1 = w1 h (o + 26) (nt (((nI 6) * x1) + x2)) x3 → (vp_in (((nI 6) * x2) + x1) 36 ∧ (∀ h2, h2 = w1 h1 (o + 26) (nt (((nI 6) * x2) + x1)) x3 → Q rV h2))))) : AWP mX4_setCount 0 0 [vR (some o), vI x1, vI x2, vI x3] [] h b Q := by
  refine go_aload_n 1 0 dX4_setCount_0 rfl rfl rfl ?_
  refine go_getRe 4 dX4_setCount_1 rfl (MO_k hM.1) gfX4_87_5 rfl (MO_f1434 hM.1) ?_
  refine go_bipush (v := nI 6) 6 dX4_setCount_4 rfl (by decide) ?_
  refine go_iload_n 7 1 dX4_setCount_6 rfl rfl rfl ?_
  refine go_imul 8 dX4_setCount_7 rfl ?_
  refine go_iload_n 9 2 dX4_setCount_8 rfl rfl rfl ?_
  refine go_iadd 10 dX4_setCount_9 rfl ?_
  refine go_iload_n 11 3 dX4_setCount_10 rfl rfl rfl ?_
  refine go_iastore 12 dX4_setCount_11 rfl (MO_k26 hM.1) vc.1 ?_
  replace vc := vc.2
  refine AWP.nm fun h1 eh1 => ?_
  replace vc := vc h1 eh1
  have hM : MS h1 o t g := by rw [eh1]; exact hM.fr (PE.A rfl)
  refine go_aload_n 13 0 dX4_setCount_12 rfl rfl rfl ?_
  refine go_getRe 16 dX4_setCount_13 rfl (MO_k hM.1) gfX4_87_5 rfl (MO_f1434 hM.1) ?_
  refine go_bipush (v := nI 6) 18 dX4_setCount_16 rfl (by decide) ?_
  refine go_iload_n 19 2 dX4_setCount_18 rfl rfl rfl ?_
  refine go_imul 20 dX4_setCount_19 rfl ?_
  refine go_iload_n 21 1 dX4_setCount_20 rfl rfl rfl ?_
  refine go_iadd 22 dX4_setCount_21 rfl ?_
  refine go_iload_n 23 3 dX4_setCount_22 rfl rfl rfl ?_
  refine go_iastore 24 dX4_setCount_23 rfl (MO_k26 hM.1) vc.1 ?_
  replace vc := vc.2
  refine AWP.nm fun h2 eh2 => ?_
  replace vc := vc h2 eh2
  have hM : MS h2 o t g := by rw [eh2]; exact hM.fr (PE.A rfl)
  exact go_return dX4_setCount_24 rfl vc
