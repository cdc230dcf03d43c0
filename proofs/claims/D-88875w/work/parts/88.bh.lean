theorem bX4_isWhole_0 {h : Hp} {b : Nat × Nat} {Q : Rs → Hp → Prop} {o : Nat} {x1 : Int32} {t : St} {g : Nat} (hM : MS h o t g) (vc : (vp_in x1 6 ∧ (nt x1) < 6 ∧ (((-2) < (ho t (nt x1)) → Q (rI (nI 0)) h) ∧ (¬ (-2) < (ho t (nt x1)) → (vp_in x1 6 ∧ (nt x1) < 6 ∧ (((ho t (nt x1)) < (-4) → Q (rI (nI 0)) h) ∧ (¬ (ho t (nt x1)) < (-4) → Q (rI (nI 1)) h))))))) : AWP mX4_isWhole 0 0 [vR (some o), vI x1] [] h b Q := by
  refine go_aload_n 1 0 dX4_isWhole_0 rfl rfl rfl ?_
  refine go_getRe 4 dX4_isWhole_1 rfl (MO_k hM.1) gfX4_184_5 rfl (MO_f1490 hM.1) ?_
  refine go_iload_n 5 1 dX4_isWhole_4 rfl rfl rfl ?_
  refine go_iaload 6 dX4_isWhole_5 rfl (MO_k58 hM.1) vc.1 ?_
  replace vc := vc.2
  rw [hM.a58 vc.1]
  replace vc := vc.2
  refine go_bipush (v := (-2)) 8 dX4_isWhole_6 rfl (by decide) ?_
  refine go_icmp_gt 11 26 dX4_isWhole_8 rfl (by decide) (fun e1 => ?_) (fun e1 => ?_)
  · replace vc := vc.1 e1
    refine go_iconst (v := nI 0) 27 dX4_isWhole_26 rfl (by decide) ?_
    exact go_zreturn dX4_isWhole_27 rfl (by decide) vc
  · replace vc := vc.2 e1
    refine go_aload_n 12 0 dX4_isWhole_11 rfl rfl rfl ?_
    refine go_getRe 15 dX4_isWhole_12 rfl (MO_k hM.1) gfX4_184_5 rfl (MO_f1490 hM.1) ?_
    refine go_iload_n 16 1 dX4_isWhole_15 rfl rfl rfl ?_
    refine go_iaload 17 dX4_isWhole_16 rfl (MO_k58 hM.1) vc.1 ?_
    replace vc := vc.2
    rw [hM.a58 vc.1]
    replace vc := vc.2
    refine go_bipush (v := (-4)) 19 dX4_isWhole_17 rfl (by decide) ?_
    refine go_icmp_lt 22 26 dX4_isWhole_19 rfl (by decide) (fun e2 => ?_) (fun e2 => ?_)
    · replace vc := vc.1 e2
      refine go_iconst (v := nI 0) 27 dX4_isWhole_26 rfl (by decide) ?_
      exact go_zreturn dX4_isWhole_27 rfl (by decide) vc
    · replace vc := vc.2 e2
      refine go_iconst (v := nI 1) 23 dX4_isWhole_22 rfl (by decide) ?_
      refine go_goto 27 dX4_isWhole_23 (by decide) ?_
      exact go_zreturn dX4_isWhole_27 rfl (by decide) vc

theorem bX4_whyNoRow_0 {h : Hp} {b : Nat × Nat} {Q : Rs → Hp → Prop} {o : Nat} {x1 : Int32} {t : St} {g : Nat} (hM : MS h o t g) (vc : (((bt x1 0 5) → (vp_in x1 6 ∧ (nt x1) < 6 ∧ ((¬ (ho t (nt x1)) = (-1) → (∃ (P5 : Int32 → Hp → Prop), Ret mX4_isWhole 0 [vR (some o), vI x1] h 0 0 (RI P5) ∧ ∀ z3 h4, P5 z3 h4 → (∃ t7 g8, MS h4 o t7 g8 ∧ ((¬ z3 = 0 → Q (rI (nI 0)) h4) ∧ (z3 = 0 → Q (rI (-12)) h4))))) ∧ ((ho t (nt x1)) = (-1) → Q (rI (-11)) h)))) ∧ (¬ (bt x1 0 5) → Q (rI (-1)) h))) : AWP mX4_whyNoRow 2 0 [vR (some o), vI x1] [] h b Q := by
  refine go_iload_n 1 1 dX4_whyNoRow_0 rfl rfl rfl ?_
  refine go_callSI (M' := mX4_isShelf) (as := [vI x1]) 4 dX4_whyNoRow_1 rfl q2060 okX4_isShelf rfl rfl rfl rfl rfl (ctX4_isShelf) ?_
  intro x0 h0 p0
  rw [p0.1, p0.2]
  refine go_if_ne 7 11 dX4_whyNoRow_4 rfl (by decide) (fun e1 => ?_) (fun e1 => ?_)
  · replace vc := vc.1 (bI_n0.mp e1)
    refine go_aload_n 12 0 dX4_whyNoRow_11 rfl rfl rfl ?_
    refine go_getRe 15 dX4_whyNoRow_12 rfl (MO_k hM.1) gfX4_184_5 rfl (MO_f1490 hM.1) ?_
    refine go_iload_n 16 1 dX4_whyNoRow_15 rfl rfl rfl ?_
    refine go_iaload 17 dX4_whyNoRow_16 rfl (MO_k58 hM.1) vc.1 ?_
    replace vc := vc.2
    rw [hM.a58 vc.1]
    replace vc := vc.2
    refine go_iconst (v := (-1)) 18 dX4_whyNoRow_17 rfl (by decide) ?_
    refine go_icmp_ne 21 26 dX4_whyNoRow_18 rfl (by decide) (fun e2 => ?_) (fun e2 => ?_)
    · replace vc := vc.1 e2
      refine go_aload_n 27 0 dX4_whyNoRow_26 rfl rfl rfl ?_
      refine go_iload_n 28 1 dX4_whyNoRow_27 rfl rfl rfl ?_
      obtain ⟨P5, hR, vc⟩ := vc
      refine go_callVI (M' := mX4_isWhole) (as := [vI x1]) 31 dX4_whyNoRow_28 rfl q2063 okX4_isWhole (MO_k hM.1) ck_4 rfl rfl rfl rfl rfl hR ?_
      intro z3 h4 p1
      replace vc := vc z3 h4 p1
      obtain ⟨t7, g8, hM, vc⟩ := vc
      refine go_if_ne 34 39 dX4_whyNoRow_31 rfl (by decide) (fun e9 => ?_) (fun e9 => ?_)
      · replace vc := vc.1 e9
        refine go_iconst (v := nI 0) 40 dX4_whyNoRow_39 rfl (by decide) ?_
        exact go_ireturn dX4_whyNoRow_40 rfl vc
      · replace vc := vc.2 e9
        refine go_bipush (v := (-12)) 36 dX4_whyNoRow_34 rfl (by decide) ?_
        refine go_goto 40 dX4_whyNoRow_36 (by decide) ?_
        exact go_ireturn dX4_whyNoRow_40 rfl vc
    · replace vc := vc.2 e2
      refine go_bipush (v := (-11)) 23 dX4_whyNoRow_21 rfl (by decide) ?_
      refine go_goto 40 dX4_whyNoRow_23 (by decide) ?_
      exact go_ireturn dX4_whyNoRow_40 rfl vc
  · replace vc := vc.2 (bI_0.mp e1)
    refine go_iconst (v := (-1)) 8 dX4_whyNoRow_7 rfl (by decide) ?_
    refine go_goto 40 dX4_whyNoRow_8 (by decide) ?_
    exact go_ireturn dX4_whyNoRow_40 rfl vc

theorem bX4_write_0 {h : Hp} {b : Nat × Nat} {Q : Rs → Hp → Prop} {o : Nat} {x1 : Int32} {x2 : Int32} {x3 : Int32} {x4 : Int32} {t : St} {g : Nat} (hM : MS h o t g) (vc : ((¬ (bt x1 0 3) → Q (rI (-1)) h) ∧ ((bt x1 0 3) → ((¬ (bt x2 0 5) → Q (rI (-1)) h) ∧ ((bt x2 0 5) → (((bt x4 1 60) → (((nI (sp t)) = 0 → Q (rI (-4)) h) ∧ (¬ (nI (sp t)) = 0 → (vp_in x1 4 ∧ (nt x1) < 4 ∧ ((0 ≤ (ew t (nt x1)) → (vp_in x2 6 ∧ (nt x2) < 6 ∧ ((¬ (ho t (nt x2)) = (-1) → (∃ (P9 : Int32 → Hp → Prop), Ret mX4_isWhole 0 [vR (some o), vI x2] h 0 0 (RI P9) ∧ ∀ z7 h8, P9 z7 h8 → (∃ t11 g12, MS h8 o t11 g12 ∧ ((¬ z7 = 0 → (vp_in x2 6 ∧ ((((nI 0) ≤ x3 ∧ x3 ≤ ((hAI h8 (o + 59) (nt x2)) - (nI 1))) → (vp_in x2 6 ∧ (nt x2) < 6 ∧ (∃ (P17 : Int32 → Hp → Prop), Ret mX4_mostOf 0 [vI ((-2) - (ho t11 (nt x2)))] h8 0 0 (RI P17) ∧ ∀ z15 h16, P17 z15 h16 → (∃ t19 g20, MS h16 o t19 g20 ∧ AWP mX4_write 2 106 [vR (some o), vI x1, vI x2, vI x3, vI x4, vI z15, vI (nI 0), vU] [] h16 b Q)))) ∧ (¬ ((nI 0) ≤ x3 ∧ x3 ≤ ((hAI h8 (o + 59) (nt x2)) - (nI 1))) → Q (rI (-13)) h8)))) ∧ (z7 = 0 → Q (rI (-12)) h8))))) ∧ ((ho t (nt x2)) = (-1) → Q (rI (-11)) h)))) ∧ (¬ 0 ≤ (ew t (nt x1)) → Q (rI (-4)) h)))))) ∧ (¬ (bt x4 1 60) → Q (rI (-1)) h))))))) : AWP mX4_write 2 0 [vR (some o), vI x1, vI x2, vI x3, vI x4, vU, vU, vU] [] h b Q := by
  refine go_iload_n 1 1 dX4_write_0 rfl rfl rfl ?_
  refine go_callSI (M' := mX4_isEar) (as := [vI x1]) 4 dX4_write_1 rfl q2025 okX4_isEar rfl rfl rfl rfl rfl (ctX4_isEar) ?_
  intro x0 h0 p0
  rw [p0.1, p0.2]
  refine go_if_eq 7 25 dX4_write_4 rfl (by decide) (fun e1 => ?_) (fun e1 => ?_)
  · replace vc := vc.1 (bI_0.mp e1)
    refine go_iconst (v := (-1)) 26 dX4_write_25 rfl (by decide) ?_
    exact go_ireturn dX4_write_26 rfl vc
  · replace vc := vc.2 (bI_n0.mp e1)
    refine go_iload_n 8 2 dX4_write_7 rfl rfl rfl ?_
    refine go_callSI (M' := mX4_isShelf) (as := [vI x2]) 11 dX4_write_8 rfl q2060 okX4_isShelf rfl rfl rfl rfl rfl (ctX4_isShelf) ?_
    intro x0 h0 p0
    rw [p0.1, p0.2]
    refine go_if_eq 14 25 dX4_write_11 rfl (by decide) (fun e2 => ?_) (fun e2 => ?_)
    · replace vc := vc.1 (bI_0.mp e2)
      refine go_iconst (v := (-1)) 26 dX4_write_25 rfl (by decide) ?_
      exact go_ireturn dX4_write_26 rfl vc
    · replace vc := vc.2 (bI_n0.mp e2)
      refine go_iload 16 dX4_write_14 rfl rfl ?_
      refine go_iconst (v := nI 1) 17 dX4_write_16 rfl (by decide) ?_
      refine go_bipush (v := nI 60) 19 dX4_write_17 rfl (by decide) ?_
      refine go_callSI (M' := mX4_in) (as := [vI x4, vI (nI 1), vI (nI 60)]) 22 dX4_write_19 rfl q1703 okX4_in rfl rfl rfl rfl rfl (ctX4_inL rfl rfl) ?_
      intro x0 h0 p0
      rw [p0.1, p0.2]
      refine go_if_ne 25 27 dX4_write_22 rfl (by decide) (fun e3 => ?_) (fun e3 => ?_)
      · replace vc := vc.1 (bI_n0.mp e3)
        refine go_aload_n 28 0 dX4_write_27 rfl rfl rfl ?_
        refine go_getI 31 dX4_write_28 rfl (MO_k hM.1) gfX4_463_5 rfl ?_
        rw [hM.f474]
        refine go_if_eq 34 43 dX4_write_31 rfl (by decide) (fun e4 => ?_) (fun e4 => ?_)
        · replace vc := vc.1 e4
          refine go_bipush (v := (-4)) 45 dX4_write_43 rfl (by decide) ?_
          exact go_ireturn dX4_write_45 rfl vc
        · replace vc := vc.2 e4
          refine go_aload_n 35 0 dX4_write_34 rfl rfl rfl ?_
          refine go_getRe 38 dX4_write_35 rfl (MO_k hM.1) gfX4_145_5 rfl (MO_f1473 hM.1) ?_
          refine go_iload_n 39 1 dX4_write_38 rfl rfl rfl ?_
          refine go_iaload 40 dX4_write_39 rfl (MO_k45 hM.1) vc.1 ?_
          replace vc := vc.2
          rw [hM.a45 vc.1]
          replace vc := vc.2
          refine go_if_ge 43 46 dX4_write_40 rfl (by decide) (fun e5 => ?_) (fun e5 => ?_)
          · replace vc := vc.1 e5
            refine go_aload_n 47 0 dX4_write_46 rfl rfl rfl ?_
            refine go_getRe 50 dX4_write_47 rfl (MO_k hM.1) gfX4_184_5 rfl (MO_f1490 hM.1) ?_
            refine go_iload_n 51 2 dX4_write_50 rfl rfl rfl ?_
            refine go_iaload 52 dX4_write_51 rfl (MO_k58 hM.1) vc.1 ?_
            replace vc := vc.2
            rw [hM.a58 vc.1]
            replace vc := vc.2
            refine go_iconst (v := (-1)) 53 dX4_write_52 rfl (by decide) ?_
            refine go_icmp_ne 56 59 dX4_write_53 rfl (by decide) (fun e6 => ?_) (fun e6 => ?_)
            · replace vc := vc.1 e6
              refine go_aload_n 60 0 dX4_write_59 rfl rfl rfl ?_
              refine go_iload_n 61 2 dX4_write_60 rfl rfl rfl ?_
              obtain ⟨P9, hR, vc⟩ := vc
              refine go_callVI (M' := mX4_isWhole) (as := [vI x2]) 64 dX4_write_61 rfl q2063 okX4_isWhole (MO_k hM.1) ck_4 rfl rfl rfl rfl rfl hR ?_
              intro z7 h8 p1
              replace vc := vc z7 h8 p1
              obtain ⟨t11, g12, hM, vc⟩ := vc
              refine go_if_ne 67 70 dX4_write_64 rfl (by decide) (fun e13 => ?_) (fun e13 => ?_)
              · replace vc := vc.1 e13
                refine go_iload_n 71 3 dX4_write_70 rfl rfl rfl ?_
                refine go_iconst (v := nI 0) 72 dX4_write_71 rfl (by decide) ?_
                refine go_aload_n 73 0 dX4_write_72 rfl rfl rfl ?_
                refine go_getRe 76 dX4_write_73 rfl (MO_k hM.1) gfX4_187_5 rfl (MO_f1491 hM.1) ?_
                refine go_iload_n 77 2 dX4_write_76 rfl rfl rfl ?_
                refine go_iaload 78 dX4_write_77 rfl (MO_k59 hM.1) vc.1 ?_
                replace vc := vc.2
                refine go_iconst (v := nI 1) 79 dX4_write_78 rfl (by decide) ?_
                refine go_isub 80 dX4_write_79 rfl ?_
                refine go_callSI (M' := mX4_in) (as := [vI x3, vI (nI 0), vI ((hAI h8 (o + 59) (nt x2)) - (nI 1))]) 83 dX4_write_80 rfl q1703 okX4_in rfl rfl rfl rfl rfl (ctX4_in) ?_
                intro x0 h0 p0
                rw [p0.1, p0.2]
                refine go_if_ne 86 89 dX4_write_83 rfl (by decide) (fun e14 => ?_) (fun e14 => ?_)
                · replace vc := vc.1 (bI_n0.mp e14)
                  refine go_bipush (v := (-2)) 91 dX4_write_89 rfl (by decide) ?_
                  refine go_aload_n 92 0 dX4_write_91 rfl rfl rfl ?_
                  refine go_getRe 95 dX4_write_92 rfl (MO_k hM.1) gfX4_184_5 rfl (MO_f1490 hM.1) ?_
                  refine go_iload_n 96 2 dX4_write_95 rfl rfl rfl ?_
                  refine go_iaload 97 dX4_write_96 rfl (MO_k58 hM.1) vc.1 ?_
                  replace vc := vc.2
                  rw [hM.a58 vc.1]
                  replace vc := vc.2
                  refine go_isub 98 dX4_write_97 rfl ?_
                  obtain ⟨P17, hR, vc⟩ := vc
                  refine go_callSI (M' := mX4_mostOf) (as := [vI ((-2) - (ho t11 (nt x2)))]) 101 dX4_write_98 rfl q2067 okX4_mostOf rfl rfl rfl rfl rfl hR ?_
                  intro z15 h16 p1
                  replace vc := vc z15 h16 p1
                  obtain ⟨t19, g20, hM, vc⟩ := vc
                  refine go_istore 103 [vR (some o), vI x1, vI x2, vI x3, vI x4, vI z15, vU, vU] dX4_write_101 rfl rfl rfl ?_
                  refine go_iconst (v := nI 0) 104 dX4_write_103 rfl (by decide) ?_
                  refine go_istore 106 [vR (some o), vI x1, vI x2, vI x3, vI x4, vI z15, vI (nI 0), vU] dX4_write_104 rfl rfl rfl ?_
                  exact vc
                · replace vc := vc.2 (bI_0.mp e14)
                  refine go_bipush (v := (-13)) 88 dX4_write_86 rfl (by decide) ?_
                  exact go_ireturn dX4_write_88 rfl vc
              · replace vc := vc.2 e13
                refine go_bipush (v := (-12)) 69 dX4_write_67 rfl (by decide) ?_
                exact go_ireturn dX4_write_69 rfl vc
            · replace vc := vc.2 e6
              refine go_bipush (v := (-11)) 58 dX4_write_56 rfl (by decide) ?_
              exact go_ireturn dX4_write_58 rfl vc
          · replace vc := vc.2 e5
            refine go_bipush (v := (-4)) 45 dX4_write_43 rfl (by decide) ?_
            exact go_ireturn dX4_write_45 rfl vc
      · replace vc := vc.2 (bI_0.mp e3)
        refine go_iconst (v := (-1)) 26 dX4_write_25 rfl (by decide) ?_
        exact go_ireturn dX4_write_26 rfl vc

theorem bX4_write_106 {h : Hp} {b : Nat × Nat} {Q : Rs → Hp → Prop} {o : Nat} {x1 : Int32} {x2 : Int32} {x3 : Int32} {x4 : Int32} {x5 : Int32} {x6 : Int32} {y7 : AV} {t : St} {g : Nat} (hM : MS h o t g) (vc : ((x4 ≤ x6 → Q (rI x6) h) ∧ (¬ x4 ≤ x6 → (((nI (sp t)) ≤ x6 → Q (rI x6) h) ∧ (¬ (nI (sp t)) ≤ x6 → (vp_in x2 6 ∧ (((hAI h (o + 59) (nt x2)) ≤ (x3 + x6) → Q (rI x6) h) ∧ (¬ (hAI h (o + 59) (nt x2)) ≤ (x3 + x6) → (vp_in (((nI 200) * x1) + x6) 800 ∧ (((hAI h (o + 49) (nt (((nI 200) * x1) + x6))) ≤ x5 → (((-x5) ≤ (hAI h (o + 49) (nt (((nI 200) * x1) + x6))) → (vp_in ((((nI 60) * x2) + x3) + x6) 360 ∧ (∀ h6, h6 = wL h (o + 60) (nt ((((nI 60) * x2) + x3) + x6)) ((hAI h (o + 49) (nt (((nI 200) * x1) + x6))).toInt64) → AWP mX4_write 2 106 [vR (some o), vI x1, vI x2, vI x3, vI x4, vI x5, vI (x6 + nI 1), vI (hAI h (o + 49) (nt (((nI 200) * x1) + x6)))] [] h6 b Q))) ∧ (¬ (-x5) ≤ (hAI h (o + 49) (nt (((nI 200) * x1) + x6))) → (vp_in ((((nI 60) * x2) + x3) + x6) 360 ∧ (∀ h7, h7 = wL h (o + 60) (nt ((((nI 60) * x2) + x3) + x6)) ((-x5).toInt64) → AWP mX4_write 2 106 [vR (some o), vI x1, vI x2, vI x3, vI x4, vI x5, vI (x6 + nI 1), vI (hAI h (o + 49) (nt (((nI 200) * x1) + x6)))] [] h7 b Q))))) ∧ (¬ (hAI h (o + 49) (nt (((nI 200) * x1) + x6))) ≤ x5 → (vp_in ((((nI 60) * x2) + x3) + x6) 360 ∧ (∀ h8, h8 = wL h (o + 60) (nt ((((nI 60) * x2) + x3) + x6)) x5.toInt64 → AWP mX4_write 2 106 [vR (some o), vI x1, vI x2, vI x3, vI x4, vI x5, vI (x6 + nI 1), vI (hAI h (o + 49) (nt (((nI 200) * x1) + x6)))] [] h8 b Q))))))))))))) : AWP mX4_write 2 106 [vR (some o), vI x1, vI x2, vI x3, vI x4, vI x5, vI x6, y7] [] h b Q := by
  refine go_iload 108 dX4_write_106 rfl rfl ?_
  refine go_iload 110 dX4_write_108 rfl rfl ?_
  refine go_icmp_ge 113 201 dX4_write_110 rfl (by decide) (fun e1 => ?_) (fun e1 => ?_)
  · replace vc := vc.1 e1
    refine go_iload 203 dX4_write_201 rfl rfl ?_
    exact go_ireturn dX4_write_203 rfl vc
  · replace vc := vc.2 e1
    refine go_iload 115 dX4_write_113 rfl rfl ?_
    refine go_aload_n 116 0 dX4_write_115 rfl rfl rfl ?_
    refine go_getI 119 dX4_write_116 rfl (MO_k hM.1) gfX4_463_5 rfl ?_
    rw [hM.f474]
    refine go_icmp_ge 122 201 dX4_write_119 rfl (by decide) (fun e2 => ?_) (fun e2 => ?_)
    · replace vc := vc.1 e2
      refine go_iload 203 dX4_write_201 rfl rfl ?_
      exact go_ireturn dX4_write_203 rfl vc
    · replace vc := vc.2 e2
      refine go_iload_n 123 3 dX4_write_122 rfl rfl rfl ?_
      refine go_iload 125 dX4_write_123 rfl rfl ?_
      refine go_iadd 126 dX4_write_125 rfl ?_
      refine go_aload_n 127 0 dX4_write_126 rfl rfl rfl ?_
      refine go_getRe 130 dX4_write_127 rfl (MO_k hM.1) gfX4_187_5 rfl (MO_f1491 hM.1) ?_
      refine go_iload_n 131 2 dX4_write_130 rfl rfl rfl ?_
      refine go_iaload 132 dX4_write_131 rfl (MO_k59 hM.1) vc.1 ?_
      replace vc := vc.2
      refine go_icmp_ge 135 201 dX4_write_132 rfl (by decide) (fun e3 => ?_) (fun e3 => ?_)
      · replace vc := vc.1 e3
        refine go_iload 203 dX4_write_201 rfl rfl ?_
        exact go_ireturn dX4_write_203 rfl vc
      · replace vc := vc.2 e3
        refine go_aload_n 136 0 dX4_write_135 rfl rfl rfl ?_
        refine go_getRe 139 dX4_write_136 rfl (MO_k hM.1) gfX4_157_5 rfl (MO_f1478 hM.1) ?_
        refine go_sipush (v := nI 200) 142 dX4_write_139 rfl (by decide) ?_
        refine go_iload_n 143 1 dX4_write_142 rfl rfl rfl ?_
        refine go_imul 144 dX4_write_143 rfl ?_
        refine go_iload 146 dX4_write_144 rfl rfl ?_
        refine go_iadd 147 dX4_write_146 rfl ?_
        refine go_iaload 148 dX4_write_147 rfl (MO_k49 hM.1) vc.1 ?_
        replace vc := vc.2
        refine go_istore 150 [vR (some o), vI x1, vI x2, vI x3, vI x4, vI x5, vI x6, vI (hAI h (o + 49) (nt (((nI 200) * x1) + x6)))] dX4_write_148 rfl rfl rfl ?_
        refine go_aload_n 151 0 dX4_write_150 rfl rfl rfl ?_
        refine go_getRe 154 dX4_write_151 rfl (MO_k hM.1) gfX4_190_5 rfl (MO_f1492 hM.1) ?_
        refine go_bipush (v := nI 60) 156 dX4_write_154 rfl (by decide) ?_
        refine go_iload_n 157 2 dX4_write_156 rfl rfl rfl ?_
        refine go_imul 158 dX4_write_157 rfl ?_
        refine go_iload_n 159 3 dX4_write_158 rfl rfl rfl ?_
        refine go_iadd 160 dX4_write_159 rfl ?_
        refine go_iload 162 dX4_write_160 rfl rfl ?_
        refine go_iadd 163 dX4_write_162 rfl ?_
        refine go_iload 165 dX4_write_163 rfl rfl ?_
        refine go_iload 167 dX4_write_165 rfl rfl ?_
        refine go_icmp_le 170 176 dX4_write_167 rfl (by decide) (fun e4 => ?_) (fun e4 => ?_)
        · replace vc := vc.1 e4
          refine go_iload 178 dX4_write_176 rfl rfl ?_
          refine go_iload 180 dX4_write_178 rfl rfl ?_
          refine go_ineg 181 dX4_write_180 rfl ?_
          refine go_icmp_ge 184 191 dX4_write_181 rfl (by decide) (fun e5 => ?_) (fun e5 => ?_)
          · replace vc := vc.1 e5
            refine go_iload 193 dX4_write_191 rfl rfl ?_
            refine go_i2l 194 dX4_write_193 rfl ?_
            refine go_lastore 195 dX4_write_194 rfl (MO_k60 hM.1) vc.1 ?_
            replace vc := vc.2
            refine AWP.nm fun h6 eh6 => ?_
            replace vc := vc h6 eh6
            have hM : MO h6 o := by rw [eh6]; exact hM.1
            refine go_iinc 198 (x6 + nI 1) [vR (some o), vI x1, vI x2, vI x3, vI x4, vI x5, vI (x6 + nI 1), vI (hAI h (o + 49) (nt (((nI 200) * x1) + x6)))] dX4_write_195 rfl rfl (by rfl) rfl rfl ?_
            refine go_goto 106 dX4_write_198 (by decide) ?_
            exact vc
          · replace vc := vc.2 e5
            refine go_iload 186 dX4_write_184 rfl rfl ?_
            refine go_ineg 187 dX4_write_186 rfl ?_
            refine go_i2l 188 dX4_write_187 rfl ?_
            refine go_goto 194 dX4_write_188 (by decide) ?_
            refine go_lastore 195 dX4_write_194 rfl (MO_k60 hM.1) vc.1 ?_
            replace vc := vc.2
            refine AWP.nm fun h7 eh7 => ?_
            replace vc := vc h7 eh7
            have hM : MO h7 o := by rw [eh7]; exact hM.1
            refine go_iinc 198 (x6 + nI 1) [vR (some o), vI x1, vI x2, vI x3, vI x4, vI x5, vI (x6 + nI 1), vI (hAI h (o + 49) (nt (((nI 200) * x1) + x6)))] dX4_write_195 rfl rfl (by rfl) rfl rfl ?_
            refine go_goto 106 dX4_write_198 (by decide) ?_
            exact vc
        · replace vc := vc.2 e4
          refine go_iload 172 dX4_write_170 rfl rfl ?_
          refine go_i2l 173 dX4_write_172 rfl ?_
          refine go_goto 194 dX4_write_173 (by decide) ?_
          refine go_lastore 195 dX4_write_194 rfl (MO_k60 hM.1) vc.1 ?_
          replace vc := vc.2
          refine AWP.nm fun h8 eh8 => ?_
          replace vc := vc h8 eh8
          have hM : MO h8 o := by rw [eh8]; exact hM.1
          refine go_iinc 198 (x6 + nI 1) [vR (some o), vI x1, vI x2, vI x3, vI x4, vI x5, vI (x6 + nI 1), vI (hAI h (o + 49) (nt (((nI 200) * x1) + x6)))] dX4_write_195 rfl rfl (by rfl) rfl rfl ?_
          refine go_goto 106 dX4_write_198 (by decide) ?_
          exact vc

theorem bX4_heardIn_0 {h : Hp} {b : Nat × Nat} {Q : Rs → Hp → Prop} {o : Nat} {x1 : Int32} {x2 : Int32} {t : St} {g : Nat} (hM : MS h o t g) (vc : (vp_in (((nI 60) * x1) + x2) 360 ∧ (vp_in x1 6 ∧ (nt x1) < 6 ∧ (∃ (P3 : Int32 → Hp → Prop), Ret mX4_mostOf 0 [vI ((-2) - (ho t (nt x1)))] h 0 0 (RI P3) ∧ ∀ z1 h2, P3 z1 h2 → (∃ t5 g6, MS h2 o t5 g6 ∧ ((¬ (lg_cmp (hAL h (o + 60) (nt (((nI 60) * x1) + x2))) ((-1) - z1.toInt64)) = 0 → Q (rJ (hAL h (o + 60) (nt (((nI 60) * x1) + x2)))) h2) ∧ ((lg_cmp (hAL h (o + 60) (nt (((nI 60) * x1) + x2))) ((-1) - z1.toInt64)) = 0 → Q (rJ 0) h2))))))) : AWP mX4_heardIn 1 0 [vR (some o), vI x1, vI x2, vU, vU] [] h b Q := by
  refine go_aload_n 1 0 dX4_heardIn_0 rfl rfl rfl ?_
  refine go_getRe 4 dX4_heardIn_1 rfl (MO_k hM.1) gfX4_190_5 rfl (MO_f1492 hM.1) ?_
  refine go_bipush (v := nI 60) 6 dX4_heardIn_4 rfl (by decide) ?_
  refine go_iload_n 7 1 dX4_heardIn_6 rfl rfl rfl ?_
  refine go_imul 8 dX4_heardIn_7 rfl ?_
  refine go_iload_n 9 2 dX4_heardIn_8 rfl rfl rfl ?_
  refine go_iadd 10 dX4_heardIn_9 rfl ?_
  refine go_laload 11 dX4_heardIn_10 rfl (MO_k60 hM.1) vc.1 ?_
  replace vc := vc.2
  refine go_lstore_n 12 3 [vR (some o), vI x1, vI x2, vJ (hAL h (o + 60) (nt (((nI 60) * x1) + x2))), vU] dX4_heardIn_11 rfl rfl rfl rfl ?_
  refine go_lload_n 13 3 dX4_heardIn_12 rfl rfl rfl ?_
  refine go_ldc2 16 dX4_heardIn_13 rfl q2087 ?_
  refine go_bipush (v := (-2)) 18 dX4_heardIn_16 rfl (by decide) ?_
  refine go_aload_n 19 0 dX4_heardIn_18 rfl rfl rfl ?_
  refine go_getRe 22 dX4_heardIn_19 rfl (MO_k hM.1) gfX4_184_5 rfl (MO_f1490 hM.1) ?_
  refine go_iload_n 23 1 dX4_heardIn_22 rfl rfl rfl ?_
  refine go_iaload 24 dX4_heardIn_23 rfl (MO_k58 hM.1) vc.1 ?_
  replace vc := vc.2
  rw [hM.a58 vc.1]
  replace vc := vc.2
  refine go_isub 25 dX4_heardIn_24 rfl ?_
  obtain ⟨P3, hR, vc⟩ := vc
  refine go_callSI (M' := mX4_mostOf) (as := [vI ((-2) - (ho t (nt x1)))]) 28 dX4_heardIn_25 rfl q2067 okX4_mostOf rfl rfl rfl rfl rfl hR ?_
  intro z1 h2 p1
  replace vc := vc z1 h2 p1
  obtain ⟨t5, g6, hM, vc⟩ := vc
  refine go_i2l 29 dX4_heardIn_28 rfl ?_
  refine go_lsub 30 dX4_heardIn_29 rfl ?_
  refine go_lcmp 31 dX4_heardIn_30 rfl ?_
  refine go_if_ne 34 38 dX4_heardIn_31 rfl (by decide) (fun e7 => ?_) (fun e7 => ?_)
  · replace vc := vc.1 e7
    refine go_lload_n 39 3 dX4_heardIn_38 rfl rfl rfl ?_
    exact go_lreturn dX4_heardIn_39 rfl vc
  · replace vc := vc.2 e7
    refine go_lconst (v := 0) 35 dX4_heardIn_34 rfl (by decide) ?_
    refine go_goto 39 dX4_heardIn_35 (by decide) ?_
    exact go_lreturn dX4_heardIn_39 rfl vc

theorem bX4_loudnessOf_0 {h : Hp} {b : Nat × Nat} {Q : Rs → Hp → Prop} {o : Nat} {x1 : Int32} {x2 : Int32} {t : St} {g : Nat} (hM : MS h o t g) (vc : AWP mX4_loudnessOf 2 8 [vR (some o), vI x1, vI x2, vJ 0, vU, vJ 0, vU, vI (nI 0)] [] h b Q) : AWP mX4_loudnessOf 2 0 [vR (some o), vI x1, vI x2, vU, vU, vU, vU, vU] [] h b Q := by
  refine go_lconst (v := 0) 1 dX4_loudnessOf_0 rfl (by decide) ?_
  refine go_lstore_n 2 3 [vR (some o), vI x1, vI x2, vJ 0, vU, vU, vU, vU] dX4_loudnessOf_1 rfl rfl rfl rfl ?_
  refine go_lconst (v := 0) 3 dX4_loudnessOf_2 rfl (by decide) ?_
  refine go_lstore 5 [vR (some o), vI x1, vI x2, vJ 0, vU, vJ 0, vU, vU] dX4_loudnessOf_3 rfl rfl rfl ?_
  refine go_iconst (v := nI 0) 6 dX4_loudnessOf_5 rfl (by decide) ?_
  refine go_istore 8 [vR (some o), vI x1, vI x2, vJ 0, vU, vJ 0, vU, vI (nI 0)] dX4_loudnessOf_6 rfl rfl rfl ?_
  exact vc

theorem bX4_loudnessOf_8 {h : Hp} {b : Nat × Nat} {Q : Rs → Hp → Prop} {o : Nat} {x1 : Int32} {x2 : Int32} {x3 : Int64} {x5 : Int64} {x7 : Int32} {t : St} {g : Nat} (hM : MS h o t g) (vc : (vp_in x1 6 ∧ (((hAI h (o + 59) (nt x1)) ≤ x7 → ((0 ≤ (lg_cmp x3 0) → ((0 ≤ (lg_cmp x5 0) → AWP mX4_loudnessOf 2 95 [vR (some o), vI x1, vI x2, vJ x3, vU, vJ x5, vU, vI x7] [vJ x5] h b Q) ∧ (¬ 0 ≤ (lg_cmp x5 0) → AWP mX4_loudnessOf 2 95 [vR (some o), vI x1, vI x2, vJ x3, vU, vJ x5, vU, vI x7] [vJ (-x5)] h b Q))) ∧ (¬ 0 ≤ (lg_cmp x3 0) → ((0 ≤ (lg_cmp x5 0) → AWP mX4_loudnessOf 2 95 [vR (some o), vI x1, vI x2, vJ (-x3), vU, vJ x5, vU, vI x7] [vJ x5] h b Q) ∧ (¬ 0 ≤ (lg_cmp x5 0) → AWP mX4_loudnessOf 2 95 [vR (some o), vI x1, vI x2, vJ (-x3), vU, vJ x5, vU, vI x7] [vJ (-x5)] h b Q))))) ∧ (¬ (hAI h (o + 59) (nt x1)) ≤ x7 → (∃ (P7 : Int64 → Hp → Prop), Ret mX4_heardIn 1 [vR (some o), vI x1, vI x7] h 0 0 (RJ P7) ∧ ∀ z5 h6, P7 z5 h6 → (∃ t9 g10, MS h6 o t9 g10 ∧ (∃ (P13 : Int32 → Hp → Prop), Ret mX4_signOf 0 [vI x2, vI x7] h6 0 0 (RI P13) ∧ ∀ z11 h12, P13 z11 h12 → (∃ t15 g16, MS h12 o t15 g16 ∧ (∃ (P19 : Int64 → Hp → Prop), Ret mX4_heardIn 1 [vR (some o), vI x1, vI x7] h12 0 0 (RJ P19) ∧ ∀ z17 h18, P19 z17 h18 → (∃ t21 g22, MS h18 o t21 g22 ∧ (∃ (P25 : Int32 → Hp → Prop), Ret mX4_signOf 0 [vI x2, vI (x7 + (x2 / (nI 4)))] h18 0 0 (RI P25) ∧ ∀ z23 h24, P25 z23 h24 → (∃ t27 g28, MS h24 o t27 g28 ∧ AWP mX4_loudnessOf 2 8 [vR (some o), vI x1, vI x2, vJ (x3 + (z5 * z11.toInt64)), vU, vJ (x5 + (z17 * z23.toInt64)), vU, vI (x7 + nI 1)] [] h24 b Q)))))))))))) : AWP mX4_loudnessOf 2 8 [vR (some o), vI x1, vI x2, vJ x3, vU, vJ x5, vU, vI x7] [] h b Q := by
  refine go_iload 10 dX4_loudnessOf_8 rfl rfl ?_
  refine go_aload_n 11 0 dX4_loudnessOf_10 rfl rfl rfl ?_
  refine go_getRe 14 dX4_loudnessOf_11 rfl (MO_k hM.1) gfX4_187_5 rfl (MO_f1491 hM.1) ?_
  refine go_iload_n 15 1 dX4_loudnessOf_14 rfl rfl rfl ?_
  refine go_iaload 16 dX4_loudnessOf_15 rfl (MO_k59 hM.1) vc.1 ?_
  replace vc := vc.2
  refine go_icmp_ge 19 67 dX4_loudnessOf_16 rfl (by decide) (fun e1 => ?_) (fun e1 => ?_)
  · replace vc := vc.1 e1
    refine go_lload_n 68 3 dX4_loudnessOf_67 rfl rfl rfl ?_
    refine go_lconst (v := 0) 69 dX4_loudnessOf_68 rfl (by decide) ?_
    refine go_lcmp 70 dX4_loudnessOf_69 rfl ?_
    refine go_if_ge 73 78 dX4_loudnessOf_70 rfl (by decide) (fun e2 => ?_) (fun e2 => ?_)
    · replace vc := vc.1 e2
      refine go_lload_n 79 3 dX4_loudnessOf_78 rfl rfl rfl ?_
      refine go_lstore_n 80 3 [vR (some o), vI x1, vI x2, vJ x3, vU, vJ x5, vU, vI x7] dX4_loudnessOf_79 rfl rfl rfl rfl ?_
      refine go_lload 82 dX4_loudnessOf_80 rfl rfl ?_
      refine go_lconst (v := 0) 83 dX4_loudnessOf_82 rfl (by decide) ?_
      refine go_lcmp 84 dX4_loudnessOf_83 rfl ?_
      refine go_if_ge 87 93 dX4_loudnessOf_84 rfl (by decide) (fun e3 => ?_) (fun e3 => ?_)
      · replace vc := vc.1 e3
        refine go_lload 95 dX4_loudnessOf_93 rfl rfl ?_
        exact vc
      · replace vc := vc.2 e3
        refine go_lload 89 dX4_loudnessOf_87 rfl rfl ?_
        refine go_lneg 90 dX4_loudnessOf_89 rfl ?_
        refine go_goto 95 dX4_loudnessOf_90 (by decide) ?_
        exact vc
    · replace vc := vc.2 e2
      refine go_lload_n 74 3 dX4_loudnessOf_73 rfl rfl rfl ?_
      refine go_lneg 75 dX4_loudnessOf_74 rfl ?_
      refine go_goto 79 dX4_loudnessOf_75 (by decide) ?_
      refine go_lstore_n 80 3 [vR (some o), vI x1, vI x2, vJ (-x3), vU, vJ x5, vU, vI x7] dX4_loudnessOf_79 rfl rfl rfl rfl ?_
      refine go_lload 82 dX4_loudnessOf_80 rfl rfl ?_
      refine go_lconst (v := 0) 83 dX4_loudnessOf_82 rfl (by decide) ?_
      refine go_lcmp 84 dX4_loudnessOf_83 rfl ?_
      refine go_if_ge 87 93 dX4_loudnessOf_84 rfl (by decide) (fun e4 => ?_) (fun e4 => ?_)
      · replace vc := vc.1 e4
        refine go_lload 95 dX4_loudnessOf_93 rfl rfl ?_
        exact vc
      · replace vc := vc.2 e4
        refine go_lload 89 dX4_loudnessOf_87 rfl rfl ?_
        refine go_lneg 90 dX4_loudnessOf_89 rfl ?_
        refine go_goto 95 dX4_loudnessOf_90 (by decide) ?_
        exact vc
  · replace vc := vc.2 e1
    refine go_lload_n 20 3 dX4_loudnessOf_19 rfl rfl rfl ?_
    refine go_aload_n 21 0 dX4_loudnessOf_20 rfl rfl rfl ?_
    refine go_iload_n 22 1 dX4_loudnessOf_21 rfl rfl rfl ?_
    refine go_iload 24 dX4_loudnessOf_22 rfl rfl ?_
    obtain ⟨P7, hR, vc⟩ := vc
    refine go_callVJ (M' := mX4_heardIn) (as := [vI x1, vI x7]) 27 dX4_loudnessOf_24 rfl q2083 okX4_heardIn (MO_k hM.1) ck_4 rfl rfl rfl rfl rfl hR ?_
    intro z5 h6 p1
    replace vc := vc z5 h6 p1
    obtain ⟨t9, g10, hM, vc⟩ := vc
    refine go_iload_n 28 2 dX4_loudnessOf_27 rfl rfl rfl ?_
    refine go_iload 30 dX4_loudnessOf_28 rfl rfl ?_
    obtain ⟨P13, hR, vc⟩ := vc
    refine go_callSI (M' := mX4_signOf) (as := [vI x2, vI x7]) 33 dX4_loudnessOf_30 rfl q2088 okX4_signOf rfl rfl rfl rfl rfl hR ?_
    intro z11 h12 p1
    replace vc := vc z11 h12 p1
    obtain ⟨t15, g16, hM, vc⟩ := vc
    refine go_i2l 34 dX4_loudnessOf_33 rfl ?_
    refine go_lmul 35 dX4_loudnessOf_34 rfl ?_
    refine go_ladd 36 dX4_loudnessOf_35 rfl ?_
    refine go_lstore_n 37 3 [vR (some o), vI x1, vI x2, vJ (x3 + (z5 * z11.toInt64)), vU, vJ x5, vU, vI x7] dX4_loudnessOf_36 rfl rfl rfl rfl ?_
    refine go_lload 39 dX4_loudnessOf_37 rfl rfl ?_
    refine go_aload_n 40 0 dX4_loudnessOf_39 rfl rfl rfl ?_
    refine go_iload_n 41 1 dX4_loudnessOf_40 rfl rfl rfl ?_
    refine go_iload 43 dX4_loudnessOf_41 rfl rfl ?_
    obtain ⟨P19, hR, vc⟩ := vc
    refine go_callVJ (M' := mX4_heardIn) (as := [vI x1, vI x7]) 46 dX4_loudnessOf_43 rfl q2083 okX4_heardIn (MO_k hM.1) ck_4 rfl rfl rfl rfl rfl hR ?_
    intro z17 h18 p1
    replace vc := vc z17 h18 p1
    obtain ⟨t21, g22, hM, vc⟩ := vc
    refine go_iload_n 47 2 dX4_loudnessOf_46 rfl rfl rfl ?_
    refine go_iload 49 dX4_loudnessOf_47 rfl rfl ?_
    refine go_iload_n 50 2 dX4_loudnessOf_49 rfl rfl rfl ?_
    refine go_iconst (v := nI 4) 51 dX4_loudnessOf_50 rfl (by decide) ?_
    refine go_idiv 52 dX4_loudnessOf_51 rfl (by decide) ?_
    refine go_iadd 53 dX4_loudnessOf_52 rfl ?_
    obtain ⟨P25, hR, vc⟩ := vc
    refine go_callSI (M' := mX4_signOf) (as := [vI x2, vI (x7 + (x2 / (nI 4)))]) 56 dX4_loudnessOf_53 rfl q2088 okX4_signOf rfl rfl rfl rfl rfl hR ?_
    intro z23 h24 p1
    replace vc := vc z23 h24 p1
    obtain ⟨t27, g28, hM, vc⟩ := vc
    refine go_i2l 57 dX4_loudnessOf_56 rfl ?_
    refine go_lmul 58 dX4_loudnessOf_57 rfl ?_
    refine go_ladd 59 dX4_loudnessOf_58 rfl ?_
    refine go_lstore 61 [vR (some o), vI x1, vI x2, vJ (x3 + (z5 * z11.toInt64)), vU, vJ (x5 + (z17 * z23.toInt64)), vU, vI x7] dX4_loudnessOf_59 rfl rfl rfl ?_
    refine go_iinc 64 (x7 + nI 1) [vR (some o), vI x1, vI x2, vJ (x3 + (z5 * z11.toInt64)), vU, vJ (x5 + (z17 * z23.toInt64)), vU, vI (x7 + nI 1)] dX4_loudnessOf_61 rfl rfl (by rfl) rfl rfl ?_
    refine go_goto 8 dX4_loudnessOf_64 (by decide) ?_
    exact vc

theorem bX4_loudnessOf_95 {h : Hp} {b : Nat × Nat} {Q : Rs → Hp → Prop} {o : Nat} {x1 : Int32} {x2 : Int32} {x3 : Int64} {x5 : Int64} {x7 : Int32} {s0 : Int64} {t : St} {g : Nat} (hM : MS h o t g) (vc : (((lg_cmp x3 s0) ≤ 0 → Q (rJ (s0 + (x3 / 2))) h) ∧ (¬ (lg_cmp x3 s0) ≤ 0 → Q (rJ (x3 + (s0 / 2))) h))) : AWP mX4_loudnessOf 2 95 [vR (some o), vI x1, vI x2, vJ x3, vU, vJ x5, vU, vI x7] [vJ s0] h b Q := by
  refine go_lstore 97 [vR (some o), vI x1, vI x2, vJ x3, vU, vJ s0, vU, vI x7] dX4_loudnessOf_95 rfl rfl rfl ?_
  refine go_lload_n 98 3 dX4_loudnessOf_97 rfl rfl rfl ?_
  refine go_lload 100 dX4_loudnessOf_98 rfl rfl ?_
  refine go_lcmp 101 dX4_loudnessOf_100 rfl ?_
  refine go_if_le 104 115 dX4_loudnessOf_101 rfl (by decide) (fun e1 => ?_) (fun e1 => ?_)
  · replace vc := vc.1 e1
    refine go_lload 117 dX4_loudnessOf_115 rfl rfl ?_
    refine go_lload_n 118 3 dX4_loudnessOf_117 rfl rfl rfl ?_
    refine go_ldc2 121 dX4_loudnessOf_118 rfl q2091 ?_
    refine go_ldiv 122 dX4_loudnessOf_121 rfl (by decide) ?_
    refine go_ladd 123 dX4_loudnessOf_122 rfl ?_
    exact go_lreturn dX4_loudnessOf_123 rfl vc
  · replace vc := vc.2 e1
    refine go_lload_n 105 3 dX4_loudnessOf_104 rfl rfl rfl ?_
    refine go_lload 107 dX4_loudnessOf_105 rfl rfl ?_
    refine go_ldc2 110 dX4_loudnessOf_107 rfl q2091 ?_
    refine go_ldiv 111 dX4_loudnessOf_110 rfl (by decide) ?_
    refine go_ladd 112 dX4_loudnessOf_111 rfl ?_
    refine go_goto 123 dX4_loudnessOf_112 (by decide) ?_
    exact go_lreturn dX4_loudnessOf_123 rfl vc

theorem bX4_loudness_0 {h : Hp} {b : Nat × Nat} {Q : Rs → Hp → Prop} {o : Nat} {x1 : Int32} {x2 : Int32} {t : St} {g : Nat} (hM : MS h o t g) (vc : ((¬ (bt x1 0 5) → Q (rI (-1)) h) ∧ ((bt x1 0 5) → (((bt x2 2 60) → (∃ (P5 : Int32 → Hp → Prop), Ret mX4_whyNoRow 2 [vR (some o), vI x1] h 0 0 (RI P5) ∧ ∀ z3 h4, P5 z3 h4 → (∃ t7 g8, MS h4 o t7 g8 ∧ ((0 ≤ z3 → (∃ (P12 : Int64 → Hp → Prop), Ret mX4_loudnessOf 2 [vR (some o), vI x1, vI x2] h4 0 0 (RJ P12) ∧ ∀ z10 h11, P12 z10 h11 → (∃ t14 g15, MS h11 o t14 g15 ∧ (((lg_cmp z10 1999999999) ≤ 0 → Q (rI z10.toInt32) h11) ∧ (¬ (lg_cmp z10 1999999999) ≤ 0 → Q (rI 1999999999) h11))))) ∧ (¬ 0 ≤ z3 → (∃ (P19 : Int32 → Hp → Prop), Ret mX4_whyNoRow 2 [vR (some o), vI x1] h4 0 0 (RI P19) ∧ ∀ z17 h18, P19 z17 h18 → (∃ t21 g22, MS h18 o t21 g22 ∧ Q (rI z17) h18))))))) ∧ (¬ (bt x2 2 60) → Q (rI (-1)) h))))) : AWP mX4_loudness 3 0 [vR (some o), vI x1, vI x2, vU, vU] [] h b Q := by
  refine go_iload_n 1 1 dX4_loudness_0 rfl rfl rfl ?_
  refine go_callSI (M' := mX4_isShelf) (as := [vI x1]) 4 dX4_loudness_1 rfl q2060 okX4_isShelf rfl rfl rfl rfl rfl (ctX4_isShelf) ?_
  intro x0 h0 p0
  rw [p0.1, p0.2]
  refine go_if_eq 7 17 dX4_loudness_4 rfl (by decide) (fun e1 => ?_) (fun e1 => ?_)
  · replace vc := vc.1 (bI_0.mp e1)
    refine go_iconst (v := (-1)) 18 dX4_loudness_17 rfl (by decide) ?_
    exact go_ireturn dX4_loudness_18 rfl vc
  · replace vc := vc.2 (bI_n0.mp e1)
    refine go_iload_n 8 2 dX4_loudness_7 rfl rfl rfl ?_
    refine go_iconst (v := nI 2) 9 dX4_loudness_8 rfl (by decide) ?_
    refine go_bipush (v := nI 60) 11 dX4_loudness_9 rfl (by decide) ?_
    refine go_callSI (M' := mX4_in) (as := [vI x2, vI (nI 2), vI (nI 60)]) 14 dX4_loudness_11 rfl q1703 okX4_in rfl rfl rfl rfl rfl (ctX4_inL rfl rfl) ?_
    intro x0 h0 p0
    rw [p0.1, p0.2]
    refine go_if_ne 17 19 dX4_loudness_14 rfl (by decide) (fun e2 => ?_) (fun e2 => ?_)
    · replace vc := vc.1 (bI_n0.mp e2)
      refine go_aload_n 20 0 dX4_loudness_19 rfl rfl rfl ?_
      refine go_iload_n 21 1 dX4_loudness_20 rfl rfl rfl ?_
      obtain ⟨P5, hR, vc⟩ := vc
      refine go_callVI (M' := mX4_whyNoRow) (as := [vI x1]) 24 dX4_loudness_21 rfl q2075 okX4_whyNoRow (MO_k hM.1) ck_4 rfl rfl rfl rfl rfl hR ?_
      intro z3 h4 p1
      replace vc := vc z3 h4 p1
      obtain ⟨t7, g8, hM, vc⟩ := vc
      refine go_if_ge 27 33 dX4_loudness_24 rfl (by decide) (fun e9 => ?_) (fun e9 => ?_)
      · replace vc := vc.1 e9
        refine go_aload_n 34 0 dX4_loudness_33 rfl rfl rfl ?_
        refine go_iload_n 35 1 dX4_loudness_34 rfl rfl rfl ?_
        refine go_iload_n 36 2 dX4_loudness_35 rfl rfl rfl ?_
        obtain ⟨P12, hR, vc⟩ := vc
        refine go_callVJ (M' := mX4_loudnessOf) (as := [vI x1, vI x2]) 39 dX4_loudness_36 rfl q2079 okX4_loudnessOf (MO_k hM.1) ck_4 rfl rfl rfl rfl rfl hR ?_
        intro z10 h11 p1
        replace vc := vc z10 h11 p1
        obtain ⟨t14, g15, hM, vc⟩ := vc
        refine go_lstore_n 40 3 [vR (some o), vI x1, vI x2, vJ z10, vU] dX4_loudness_39 rfl rfl rfl rfl ?_
        refine go_lload_n 41 3 dX4_loudness_40 rfl rfl rfl ?_
        refine go_ldc2 44 dX4_loudness_41 rfl q2092 ?_
        refine go_lcmp 45 dX4_loudness_44 rfl ?_
        refine go_if_le 48 54 dX4_loudness_45 rfl (by decide) (fun e16 => ?_) (fun e16 => ?_)
        · replace vc := vc.1 e16
          refine go_lload_n 55 3 dX4_loudness_54 rfl rfl rfl ?_
          refine go_l2i 56 dX4_loudness_55 rfl ?_
          exact go_ireturn dX4_loudness_56 rfl vc
        · replace vc := vc.2 e16
          refine go_ldcw 51 dX4_loudness_48 rfl q2093 ?_
          refine go_goto 56 dX4_loudness_51 (by decide) ?_
          exact go_ireturn dX4_loudness_56 rfl vc
      · replace vc := vc.2 e9
        refine go_aload_n 28 0 dX4_loudness_27 rfl rfl rfl ?_
        refine go_iload_n 29 1 dX4_loudness_28 rfl rfl rfl ?_
        obtain ⟨P19, hR, vc⟩ := vc
        refine go_callVI (M' := mX4_whyNoRow) (as := [vI x1]) 32 dX4_loudness_29 rfl q2075 okX4_whyNoRow (MO_k hM.1) ck_4 rfl rfl rfl rfl rfl hR ?_
        intro z17 h18 p1
        replace vc := vc z17 h18 p1
        obtain ⟨t21, g22, hM, vc⟩ := vc
        exact go_ireturn dX4_loudness_32 rfl vc
    · replace vc := vc.2 (bI_0.mp e2)
      refine go_iconst (v := (-1)) 18 dX4_loudness_17 rfl (by decide) ?_
      exact go_ireturn dX4_loudness_18 rfl vc

theorem bX4_strongest_0 {h : Hp} {b : Nat × Nat} {Q : Rs → Hp → Prop} {o : Nat} {x1 : Int32} {t : St} {g : Nat} (hM : MS h o t g) (vc : (∃ (P3 : Int32 → Hp → Prop), Ret mX4_whyNoRow 2 [vR (some o), vI x1] h 0 0 (RI P3) ∧ ∀ z1 h2, P3 z1 h2 → (∃ t5 g6, MS h2 o t5 g6 ∧ ((0 ≤ z1 → (vp_in x1 6 ∧ ((¬ (hAI h2 (o + 59) (nt x1)) = 0 → (∃ (P11 : Int64 → Hp → Prop), Ret mX4_loudnessOf 2 [vR (some o), vI x1, vI (nI 2)] h2 0 0 (RJ P11) ∧ ∀ z9 h10, P11 z9 h10 → (∃ t13 g14, MS h10 o t13 g14 ∧ (vp_in x1 6 ∧ (¬ ((hAI h10 (o + 59) (nt x1)).toInt64) = 0 ∧ AWP mX4_strongest 3 46 [vR (some o), vI x1, vI (nI 2), vJ (z9 / ((hAI h10 (o + 59) (nt x1)).toInt64)), vU, vI (nI 3), vU, vU] [] h10 b Q))))) ∧ ((hAI h2 (o + 59) (nt x1)) = 0 → Q (rI (-2)) h2)))) ∧ (¬ 0 ≤ z1 → (∃ (P17 : Int32 → Hp → Prop), Ret mX4_whyNoRow 2 [vR (some o), vI x1] h2 0 0 (RI P17) ∧ ∀ z15 h16, P17 z15 h16 → (∃ t19 g20, MS h16 o t19 g20 ∧ Q (rI z15) h16))))))) : AWP mX4_strongest 3 0 [vR (some o), vI x1, vU, vU, vU, vU, vU, vU] [] h b Q := by
  refine go_aload_n 1 0 dX4_strongest_0 rfl rfl rfl ?_
  refine go_iload_n 2 1 dX4_strongest_1 rfl rfl rfl ?_
  obtain ⟨P3, hR, vc⟩ := vc
  refine go_callVI (M' := mX4_whyNoRow) (as := [vI x1]) 5 dX4_strongest_2 rfl q2075 okX4_whyNoRow (MO_k hM.1) ck_4 rfl rfl rfl rfl rfl hR ?_
  intro z1 h2 p1
  replace vc := vc z1 h2 p1
  obtain ⟨t5, g6, hM, vc⟩ := vc
  refine go_if_ge 8 14 dX4_strongest_5 rfl (by decide) (fun e7 => ?_) (fun e7 => ?_)
  · replace vc := vc.1 e7
    refine go_aload_n 15 0 dX4_strongest_14 rfl rfl rfl ?_
    refine go_getRe 18 dX4_strongest_15 rfl (MO_k hM.1) gfX4_187_5 rfl (MO_f1491 hM.1) ?_
    refine go_iload_n 19 1 dX4_strongest_18 rfl rfl rfl ?_
    refine go_iaload 20 dX4_strongest_19 rfl (MO_k59 hM.1) vc.1 ?_
    replace vc := vc.2
    refine go_if_ne 23 26 dX4_strongest_20 rfl (by decide) (fun e8 => ?_) (fun e8 => ?_)
    · replace vc := vc.1 e8
      refine go_iconst (v := nI 2) 27 dX4_strongest_26 rfl (by decide) ?_
      refine go_istore_n 28 2 [vR (some o), vI x1, vI (nI 2), vU, vU, vU, vU, vU] dX4_strongest_27 rfl rfl rfl rfl ?_
      refine go_aload_n 29 0 dX4_strongest_28 rfl rfl rfl ?_
      refine go_iload_n 30 1 dX4_strongest_29 rfl rfl rfl ?_
      refine go_iconst (v := nI 2) 31 dX4_strongest_30 rfl (by decide) ?_
      obtain ⟨P11, hR, vc⟩ := vc
      refine go_callVJ (M' := mX4_loudnessOf) (as := [vI x1, vI (nI 2)]) 34 dX4_strongest_31 rfl q2079 okX4_loudnessOf (MO_k hM.1) ck_4 rfl rfl rfl rfl rfl hR ?_
      intro z9 h10 p1
      replace vc := vc z9 h10 p1
      obtain ⟨t13, g14, hM, vc⟩ := vc
      refine go_aload_n 35 0 dX4_strongest_34 rfl rfl rfl ?_
      refine go_getRe 38 dX4_strongest_35 rfl (MO_k hM.1) gfX4_187_5 rfl (MO_f1491 hM.1) ?_
      refine go_iload_n 39 1 dX4_strongest_38 rfl rfl rfl ?_
      refine go_iaload 40 dX4_strongest_39 rfl (MO_k59 hM.1) vc.1 ?_
      replace vc := vc.2
      refine go_i2l 41 dX4_strongest_40 rfl ?_
      refine go_ldiv 42 dX4_strongest_41 rfl vc.1 ?_
      replace vc := vc.2
      refine go_lstore_n 43 3 [vR (some o), vI x1, vI (nI 2), vJ (z9 / ((hAI h10 (o + 59) (nt x1)).toInt64)), vU, vU, vU, vU] dX4_strongest_42 rfl rfl rfl rfl ?_
      refine go_iconst (v := nI 3) 44 dX4_strongest_43 rfl (by decide) ?_
      refine go_istore 46 [vR (some o), vI x1, vI (nI 2), vJ (z9 / ((hAI h10 (o + 59) (nt x1)).toInt64)), vU, vI (nI 3), vU, vU] dX4_strongest_44 rfl rfl rfl ?_
      exact vc
    · replace vc := vc.2 e8
      refine go_bipush (v := (-2)) 25 dX4_strongest_23 rfl (by decide) ?_
      exact go_ireturn dX4_strongest_25 rfl vc
  · replace vc := vc.2 e7
    refine go_aload_n 9 0 dX4_strongest_8 rfl rfl rfl ?_
    refine go_iload_n 10 1 dX4_strongest_9 rfl rfl rfl ?_
    obtain ⟨P17, hR, vc⟩ := vc
    refine go_callVI (M' := mX4_whyNoRow) (as := [vI x1]) 13 dX4_strongest_10 rfl q2075 okX4_whyNoRow (MO_k hM.1) ck_4 rfl rfl rfl rfl rfl hR ?_
    intro z15 h16 p1
    replace vc := vc z15 h16 p1
    obtain ⟨t19, g20, hM, vc⟩ := vc
    exact go_ireturn dX4_strongest_13 rfl vc

theorem bX4_strongest_46 {h : Hp} {b : Nat × Nat} {Q : Rs → Hp → Prop} {o : Nat} {x1 : Int32} {x2 : Int32} {x3 : Int64} {x5 : Int32} {y6 : AV} {y7 : AV} {t : St} {g : Nat} (hM : MS h o t g) (vc : (((nI 60) < x5 → Q (rI x2) h) ∧ (¬ (nI 60) < x5 → (∃ (P4 : Int64 → Hp → Prop), Ret mX4_loudnessOf 2 [vR (some o), vI x1, vI x5] h 0 0 (RJ P4) ∧ ∀ z2 h3, P4 z2 h3 → (∃ t6 g7, MS h3 o t6 g7 ∧ (vp_in x1 6 ∧ (¬ ((hAI h3 (o + 59) (nt x1)).toInt64) = 0 ∧ ((0 < (lg_cmp (z2 / ((hAI h3 (o + 59) (nt x1)).toInt64)) x3) → AWP mX4_strongest 3 46 [vR (some o), vI x1, vI x5, vJ (z2 / ((hAI h3 (o + 59) (nt x1)).toInt64)), vU, vI (x5 + nI 1), vJ (z2 / ((hAI h3 (o + 59) (nt x1)).toInt64)), vU] [] h3 b Q) ∧ (¬ 0 < (lg_cmp (z2 / ((hAI h3 (o + 59) (nt x1)).toInt64)) x3) → AWP mX4_strongest 3 46 [vR (some o), vI x1, vI x2, vJ x3, vU, vI (x5 + nI 1), vJ (z2 / ((hAI h3 (o + 59) (nt x1)).toInt64)), vU] [] h3 b Q))))))))) : AWP mX4_strongest 3 46 [vR (some o), vI x1, vI x2, vJ x3, vU, vI x5, y6, y7] [] h b Q := by
  refine go_iload 48 dX4_strongest_46 rfl rfl ?_
  refine go_bipush (v := nI 60) 50 dX4_strongest_48 rfl (by decide) ?_
  refine go_icmp_gt 53 92 dX4_strongest_50 rfl (by decide) (fun e1 => ?_) (fun e1 => ?_)
  · replace vc := vc.1 e1
    refine go_iload_n 93 2 dX4_strongest_92 rfl rfl rfl ?_
    exact go_ireturn dX4_strongest_93 rfl vc
  · replace vc := vc.2 e1
    refine go_aload_n 54 0 dX4_strongest_53 rfl rfl rfl ?_
    refine go_iload_n 55 1 dX4_strongest_54 rfl rfl rfl ?_
    refine go_iload 57 dX4_strongest_55 rfl rfl ?_
    obtain ⟨P4, hR, vc⟩ := vc
    refine go_callVJ (M' := mX4_loudnessOf) (as := [vI x1, vI x5]) 60 dX4_strongest_57 rfl q2079 okX4_loudnessOf (MO_k hM.1) ck_4 rfl rfl rfl rfl rfl hR ?_
    intro z2 h3 p1
    replace vc := vc z2 h3 p1
    obtain ⟨t6, g7, hM, vc⟩ := vc
    refine go_aload_n 61 0 dX4_strongest_60 rfl rfl rfl ?_
    refine go_getRe 64 dX4_strongest_61 rfl (MO_k hM.1) gfX4_187_5 rfl (MO_f1491 hM.1) ?_
    refine go_iload_n 65 1 dX4_strongest_64 rfl rfl rfl ?_
    refine go_iaload 66 dX4_strongest_65 rfl (MO_k59 hM.1) vc.1 ?_
    replace vc := vc.2
    refine go_i2l 67 dX4_strongest_66 rfl ?_
    refine go_ldiv 68 dX4_strongest_67 rfl vc.1 ?_
    replace vc := vc.2
    refine go_lstore 70 [vR (some o), vI x1, vI x2, vJ x3, vU, vI x5, vJ (z2 / ((hAI h3 (o + 59) (nt x1)).toInt64)), vU] dX4_strongest_68 rfl rfl rfl ?_
    refine go_lload 72 dX4_strongest_70 rfl rfl ?_
    refine go_lload_n 73 3 dX4_strongest_72 rfl rfl rfl ?_
    refine go_lcmp 74 dX4_strongest_73 rfl ?_
    refine go_if_gt 77 80 dX4_strongest_74 rfl (by decide) (fun e8 => ?_) (fun e8 => ?_)
    · replace vc := vc.1 e8
      refine go_iload 82 dX4_strongest_80 rfl rfl ?_
      refine go_istore_n 83 2 [vR (some o), vI x1, vI x5, vJ x3, vU, vI x5, vJ (z2 / ((hAI h3 (o + 59) (nt x1)).toInt64)), vU] dX4_strongest_82 rfl rfl rfl rfl ?_
      refine go_lload 85 dX4_strongest_83 rfl rfl ?_
      refine go_lstore_n 86 3 [vR (some o), vI x1, vI x5, vJ (z2 / ((hAI h3 (o + 59) (nt x1)).toInt64)), vU, vI x5, vJ (z2 / ((hAI h3 (o + 59) (nt x1)).toInt64)), vU] dX4_strongest_85 rfl rfl rfl rfl ?_
      refine go_iinc 89 (x5 + nI 1) [vR (some o), vI x1, vI x5, vJ (z2 / ((hAI h3 (o + 59) (nt x1)).toInt64)), vU, vI (x5 + nI 1), vJ (z2 / ((hAI h3 (o + 59) (nt x1)).toInt64)), vU] dX4_strongest_86 rfl rfl (by rfl) rfl rfl ?_
      refine go_goto 46 dX4_strongest_89 (by decide) ?_
      exact vc
    · replace vc := vc.2 e8
      refine go_goto 86 dX4_strongest_77 (by decide) ?_
      refine go_iinc 89 (x5 + nI 1) [vR (some o), vI x1, vI x2, vJ x3, vU, vI (x5 + nI 1), vJ (z2 / ((hAI h3 (o + 59) (nt x1)).toInt64)), vU] dX4_strongest_86 rfl rfl (by rfl) rfl rfl ?_
      refine go_goto 46 dX4_strongest_89 (by decide) ?_
      exact vc

theorem bX4_doAgree_0 {h : Hp} {b : Nat × Nat} {Q : Rs → Hp → Prop} {o : Nat} {x1 : Int32} {x2 : Int32} {x3 : Int32} {x4 : Int32} {t : St} {g : Nat} (hM : MS h o t g) (vc : (vp_in x2 7 ∧ (vp_in x1 6 ∧ (nt x1) < rt t ∧ (vp_in x3 7 ∧ (vp_in x1 6 ∧ (nt x1) < rt t ∧ ((x4 < (abI (((hAI h (o + 56) (nt x2)) * (rb t (nt x1))) - ((hAI h (o + 56) (nt x3)) * (ra t (nt x1))))) → Q (rI (nI 0)) h) ∧ (¬ x4 < (abI (((hAI h (o + 56) (nt x2)) * (rb t (nt x1))) - ((hAI h (o + 56) (nt x3)) * (ra t (nt x1))))) → Q (rI (nI 1)) h))))))) : AWP mX4_doAgree 1 0 [vR (some o), vI x1, vI x2, vI x3, vI x4] [] h b Q := by
  refine go_aload_n 1 0 dX4_doAgree_0 rfl rfl rfl ?_
  refine go_getRe 4 dX4_doAgree_1 rfl (MO_k hM.1) gfX4_178_5 rfl (MO_f1487 hM.1) ?_
  refine go_iload_n 5 2 dX4_doAgree_4 rfl rfl rfl ?_
  refine go_iaload 6 dX4_doAgree_5 rfl (MO_k56 hM.1) vc.1 ?_
  replace vc := vc.2
  refine go_aload_n 7 0 dX4_doAgree_6 rfl rfl rfl ?_
  refine go_getRe 10 dX4_doAgree_7 rfl (MO_k hM.1) gfX4_172_5 rfl (MO_f1485 hM.1) ?_
  refine go_iload_n 11 1 dX4_doAgree_10 rfl rfl rfl ?_
  refine go_iaload 12 dX4_doAgree_11 rfl (MO_k54 hM.1) vc.1 ?_
  replace vc := vc.2
  rw [hM.a54 vc.1]
  replace vc := vc.2
  refine go_imul 13 dX4_doAgree_12 rfl ?_
  refine go_aload_n 14 0 dX4_doAgree_13 rfl rfl rfl ?_
  refine go_getRe 17 dX4_doAgree_14 rfl (MO_k hM.1) gfX4_178_5 rfl (MO_f1487 hM.1) ?_
  refine go_iload_n 18 3 dX4_doAgree_17 rfl rfl rfl ?_
  refine go_iaload 19 dX4_doAgree_18 rfl (MO_k56 hM.1) vc.1 ?_
  replace vc := vc.2
  refine go_aload_n 20 0 dX4_doAgree_19 rfl rfl rfl ?_
  refine go_getRe 23 dX4_doAgree_20 rfl (MO_k hM.1) gfX4_169_5 rfl (MO_f1484 hM.1) ?_
  refine go_iload_n 24 1 dX4_doAgree_23 rfl rfl rfl ?_
  refine go_iaload 25 dX4_doAgree_24 rfl (MO_k53 hM.1) vc.1 ?_
  replace vc := vc.2
  rw [hM.a53 vc.1]
  replace vc := vc.2
  refine go_imul 26 dX4_doAgree_25 rfl ?_
  refine go_isub 27 dX4_doAgree_26 rfl ?_
  refine go_callSI (M' := mX4_sizeOf) (as := [vI (((hAI h (o + 56) (nt x2)) * (rb t (nt x1))) - ((hAI h (o + 56) (nt x3)) * (ra t (nt x1))))]) 30 dX4_doAgree_27 rfl q1982 okX4_sizeOf rfl rfl rfl rfl rfl (ctX4_sizeOf) ?_
  intro x0 h0 p0
  rw [p0.1, p0.2]
  refine go_iload 32 dX4_doAgree_30 rfl rfl ?_
  refine go_icmp_gt 35 39 dX4_doAgree_32 rfl (by decide) (fun e1 => ?_) (fun e1 => ?_)
  · replace vc := vc.1 e1
    refine go_iconst (v := nI 0) 40 dX4_doAgree_39 rfl (by decide) ?_
    exact go_zreturn dX4_doAgree_40 rfl (by decide) vc
  · replace vc := vc.2 e1
    refine go_iconst (v := nI 1) 36 dX4_doAgree_35 rfl (by decide) ?_
    refine go_goto 40 dX4_doAgree_36 (by decide) ?_
    exact go_zreturn dX4_doAgree_40 rfl (by decide) vc

theorem bX4_allAgree_0 {h : Hp} {b : Nat × Nat} {Q : Rs → Hp → Prop} {o : Nat} {x1 : Int32} {x2 : Int32} {x3 : Int32} {t : St} {g : Nat} (hM : MS h o t g) (vc : AWP mX4_allAgree 2 9 [vR (some o), vI x1, vI x2, vI x3, vI (nI 0), vI (-1), vI (nI 0)] [] h b Q) : AWP mX4_allAgree 2 0 [vR (some o), vI x1, vI x2, vI x3, vU, vU, vU] [] h b Q := by
  refine go_iconst (v := nI 0) 1 dX4_allAgree_0 rfl (by decide) ?_
  refine go_istore 3 [vR (some o), vI x1, vI x2, vI x3, vI (nI 0), vU, vU] dX4_allAgree_1 rfl rfl rfl ?_
  refine go_iconst (v := (-1)) 4 dX4_allAgree_3 rfl (by decide) ?_
  refine go_istore 6 [vR (some o), vI x1, vI x2, vI x3, vI (nI 0), vI (-1), vU] dX4_allAgree_4 rfl rfl rfl ?_
  refine go_iconst (v := nI 0) 7 dX4_allAgree_6 rfl (by decide) ?_
  refine go_istore 9 [vR (some o), vI x1, vI x2, vI x3, vI (nI 0), vI (-1), vI (nI 0)] dX4_allAgree_7 rfl rfl rfl ?_
  exact vc

theorem bX4_allAgree_9 {h : Hp} {b : Nat × Nat} {Q : Rs → Hp → Prop} {o : Nat} {x1 : Int32} {x2 : Int32} {x3 : Int32} {x4 : Int32} {x5 : Int32} {x6 : Int32} {t : St} {g : Nat} (hM : MS h o t g) (vc : ((x2 ≤ x6 → Q (rI (nI 1)) h) ∧ (¬ x2 ≤ x6 → ((¬ ((x1 >>> (x6 &&& 31)) &&& (nI 1)) = 0 → ((x5 < 0 → AWP mX4_allAgree 2 9 [vR (some o), vI x1, vI x2, vI x3, vI x4, vI x6, vI (x6 + nI 1)] [] h b Q) ∧ (¬ x5 < 0 → (∃ (P6 : Int32 → Hp → Prop), Ret mX4_doAgree 1 [vR (some o), vI x4, vI x5, vI x6, vI x3] h 0 0 (RI P6) ∧ ∀ z4 h5, P6 z4 h5 → (∃ t8 g9, MS h5 o t8 g9 ∧ ((¬ z4 = 0 → AWP mX4_allAgree 2 9 [vR (some o), vI x1, vI x2, vI x3, vI (x4 + nI 1), vI x6, vI (x6 + nI 1)] [] h5 b Q) ∧ (z4 = 0 → Q (rI (nI 0)) h5))))))) ∧ (((x1 >>> (x6 &&& 31)) &&& (nI 1)) = 0 → AWP mX4_allAgree 2 9 [vR (some o), vI x1, vI x2, vI x3, vI x4, vI x5, vI (x6 + nI 1)] [] h b Q))))) : AWP mX4_allAgree 2 9 [vR (some o), vI x1, vI x2, vI x3, vI x4, vI x5, vI x6] [] h b Q := by
  refine go_iload 11 dX4_allAgree_9 rfl rfl ?_
  refine go_iload_n 12 2 dX4_allAgree_11 rfl rfl rfl ?_
  refine go_icmp_ge 15 61 dX4_allAgree_12 rfl (by decide) (fun e1 => ?_) (fun e1 => ?_)
  · replace vc := vc.1 e1
    refine go_iconst (v := nI 1) 62 dX4_allAgree_61 rfl (by decide) ?_
    exact go_zreturn dX4_allAgree_62 rfl (by decide) vc
  · replace vc := vc.2 e1
    refine go_iload_n 16 1 dX4_allAgree_15 rfl rfl rfl ?_
    refine go_iload 18 dX4_allAgree_16 rfl rfl ?_
    refine go_ishr 19 dX4_allAgree_18 rfl ?_
    refine go_iconst (v := nI 1) 20 dX4_allAgree_19 rfl (by decide) ?_
    refine go_iand 21 dX4_allAgree_20 rfl ?_
    refine go_if_ne 24 27 dX4_allAgree_21 rfl (by decide) (fun e2 => ?_) (fun e2 => ?_)
    · replace vc := vc.1 e2
      refine go_iload 29 dX4_allAgree_27 rfl rfl ?_
      refine go_if_lt 32 51 dX4_allAgree_29 rfl (by decide) (fun e3 => ?_) (fun e3 => ?_)
      · replace vc := vc.1 e3
        refine go_iload 53 dX4_allAgree_51 rfl rfl ?_
        refine go_istore 55 [vR (some o), vI x1, vI x2, vI x3, vI x4, vI x6, vI x6] dX4_allAgree_53 rfl rfl rfl ?_
        refine go_iinc 58 (x6 + nI 1) [vR (some o), vI x1, vI x2, vI x3, vI x4, vI x6, vI (x6 + nI 1)] dX4_allAgree_55 rfl rfl (by rfl) rfl rfl ?_
        refine go_goto 9 dX4_allAgree_58 (by decide) ?_
        exact vc
      · replace vc := vc.2 e3
        refine go_aload_n 33 0 dX4_allAgree_32 rfl rfl rfl ?_
        refine go_iload 35 dX4_allAgree_33 rfl rfl ?_
        refine go_iload 37 dX4_allAgree_35 rfl rfl ?_
        refine go_iload 39 dX4_allAgree_37 rfl rfl ?_
        refine go_iload_n 40 3 dX4_allAgree_39 rfl rfl rfl ?_
        obtain ⟨P6, hR, vc⟩ := vc
        refine go_callVI (M' := mX4_doAgree) (as := [vI x4, vI x5, vI x6, vI x3]) 43 dX4_allAgree_40 rfl q2110 okX4_doAgree (MO_k hM.1) ck_4 rfl rfl rfl rfl rfl hR ?_
        intro z4 h5 p1
        replace vc := vc z4 h5 p1
        obtain ⟨t8, g9, hM, vc⟩ := vc
        refine go_if_ne 46 48 dX4_allAgree_43 rfl (by decide) (fun e10 => ?_) (fun e10 => ?_)
        · replace vc := vc.1 e10
          refine go_iinc 51 (x4 + nI 1) [vR (some o), vI x1, vI x2, vI x3, vI (x4 + nI 1), vI x5, vI x6] dX4_allAgree_48 rfl rfl (by rfl) rfl rfl ?_
          refine go_iload 53 dX4_allAgree_51 rfl rfl ?_
          refine go_istore 55 [vR (some o), vI x1, vI x2, vI x3, vI (x4 + nI 1), vI x6, vI x6] dX4_allAgree_53 rfl rfl rfl ?_
          refine go_iinc 58 (x6 + nI 1) [vR (some o), vI x1, vI x2, vI x3, vI (x4 + nI 1), vI x6, vI (x6 + nI 1)] dX4_allAgree_55 rfl rfl (by rfl) rfl rfl ?_
          refine go_goto 9 dX4_allAgree_58 (by decide) ?_
          exact vc
        · replace vc := vc.2 e10
          refine go_iconst (v := nI 0) 47 dX4_allAgree_46 rfl (by decide) ?_
          exact go_zreturn dX4_allAgree_47 rfl (by decide) vc
    · replace vc := vc.2 e2
      refine go_goto 55 dX4_allAgree_24 (by decide) ?_
      refine go_iinc 58 (x6 + nI 1) [vR (some o), vI x1, vI x2, vI x3, vI x4, vI x5, vI (x6 + nI 1)] dX4_allAgree_55 rfl rfl (by rfl) rfl rfl ?_
      refine go_goto 9 dX4_allAgree_58 (by decide) ?_
      exact vc

theorem bX4_agree_0 {h : Hp} {b : Nat × Nat} {Q : Rs → Hp → Prop} {o : Nat} {x1 : Int32} {x2 : Int32} {x3 : Int32} {x4 : Int32} {t : St} {g : Nat} (hM : MS h o t g) (vc : ((¬ (bt x2 2 7) → Q (rI (-1)) h) ∧ ((bt x2 2 7) → ((¬ (bt x3 0 9999) → Q (rI (-1)) h) ∧ ((bt x3 0 9999) → ((¬ (bt x4 0 1) → Q (rI (-1)) h) ∧ ((bt x4 0 1) → ((x1 < 0 → Q (rI (-1)) h) ∧ (¬ x1 < 0 → (((x1 >>> (((nI 4) * x2) &&& 31)) = 0 → AWP mX4_agree 17 48 [vR (some o), vI x1, vI x2, vI x3, vI x4, vI (nI 0), vU, vU] [] h b Q) ∧ (¬ (x1 >>> (((nI 4) * x2) &&& 31)) = 0 → Q (rI (-1)) h))))))))))) : AWP mX4_agree 17 0 [vR (some o), vI x1, vI x2, vI x3, vI x4, vU, vU, vU] [] h b Q := by
  refine go_iload_n 1 2 dX4_agree_0 rfl rfl rfl ?_
  refine go_iconst (v := nI 2) 2 dX4_agree_1 rfl (by decide) ?_
  refine go_bipush (v := nI 7) 4 dX4_agree_2 rfl (by decide) ?_
  refine go_callSI (M' := mX4_in) (as := [vI x2, vI (nI 2), vI (nI 7)]) 7 dX4_agree_4 rfl q1703 okX4_in rfl rfl rfl rfl rfl (ctX4_inL rfl rfl) ?_
  intro x0 h0 p0
  rw [p0.1, p0.2]
  refine go_if_eq 10 43 dX4_agree_7 rfl (by decide) (fun e1 => ?_) (fun e1 => ?_)
  · replace vc := vc.1 (bI_0.mp e1)
    refine go_iconst (v := (-1)) 44 dX4_agree_43 rfl (by decide) ?_
    exact go_ireturn dX4_agree_44 rfl vc
  · replace vc := vc.2 (bI_n0.mp e1)
    refine go_iload_n 11 3 dX4_agree_10 rfl rfl rfl ?_
    refine go_iconst (v := nI 0) 12 dX4_agree_11 rfl (by decide) ?_
    refine go_sipush (v := nI 9999) 15 dX4_agree_12 rfl (by decide) ?_
    refine go_callSI (M' := mX4_in) (as := [vI x3, vI (nI 0), vI (nI 9999)]) 18 dX4_agree_15 rfl q1703 okX4_in rfl rfl rfl rfl rfl (ctX4_inL rfl rfl) ?_
    intro x0 h0 p0
    rw [p0.1, p0.2]
    refine go_if_eq 21 43 dX4_agree_18 rfl (by decide) (fun e2 => ?_) (fun e2 => ?_)
    · replace vc := vc.1 (bI_0.mp e2)
      refine go_iconst (v := (-1)) 44 dX4_agree_43 rfl (by decide) ?_
      exact go_ireturn dX4_agree_44 rfl vc
    · replace vc := vc.2 (bI_n0.mp e2)
      refine go_iload 23 dX4_agree_21 rfl rfl ?_
      refine go_iconst (v := nI 0) 24 dX4_agree_23 rfl (by decide) ?_
      refine go_iconst (v := nI 1) 25 dX4_agree_24 rfl (by decide) ?_
      refine go_callSI (M' := mX4_in) (as := [vI x4, vI (nI 0), vI (nI 1)]) 28 dX4_agree_25 rfl q1703 okX4_in rfl rfl rfl rfl rfl (ctX4_inL rfl rfl) ?_
      intro x0 h0 p0
      rw [p0.1, p0.2]
      refine go_if_eq 31 43 dX4_agree_28 rfl (by decide) (fun e3 => ?_) (fun e3 => ?_)
      · replace vc := vc.1 (bI_0.mp e3)
        refine go_iconst (v := (-1)) 44 dX4_agree_43 rfl (by decide) ?_
        exact go_ireturn dX4_agree_44 rfl vc
      · replace vc := vc.2 (bI_n0.mp e3)
        refine go_iload_n 32 1 dX4_agree_31 rfl rfl rfl ?_
        refine go_if_lt 35 43 dX4_agree_32 rfl (by decide) (fun e4 => ?_) (fun e4 => ?_)
        · replace vc := vc.1 e4
          refine go_iconst (v := (-1)) 44 dX4_agree_43 rfl (by decide) ?_
          exact go_ireturn dX4_agree_44 rfl vc
        · replace vc := vc.2 e4
          refine go_iload_n 36 1 dX4_agree_35 rfl rfl rfl ?_
          refine go_iconst (v := nI 4) 37 dX4_agree_36 rfl (by decide) ?_
          refine go_iload_n 38 2 dX4_agree_37 rfl rfl rfl ?_
          refine go_imul 39 dX4_agree_38 rfl ?_
          refine go_ishr 40 dX4_agree_39 rfl ?_
          refine go_if_eq 43 45 dX4_agree_40 rfl (by decide) (fun e5 => ?_) (fun e5 => ?_)
          · replace vc := vc.1 e5
            refine go_iconst (v := nI 0) 46 dX4_agree_45 rfl (by decide) ?_
            refine go_istore 48 [vR (some o), vI x1, vI x2, vI x3, vI x4, vI (nI 0), vU, vU] dX4_agree_46 rfl rfl rfl ?_
            exact vc
          · replace vc := vc.2 e5
            refine go_iconst (v := (-1)) 44 dX4_agree_43 rfl (by decide) ?_
            exact go_ireturn dX4_agree_44 rfl vc

theorem bX4_agree_48 {h : Hp} {b : Nat × Nat} {Q : Rs → Hp → Prop} {o : Nat} {x1 : Int32} {x2 : Int32} {x3 : Int32} {x4 : Int32} {x5 : Int32} {y6 : AV} {t : St} {g : Nat} (hM : MS h o t g) (vc : ((x2 ≤ x5 → (((x2 - (nI 1)) ≤ (nI (rt t)) → AWP mX4_agree 17 116 [vR (some o), vI x1, vI x2, vI x3, vI x4, vI (nI 0), y6, vU] [] h b Q) ∧ (¬ (x2 - (nI 1)) ≤ (nI (rt t)) → Q (rI (-4)) h))) ∧ (¬ x2 ≤ x5 → ((¬ (isSh t ((x1 >>> (((nI 4) * x5) &&& 31)) &&& (nI 15))) → Q (rI (-1)) h) ∧ ((isSh t ((x1 >>> (((nI 4) * x5) &&& 31)) &&& (nI 15))) → (isSh t ((x1 >>> (((nI 4) * x5) &&& 31)) &&& (nI 15)) ∧ ((¬ (nI (tones t (nt ((x1 >>> (((nI 4) * x5) &&& 31)) &&& (nI 15))))) = 0 → (vp_in x5 7 ∧ (∀ h5, h5 = w1 h (o + 55) (nt x5) ((x1 >>> (((nI 4) * x5) &&& 31)) &&& (nI 15)) → AWP mX4_agree 17 48 [vR (some o), vI x1, vI x2, vI x3, vI x4, vI (x5 + nI 1), vI ((x1 >>> (((nI 4) * x5) &&& 31)) &&& (nI 15)), vU] [] h5 b Q))) ∧ ((nI (tones t (nt ((x1 >>> (((nI 4) * x5) &&& 31)) &&& (nI 15))))) = 0 → Q (rI (-1)) h)))))))) : AWP mX4_agree 17 48 [vR (some o), vI x1, vI x2, vI x3, vI x4, vI x5, y6, vU] [] h b Q := by
  refine go_iload 50 dX4_agree_48 rfl rfl ?_
  refine go_iload_n 51 2 dX4_agree_50 rfl rfl rfl ?_
  refine go_icmp_ge 54 100 dX4_agree_51 rfl (by decide) (fun e1 => ?_) (fun e1 => ?_)
  · replace vc := vc.1 e1
    refine go_aload_n 101 0 dX4_agree_100 rfl rfl rfl ?_
    refine go_getI 104 dX4_agree_101 rfl (MO_k hM.1) gfX4_504_5 rfl ?_
    rw [hM.f483]
    refine go_iload_n 105 2 dX4_agree_104 rfl rfl rfl ?_
    refine go_iconst (v := nI 1) 106 dX4_agree_105 rfl (by decide) ?_
    refine go_isub 107 dX4_agree_106 rfl ?_
    refine go_icmp_ge 110 113 dX4_agree_107 rfl (by decide) (fun e2 => ?_) (fun e2 => ?_)
    · replace vc := vc.1 e2
      refine go_iconst (v := nI 0) 114 dX4_agree_113 rfl (by decide) ?_
      refine go_istore 116 [vR (some o), vI x1, vI x2, vI x3, vI x4, vI (nI 0), y6, vU] dX4_agree_114 rfl rfl rfl ?_
      exact vc
    · replace vc := vc.2 e2
      refine go_bipush (v := (-4)) 112 dX4_agree_110 rfl (by decide) ?_
      exact go_ireturn dX4_agree_112 rfl vc
  · replace vc := vc.2 e1
    refine go_iload_n 55 1 dX4_agree_54 rfl rfl rfl ?_
    refine go_iconst (v := nI 4) 56 dX4_agree_55 rfl (by decide) ?_
    refine go_iload 58 dX4_agree_56 rfl rfl ?_
    refine go_imul 59 dX4_agree_58 rfl ?_
    refine go_ishr 60 dX4_agree_59 rfl ?_
    refine go_bipush (v := nI 15) 62 dX4_agree_60 rfl (by decide) ?_
    refine go_iand 63 dX4_agree_62 rfl ?_
    refine go_istore 65 [vR (some o), vI x1, vI x2, vI x3, vI x4, vI x5, vI ((x1 >>> (((nI 4) * x5) &&& 31)) &&& (nI 15)), vU] dX4_agree_63 rfl rfl rfl ?_
    refine go_aload_n 66 0 dX4_agree_65 rfl rfl rfl ?_
    refine go_iload 68 dX4_agree_66 rfl rfl ?_
    refine go_callVI (M' := mX4_isShape) (as := [vI ((x1 >>> (((nI 4) * x5) &&& 31)) &&& (nI 15))]) 71 dX4_agree_68 rfl q1769 okX4_isShape (MO_k hM.1) ck_4 rfl rfl rfl rfl rfl (ctX4_isShape hM) ?_
    intro x0 h0 p0
    rw [p0.1, p0.2]
    refine go_if_eq 74 83 dX4_agree_71 rfl (by decide) (fun e3 => ?_) (fun e3 => ?_)
    · replace vc := vc.1 (bI_0.mp e3)
      refine go_iconst (v := (-1)) 84 dX4_agree_83 rfl (by decide) ?_
      exact go_ireturn dX4_agree_84 rfl vc
    · replace vc := vc.2 (bI_n0.mp e3)
      refine go_aload_n 75 0 dX4_agree_74 rfl rfl rfl ?_
      refine go_iload 77 dX4_agree_75 rfl rfl ?_
      refine go_callVI (M' := mX4_tonesOf) (as := [vI ((x1 >>> (((nI 4) * x5) &&& 31)) &&& (nI 15))]) 80 dX4_agree_77 rfl q1778 okX4_tonesOf (MO_k hM.1) ck_4 rfl rfl rfl rfl rfl (ctX4_tonesOf hM vc.1) ?_
      replace vc := vc.2
      intro x0 h0 p0
      rw [p0.1, p0.2]
      refine go_if_ne 83 85 dX4_agree_80 rfl (by decide) (fun e4 => ?_) (fun e4 => ?_)
      · replace vc := vc.1 e4
        refine go_aload_n 86 0 dX4_agree_85 rfl rfl rfl ?_
        refine go_getRe 89 dX4_agree_86 rfl (MO_k hM.1) gfX4_175_5 rfl (MO_f1486 hM.1) ?_
        refine go_iload 91 dX4_agree_89 rfl rfl ?_
        refine go_iload 93 dX4_agree_91 rfl rfl ?_
        refine go_iastore 94 dX4_agree_93 rfl (MO_k55 hM.1) vc.1 ?_
        replace vc := vc.2
        refine AWP.nm fun h5 eh5 => ?_
        replace vc := vc h5 eh5
        have hM : MS h5 o t g := by rw [eh5]; exact hM.fr (PE.A rfl)
        refine go_iinc 97 (x5 + nI 1) [vR (some o), vI x1, vI x2, vI x3, vI x4, vI (x5 + nI 1), vI ((x1 >>> (((nI 4) * x5) &&& 31)) &&& (nI 15)), vU] dX4_agree_94 rfl rfl (by rfl) rfl rfl ?_
        refine go_goto 48 dX4_agree_97 (by decide) ?_
        exact vc
      · replace vc := vc.2 e4
        refine go_iconst (v := (-1)) 84 dX4_agree_83 rfl (by decide) ?_
        exact go_ireturn dX4_agree_84 rfl vc

theorem bX4_agree_116 {h : Hp} {b : Nat × Nat} {Q : Rs → Hp → Prop} {o : Nat} {x1 : Int32} {x2 : Int32} {x3 : Int32} {x4 : Int32} {x5 : Int32} {y6 : AV} {t : St} {g : Nat} (hM : MS h o t g) (vc : ((x2 ≤ x5 → ((¬ x4 = 0 → AWP mX4_agree 17 220 [vR (some o), vI x1, vI x2, vI x3, vI x4, vI (((nI 1) <<< (x2 &&& 31)) - (nI 1)), vI (-1), vI (nI 0)] [] h b Q) ∧ (x4 = 0 → AWP mX4_agree 17 171 [vR (some o), vI x1, vI x2, vI x3, vI x4, vI (((nI 1) <<< (x2 &&& 31)) - (nI 1)), vI (nI 0), vI (nI 0)] [] h b Q))) ∧ (¬ x2 ≤ x5 → (vp_in x5 7 ∧ (∃ (P5 : Hp → Prop), Ret mX4_take 2 [vR (some o), vI (hAI h (o + 55) (nt x5))] h 0 0 (RV P5) ∧ ∀ h4, P5 h4 → (∃ t7 g8, MS h4 o t7 g8 ∧ (∃ (P11 : Int32 → Hp → Prop), Ret mX4_shutNow 16 [vR (some o), vI (nI 0), vI (nI 9)] h4 0 0 (RI P11) ∧ ∀ z9 h10, P11 z9 h10 → (∃ t13 g14, MS h10 o t13 g14 ∧ (vp_in x5 7 ∧ (∀ h15, h15 = w1 h10 (o + 56) (nt x5) z9 → AWP mX4_agree 17 116 [vR (some o), vI x1, vI x2, vI x3, vI x4, vI (x5 + nI 1), y6, vU] [] h15 b Q)))))))))) : AWP mX4_agree 17 116 [vR (some o), vI x1, vI x2, vI x3, vI x4, vI x5, y6, vU] [] h b Q := by
  refine go_iload 118 dX4_agree_116 rfl rfl ?_
  refine go_iload_n 119 2 dX4_agree_118 rfl rfl rfl ?_
  refine go_icmp_ge 122 153 dX4_agree_119 rfl (by decide) (fun e1 => ?_) (fun e1 => ?_)
  · replace vc := vc.1 e1
    refine go_iconst (v := nI 1) 154 dX4_agree_153 rfl (by decide) ?_
    refine go_iload_n 155 2 dX4_agree_154 rfl rfl rfl ?_
    refine go_ishl 156 dX4_agree_155 rfl ?_
    refine go_iconst (v := nI 1) 157 dX4_agree_156 rfl (by decide) ?_
    refine go_isub 158 dX4_agree_157 rfl ?_
    refine go_istore 160 [vR (some o), vI x1, vI x2, vI x3, vI x4, vI (((nI 1) <<< (x2 &&& 31)) - (nI 1)), y6, vU] dX4_agree_158 rfl rfl rfl ?_
    refine go_iload 162 dX4_agree_160 rfl rfl ?_
    refine go_if_ne 165 214 dX4_agree_162 rfl (by decide) (fun e2 => ?_) (fun e2 => ?_)
    · replace vc := vc.1 e2
      refine go_iconst (v := (-1)) 215 dX4_agree_214 rfl (by decide) ?_
      refine go_istore 217 [vR (some o), vI x1, vI x2, vI x3, vI x4, vI (((nI 1) <<< (x2 &&& 31)) - (nI 1)), vI (-1), vU] dX4_agree_215 rfl rfl rfl ?_
      refine go_iconst (v := nI 0) 218 dX4_agree_217 rfl (by decide) ?_
      refine go_istore 220 [vR (some o), vI x1, vI x2, vI x3, vI x4, vI (((nI 1) <<< (x2 &&& 31)) - (nI 1)), vI (-1), vI (nI 0)] dX4_agree_218 rfl rfl rfl ?_
      exact vc
    · replace vc := vc.2 e2
      refine go_iconst (v := nI 0) 166 dX4_agree_165 rfl (by decide) ?_
      refine go_istore 168 [vR (some o), vI x1, vI x2, vI x3, vI x4, vI (((nI 1) <<< (x2 &&& 31)) - (nI 1)), vI (nI 0), vU] dX4_agree_166 rfl rfl rfl ?_
      refine go_iconst (v := nI 0) 169 dX4_agree_168 rfl (by decide) ?_
      refine go_istore 171 [vR (some o), vI x1, vI x2, vI x3, vI x4, vI (((nI 1) <<< (x2 &&& 31)) - (nI 1)), vI (nI 0), vI (nI 0)] dX4_agree_169 rfl rfl rfl ?_
      exact vc
  · replace vc := vc.2 e1
    refine go_aload_n 123 0 dX4_agree_122 rfl rfl rfl ?_
    refine go_aload_n 124 0 dX4_agree_123 rfl rfl rfl ?_
    refine go_getRe 127 dX4_agree_124 rfl (MO_k hM.1) gfX4_175_5 rfl (MO_f1486 hM.1) ?_
    refine go_iload 129 dX4_agree_127 rfl rfl ?_
    refine go_iaload 130 dX4_agree_129 rfl (MO_k55 hM.1) vc.1 ?_
    replace vc := vc.2
    obtain ⟨P5, hR, vc⟩ := vc
    refine go_callVV (M' := mX4_take) (as := [vI (hAI h (o + 55) (nt x5))]) 133 dX4_agree_130 rfl q1835 okX4_take (MO_k hM.1) ck_4 rfl rfl rfl rfl rfl hR ?_
    intro h4 p1
    replace vc := vc h4 p1
    obtain ⟨t7, g8, hM, vc⟩ := vc
    refine go_aload_n 134 0 dX4_agree_133 rfl rfl rfl ?_
    refine go_getRe 137 dX4_agree_134 rfl (MO_k hM.1) gfX4_178_5 rfl (MO_f1487 hM.1) ?_
    refine go_iload 139 dX4_agree_137 rfl rfl ?_
    refine go_aload_n 140 0 dX4_agree_139 rfl rfl rfl ?_
    refine go_iconst (v := nI 0) 141 dX4_agree_140 rfl (by decide) ?_
    refine go_bipush (v := nI 9) 143 dX4_agree_141 rfl (by decide) ?_
    obtain ⟨P11, hR, vc⟩ := vc
    refine go_callVI (M' := mX4_shutNow) (as := [vI (nI 0), vI (nI 9)]) 146 dX4_agree_143 rfl q1874 okX4_shutNow (MO_k hM.1) ck_4 rfl rfl rfl rfl rfl hR ?_
    intro z9 h10 p1
    replace vc := vc z9 h10 p1
    obtain ⟨t13, g14, hM, vc⟩ := vc
    refine go_iastore 147 dX4_agree_146 rfl (MO_k56 hM.1) vc.1 ?_
    replace vc := vc.2
    refine AWP.nm fun h15 eh15 => ?_
    replace vc := vc h15 eh15
    have hM : MS h15 o t13 g14 := by rw [eh15]; exact hM.fr (PE.A rfl)
    refine go_iinc 150 (x5 + nI 1) [vR (some o), vI x1, vI x2, vI x3, vI x4, vI (x5 + nI 1), y6, vU] dX4_agree_147 rfl rfl (by rfl) rfl rfl ?_
    refine go_goto 116 dX4_agree_150 (by decide) ?_
    exact vc

theorem bX4_agree_171 {h : Hp} {b : Nat × Nat} {Q : Rs → Hp → Prop} {o : Nat} {x1 : Int32} {x2 : Int32} {x3 : Int32} {x4 : Int32} {x5 : Int32} {x6 : Int32} {x7 : Int32} {t : St} {g : Nat} (hM : MS h o t g) (vc : ((x2 ≤ (x7 + (nI 1)) → Q (rI x6) h) ∧ (¬ x2 ≤ (x7 + (nI 1)) → (∃ (P4 : Int32 → Hp → Prop), Ret mX4_doAgree 1 [vR (some o), vI x7, vI x7, vI (x7 + (nI 1)), vI x3] h 0 0 (RI P4) ∧ ∀ z2 h3, P4 z2 h3 → (∃ t6 g7, MS h3 o t6 g7 ∧ ((z2 = 0 → AWP mX4_agree 17 171 [vR (some o), vI x1, vI x2, vI x3, vI x4, vI x5, vI (x6 + (nI 0)), vI (x7 + nI 1)] [] h3 b Q) ∧ (¬ z2 = 0 → AWP mX4_agree 17 171 [vR (some o), vI x1, vI x2, vI x3, vI x4, vI x5, vI (x6 + (nI 1)), vI (x7 + nI 1)] [] h3 b Q))))))) : AWP mX4_agree 17 171 [vR (some o), vI x1, vI x2, vI x3, vI x4, vI x5, vI x6, vI x7] [] h b Q := by
  refine go_iload 173 dX4_agree_171 rfl rfl ?_
  refine go_iconst (v := nI 1) 174 dX4_agree_173 rfl (by decide) ?_
  refine go_iadd 175 dX4_agree_174 rfl ?_
  refine go_iload_n 176 2 dX4_agree_175 rfl rfl rfl ?_
  refine go_icmp_ge 179 211 dX4_agree_176 rfl (by decide) (fun e1 => ?_) (fun e1 => ?_)
  · replace vc := vc.1 e1
    refine go_iload 213 dX4_agree_211 rfl rfl ?_
    exact go_ireturn dX4_agree_213 rfl vc
  · replace vc := vc.2 e1
    refine go_iload 181 dX4_agree_179 rfl rfl ?_
    refine go_aload_n 182 0 dX4_agree_181 rfl rfl rfl ?_
    refine go_iload 184 dX4_agree_182 rfl rfl ?_
    refine go_iload 186 dX4_agree_184 rfl rfl ?_
    refine go_iload 188 dX4_agree_186 rfl rfl ?_
    refine go_iconst (v := nI 1) 189 dX4_agree_188 rfl (by decide) ?_
    refine go_iadd 190 dX4_agree_189 rfl ?_
    refine go_iload_n 191 3 dX4_agree_190 rfl rfl rfl ?_
    obtain ⟨P4, hR, vc⟩ := vc
    refine go_callVI (M' := mX4_doAgree) (as := [vI x7, vI x7, vI (x7 + (nI 1)), vI x3]) 194 dX4_agree_191 rfl q2110 okX4_doAgree (MO_k hM.1) ck_4 rfl rfl rfl rfl rfl hR ?_
    intro z2 h3 p1
    replace vc := vc z2 h3 p1
    obtain ⟨t6, g7, hM, vc⟩ := vc
    refine go_if_eq 197 201 dX4_agree_194 rfl (by decide) (fun e8 => ?_) (fun e8 => ?_)
    · replace vc := vc.1 e8
      refine go_iconst (v := nI 0) 202 dX4_agree_201 rfl (by decide) ?_
      refine go_iadd 203 dX4_agree_202 rfl ?_
      refine go_istore 205 [vR (some o), vI x1, vI x2, vI x3, vI x4, vI x5, vI (x6 + (nI 0)), vI x7] dX4_agree_203 rfl rfl rfl ?_
      refine go_iinc 208 (x7 + nI 1) [vR (some o), vI x1, vI x2, vI x3, vI x4, vI x5, vI (x6 + (nI 0)), vI (x7 + nI 1)] dX4_agree_205 rfl rfl (by rfl) rfl rfl ?_
      refine go_goto 171 dX4_agree_208 (by decide) ?_
      exact vc
    · replace vc := vc.2 e8
      refine go_iconst (v := nI 1) 198 dX4_agree_197 rfl (by decide) ?_
      refine go_goto 202 dX4_agree_198 (by decide) ?_
      refine go_iadd 203 dX4_agree_202 rfl ?_
      refine go_istore 205 [vR (some o), vI x1, vI x2, vI x3, vI x4, vI x5, vI (x6 + (nI 1)), vI x7] dX4_agree_203 rfl rfl rfl ?_
      refine go_iinc 208 (x7 + nI 1) [vR (some o), vI x1, vI x2, vI x3, vI x4, vI x5, vI (x6 + (nI 1)), vI (x7 + nI 1)] dX4_agree_205 rfl rfl (by rfl) rfl rfl ?_
      refine go_goto 171 dX4_agree_208 (by decide) ?_
      exact vc

theorem bX4_agree_220 {h : Hp} {b : Nat × Nat} {Q : Rs → Hp → Prop} {o : Nat} {x1 : Int32} {x2 : Int32} {x3 : Int32} {x4 : Int32} {x5 : Int32} {x6 : Int32} {x7 : Int32} {t : St} {g : Nat} (hM : MS h o t g) (vc : ((x5 ≤ x7 → Q (rI x6) h) ∧ (¬ x5 ≤ x7 → ((x6 < 0 → AWP mX4_agree 17 245 [vR (some o), vI x1, vI x2, vI x3, vI x4, vI x5, vI x6, vI x7] [] h b Q) ∧ (¬ x6 < 0 → (∃ (P5 : Int32 → Hp → Prop), Ret mX4_bitsOf 0 [vI x7] h 0 0 (RI P5) ∧ ∀ z3 h4, P5 z3 h4 → (∃ t7 g8, MS h4 o t7 g8 ∧ (∃ (P11 : Int32 → Hp → Prop), Ret mX4_bitsOf 0 [vI x6] h4 0 0 (RI P11) ∧ ∀ z9 h10, P11 z9 h10 → (∃ t13 g14, MS h10 o t13 g14 ∧ ((z9 ≤ z3 → AWP mX4_agree 17 220 [vR (some o), vI x1, vI x2, vI x3, vI x4, vI x5, vI x6, vI (x7 + nI 1)] [] h10 b Q) ∧ (¬ z9 ≤ z3 → AWP mX4_agree 17 245 [vR (some o), vI x1, vI x2, vI x3, vI x4, vI x5, vI x6, vI x7] [] h10 b Q))))))))))) : AWP mX4_agree 17 220 [vR (some o), vI x1, vI x2, vI x3, vI x4, vI x5, vI x6, vI x7] [] h b Q := by
  refine go_iload 222 dX4_agree_220 rfl rfl ?_
  refine go_iload 224 dX4_agree_222 rfl rfl ?_
  refine go_icmp_ge 227 271 dX4_agree_224 rfl (by decide) (fun e1 => ?_) (fun e1 => ?_)
  · replace vc := vc.1 e1
    refine go_iload 273 dX4_agree_271 rfl rfl ?_
    exact go_ireturn dX4_agree_273 rfl vc
  · replace vc := vc.2 e1
    refine go_iload 229 dX4_agree_227 rfl rfl ?_
    refine go_if_lt 232 245 dX4_agree_229 rfl (by decide) (fun e2 => ?_) (fun e2 => ?_)
    · replace vc := vc.1 e2
      exact vc
    · replace vc := vc.2 e2
      refine go_iload 234 dX4_agree_232 rfl rfl ?_
      obtain ⟨P5, hR, vc⟩ := vc
      refine go_callSI (M' := mX4_bitsOf) (as := [vI x7]) 237 dX4_agree_234 rfl q1854 okX4_bitsOf rfl rfl rfl rfl rfl hR ?_
      intro z3 h4 p1
      replace vc := vc z3 h4 p1
      obtain ⟨t7, g8, hM, vc⟩ := vc
      refine go_iload 239 dX4_agree_237 rfl rfl ?_
      obtain ⟨P11, hR, vc⟩ := vc
      refine go_callSI (M' := mX4_bitsOf) (as := [vI x6]) 242 dX4_agree_239 rfl q1854 okX4_bitsOf rfl rfl rfl rfl rfl hR ?_
      intro z9 h10 p1
      replace vc := vc z9 h10 p1
      obtain ⟨t13, g14, hM, vc⟩ := vc
      refine go_icmp_ge 245 265 dX4_agree_242 rfl (by decide) (fun e15 => ?_) (fun e15 => ?_)
      · replace vc := vc.1 e15
        refine go_iinc 268 (x7 + nI 1) [vR (some o), vI x1, vI x2, vI x3, vI x4, vI x5, vI x6, vI (x7 + nI 1)] dX4_agree_265 rfl rfl (by rfl) rfl rfl ?_
        refine go_goto 220 dX4_agree_268 (by decide) ?_
        exact vc
      · replace vc := vc.2 e15
        exact vc

theorem bX4_agree_245 {h : Hp} {b : Nat × Nat} {Q : Rs → Hp → Prop} {o : Nat} {x1 : Int32} {x2 : Int32} {x3 : Int32} {x4 : Int32} {x5 : Int32} {x6 : Int32} {x7 : Int32} {t : St} {g : Nat} (hM : MS h o t g) (vc : (∃ (P3 : Int32 → Hp → Prop), Ret mX4_allAgree 2 [vR (some o), vI (x5 &&& (x7 ^^^ (-1))), vI x2, vI x3] h 0 0 (RI P3) ∧ ∀ z1 h2, P3 z1 h2 → (∃ t5 g6, MS h2 o t5 g6 ∧ ((z1 = 0 → AWP mX4_agree 17 220 [vR (some o), vI x1, vI x2, vI x3, vI x4, vI x5, vI x6, vI (x7 + nI 1)] [] h2 b Q) ∧ (¬ z1 = 0 → AWP mX4_agree 17 220 [vR (some o), vI x1, vI x2, vI x3, vI x4, vI x5, vI x7, vI (x7 + nI 1)] [] h2 b Q))))) : AWP mX4_agree 17 245 [vR (some o), vI x1, vI x2, vI x3, vI x4, vI x5, vI x6, vI x7] [] h b Q := by
  refine go_aload_n 246 0 dX4_agree_245 rfl rfl rfl ?_
  refine go_iload 248 dX4_agree_246 rfl rfl ?_
  refine go_iload 250 dX4_agree_248 rfl rfl ?_
  refine go_iconst (v := (-1)) 251 dX4_agree_250 rfl (by decide) ?_
  refine go_ixor 252 dX4_agree_251 rfl ?_
  refine go_iand 253 dX4_agree_252 rfl ?_
  refine go_iload_n 254 2 dX4_agree_253 rfl rfl rfl ?_
  refine go_iload_n 255 3 dX4_agree_254 rfl rfl rfl ?_
  obtain ⟨P3, hR, vc⟩ := vc
  refine go_callVI (M' := mX4_allAgree) (as := [vI (x5 &&& (x7 ^^^ (-1))), vI x2, vI x3]) 258 dX4_agree_255 rfl q2114 okX4_allAgree (MO_k hM.1) ck_4 rfl rfl rfl rfl rfl hR ?_
  intro z1 h2 p1
  replace vc := vc z1 h2 p1
  obtain ⟨t5, g6, hM, vc⟩ := vc
  refine go_if_eq 261 265 dX4_agree_258 rfl (by decide) (fun e7 => ?_) (fun e7 => ?_)
  · replace vc := vc.1 e7
    refine go_iinc 268 (x7 + nI 1) [vR (some o), vI x1, vI x2, vI x3, vI x4, vI x5, vI x6, vI (x7 + nI 1)] dX4_agree_265 rfl rfl (by rfl) rfl rfl ?_
    refine go_goto 220 dX4_agree_268 (by decide) ?_
    exact vc
  · replace vc := vc.2 e7
    refine go_iload 263 dX4_agree_261 rfl rfl ?_
    refine go_istore 265 [vR (some o), vI x1, vI x2, vI x3, vI x4, vI x5, vI x7, vI x7] dX4_agree_263 rfl rfl rfl ?_
    refine go_iinc 268 (x7 + nI 1) [vR (some o), vI x1, vI x2, vI x3, vI x4, vI x5, vI x7, vI (x7 + nI 1)] dX4_agree_265 rfl rfl (by rfl) rfl rfl ?_
    refine go_goto 220 dX4_agree_268 (by decide) ?_
    exact vc
