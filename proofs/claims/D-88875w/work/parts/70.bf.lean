theorem bX4_split_0 {h : Hp} {b : Nat × Nat} {Q : Rs → Hp → Prop} {o : Nat} {x1 : Int32} {x2 : Int32} {x3 : Int32} {x4 : Int32} {t : St} {g : Nat} (hM : MS h o t g) (vc : ((¬ (isSh t x1) → Q (rI (-1)) h) ∧ ((isSh t x1) → (isSh t x1 ∧ ((¬ ((nI 0) ≤ x2 ∧ x2 ≤ ((nI (tones t (nt x1))) - (nI 1))) → Q (rI (-1)) h) ∧ (((nI 0) ≤ x2 ∧ x2 ≤ ((nI (tones t (nt x1))) - (nI 1))) → ((¬ (bt x3 1 9) → Q (rI (-1)) h) ∧ ((bt x3 1 9) → ((x4 < 0 → Q (rI (-1)) h) ∧ (¬ x4 < 0 → (isSh t x1 ∧ ((¬ (isCo t x1 (x4 / (nI 10))) → Q (rI (-1)) h) ∧ ((isCo t x1 (x4 / (nI 10))) → ((¬ (x4 - x4 / (nI 10) * (nI 10)) = 0 → (vp_in (((nI 6) * x1) + (x4 / (nI 10))) 78 ∧ (nt (((nI 6) * x1) + (x4 / (nI 10)))) < 6 * ns t ∧ ((¬ (hl t (nt (((nI 6) * x1) + (x4 / (nI 10))))) = 0 → Q (rI (-4)) h) ∧ ((hl t (nt (((nI 6) * x1) + (x4 / (nI 10))))) = 0 → (vp_in (((nI 6) * x1) + (x4 / (nI 10))) 78 ∧ (nt (((nI 6) * x1) + (x4 / (nI 10)))) < 6 * ns t ∧ (((wg t (nt (((nI 6) * x1) + (x4 / (nI 10))))) ≤ 0 → (∃ (P11 : Hp → Prop), Ret mX4_take 2 [vR (some o), vI x1] h 0 0 (RV P11) ∧ ∀ h10, P11 h10 → (∃ t13 g14, MS h10 o t13 g14 ∧ (∃ (P17 : Hp → Prop), Ret mX4_forgetChanges 0 [vR (some o)] h10 0 0 (RV P17) ∧ ∀ h16, P17 h16 → (∃ t19 g20, MS h16 o t19 g20 ∧ (isSh t19 x1 ∧ AWP mX4_split 16 120 [vR (some o), vI x1, vI x2, vI x3, vI x4, vI (x4 / (nI 10)), vI (nI (tones t19 (nt x1))), vI (nI 0), vU] [] h16 b Q)))))) ∧ (¬ (wg t (nt (((nI 6) * x1) + (x4 / (nI 10))))) ≤ 0 → Q (rI (-4)) h))))))) ∧ ((x4 - x4 / (nI 10) * (nI 10)) = 0 → Q (rI (-1)) h))))))))))))))) : AWP mX4_split 16 0 [vR (some o), vI x1, vI x2, vI x3, vI x4, vU, vU, vU, vU] [] h b Q := by
  refine go_aload_n 1 0 dX4_split_0 rfl rfl rfl ?_
  refine go_iload_n 2 1 dX4_split_1 rfl rfl rfl ?_
  refine go_callVI (M' := mX4_isShape) (as := [vI x1]) 5 dX4_split_2 rfl q1769 okX4_isShape (MO_k hM.1) ck_4 rfl rfl rfl rfl rfl (ctX4_isShape hM) ?_
  intro x0 h0 p0
  rw [p0.1, p0.2]
  refine go_if_eq 8 59 dX4_split_5 rfl (by decide) (fun e1 => ?_) (fun e1 => ?_)
  · replace vc := vc.1 (bI_0.mp e1)
    refine go_iconst (v := (-1)) 60 dX4_split_59 rfl (by decide) ?_
    exact go_ireturn dX4_split_60 rfl vc
  · replace vc := vc.2 (bI_n0.mp e1)
    refine go_iload_n 9 2 dX4_split_8 rfl rfl rfl ?_
    refine go_iconst (v := nI 0) 10 dX4_split_9 rfl (by decide) ?_
    refine go_aload_n 11 0 dX4_split_10 rfl rfl rfl ?_
    refine go_iload_n 12 1 dX4_split_11 rfl rfl rfl ?_
    refine go_callVI (M' := mX4_tonesOf) (as := [vI x1]) 15 dX4_split_12 rfl q1778 okX4_tonesOf (MO_k hM.1) ck_4 rfl rfl rfl rfl rfl (ctX4_tonesOf hM vc.1) ?_
    replace vc := vc.2
    intro x0 h0 p0
    rw [p0.1, p0.2]
    refine go_iconst (v := nI 1) 16 dX4_split_15 rfl (by decide) ?_
    refine go_isub 17 dX4_split_16 rfl ?_
    refine go_callSI (M' := mX4_in) (as := [vI x2, vI (nI 0), vI ((nI (tones t (nt x1))) - (nI 1))]) 20 dX4_split_17 rfl q1703 okX4_in rfl rfl rfl rfl rfl (ctX4_in) ?_
    intro x0 h0 p0
    rw [p0.1, p0.2]
    refine go_if_eq 23 59 dX4_split_20 rfl (by decide) (fun e2 => ?_) (fun e2 => ?_)
    · replace vc := vc.1 (bI_0.mp e2)
      refine go_iconst (v := (-1)) 60 dX4_split_59 rfl (by decide) ?_
      exact go_ireturn dX4_split_60 rfl vc
    · replace vc := vc.2 (bI_n0.mp e2)
      refine go_iload_n 24 3 dX4_split_23 rfl rfl rfl ?_
      refine go_iconst (v := nI 1) 25 dX4_split_24 rfl (by decide) ?_
      refine go_bipush (v := nI 9) 27 dX4_split_25 rfl (by decide) ?_
      refine go_callSI (M' := mX4_in) (as := [vI x3, vI (nI 1), vI (nI 9)]) 30 dX4_split_27 rfl q1703 okX4_in rfl rfl rfl rfl rfl (ctX4_inL rfl rfl) ?_
      intro x0 h0 p0
      rw [p0.1, p0.2]
      refine go_if_eq 33 59 dX4_split_30 rfl (by decide) (fun e3 => ?_) (fun e3 => ?_)
      · replace vc := vc.1 (bI_0.mp e3)
        refine go_iconst (v := (-1)) 60 dX4_split_59 rfl (by decide) ?_
        exact go_ireturn dX4_split_60 rfl vc
      · replace vc := vc.2 (bI_n0.mp e3)
        refine go_iload 35 dX4_split_33 rfl rfl ?_
        refine go_if_lt 38 59 dX4_split_35 rfl (by decide) (fun e4 => ?_) (fun e4 => ?_)
        · replace vc := vc.1 e4
          refine go_iconst (v := (-1)) 60 dX4_split_59 rfl (by decide) ?_
          exact go_ireturn dX4_split_60 rfl vc
        · replace vc := vc.2 e4
          refine go_aload_n 39 0 dX4_split_38 rfl rfl rfl ?_
          refine go_iload_n 40 1 dX4_split_39 rfl rfl rfl ?_
          refine go_iload 42 dX4_split_40 rfl rfl ?_
          refine go_bipush (v := nI 10) 44 dX4_split_42 rfl (by decide) ?_
          refine go_idiv 45 dX4_split_44 rfl (by decide) ?_
          refine go_callVI (M' := mX4_isCorner) (as := [vI x1, vI (x4 / (nI 10))]) 48 dX4_split_45 rfl q1746 okX4_isCorner (MO_k hM.1) ck_4 rfl rfl rfl rfl rfl (ctX4_isCorner hM vc.1) ?_
          replace vc := vc.2
          intro x0 h0 p0
          rw [p0.1, p0.2]
          refine go_if_eq 51 59 dX4_split_48 rfl (by decide) (fun e5 => ?_) (fun e5 => ?_)
          · replace vc := vc.1 (bI_0.mp e5)
            refine go_iconst (v := (-1)) 60 dX4_split_59 rfl (by decide) ?_
            exact go_ireturn dX4_split_60 rfl vc
          · replace vc := vc.2 (bI_n0.mp e5)
            refine go_iload 53 dX4_split_51 rfl rfl ?_
            refine go_bipush (v := nI 10) 55 dX4_split_53 rfl (by decide) ?_
            refine go_irem 56 dX4_split_55 rfl (by decide) ?_
            refine go_if_ne 59 61 dX4_split_56 rfl (by decide) (fun e6 => ?_) (fun e6 => ?_)
            · replace vc := vc.1 e6
              refine go_iload 63 dX4_split_61 rfl rfl ?_
              refine go_bipush (v := nI 10) 65 dX4_split_63 rfl (by decide) ?_
              refine go_idiv 66 dX4_split_65 rfl (by decide) ?_
              refine go_istore 68 [vR (some o), vI x1, vI x2, vI x3, vI x4, vI (x4 / (nI 10)), vU, vU, vU] dX4_split_66 rfl rfl rfl ?_
              refine go_aload_n 69 0 dX4_split_68 rfl rfl rfl ?_
              refine go_getRe 72 dX4_split_69 rfl (MO_k hM.1) gfX4_22_5 rfl (MO_f1406 hM.1) ?_
              refine go_bipush (v := nI 6) 74 dX4_split_72 rfl (by decide) ?_
              refine go_iload_n 75 1 dX4_split_74 rfl rfl rfl ?_
              refine go_imul 76 dX4_split_75 rfl ?_
              refine go_iload 78 dX4_split_76 rfl rfl ?_
              refine go_iadd 79 dX4_split_78 rfl ?_
              refine go_baloadZ 80 dX4_split_79 rfl (MO_k5 hM.1) vc.1 ?_
              replace vc := vc.2
              rw [hM.a5 vc.1]
              replace vc := vc.2
              refine go_if_ne 83 98 dX4_split_80 rfl (by decide) (fun e7 => ?_) (fun e7 => ?_)
              · replace vc := vc.1 e7
                refine go_bipush (v := (-4)) 100 dX4_split_98 rfl (by decide) ?_
                exact go_ireturn dX4_split_100 rfl vc
              · replace vc := vc.2 e7
                refine go_aload_n 84 0 dX4_split_83 rfl rfl rfl ?_
                refine go_getRe 87 dX4_split_84 rfl (MO_k hM.1) gfX4_19_5 rfl (MO_f1405 hM.1) ?_
                refine go_bipush (v := nI 6) 89 dX4_split_87 rfl (by decide) ?_
                refine go_iload_n 90 1 dX4_split_89 rfl rfl rfl ?_
                refine go_imul 91 dX4_split_90 rfl ?_
                refine go_iload 93 dX4_split_91 rfl rfl ?_
                refine go_iadd 94 dX4_split_93 rfl ?_
                refine go_iaload 95 dX4_split_94 rfl (MO_k4 hM.1) vc.1 ?_
                replace vc := vc.2
                rw [hM.a4 vc.1]
                replace vc := vc.2
                refine go_if_le 98 101 dX4_split_95 rfl (by decide) (fun e8 => ?_) (fun e8 => ?_)
                · replace vc := vc.1 e8
                  refine go_aload_n 102 0 dX4_split_101 rfl rfl rfl ?_
                  refine go_iload_n 103 1 dX4_split_102 rfl rfl rfl ?_
                  obtain ⟨P11, hR, vc⟩ := vc
                  refine go_callVV (M' := mX4_take) (as := [vI x1]) 106 dX4_split_103 rfl q1835 okX4_take (MO_k hM.1) ck_4 rfl rfl rfl rfl rfl hR ?_
                  intro h10 p1
                  replace vc := vc h10 p1
                  obtain ⟨t13, g14, hM, vc⟩ := vc
                  refine go_aload_n 107 0 dX4_split_106 rfl rfl rfl ?_
                  obtain ⟨P17, hR, vc⟩ := vc
                  refine go_callVV (M' := mX4_forgetChanges) (as := []) 110 dX4_split_107 rfl q1878 okX4_forgetChanges (MO_k hM.1) ck_4 rfl rfl rfl rfl rfl hR ?_
                  intro h16 p1
                  replace vc := vc h16 p1
                  obtain ⟨t19, g20, hM, vc⟩ := vc
                  refine go_aload_n 111 0 dX4_split_110 rfl rfl rfl ?_
                  refine go_iload_n 112 1 dX4_split_111 rfl rfl rfl ?_
                  refine go_callVI (M' := mX4_tonesOf) (as := [vI x1]) 115 dX4_split_112 rfl q1778 okX4_tonesOf (MO_k hM.1) ck_4 rfl rfl rfl rfl rfl (ctX4_tonesOf hM vc.1) ?_
                  replace vc := vc.2
                  intro x0 h0 p0
                  rw [p0.1, p0.2]
                  refine go_istore 117 [vR (some o), vI x1, vI x2, vI x3, vI x4, vI (x4 / (nI 10)), vI (nI (tones t19 (nt x1))), vU, vU] dX4_split_115 rfl rfl rfl ?_
                  refine go_iconst (v := nI 0) 118 dX4_split_117 rfl (by decide) ?_
                  refine go_istore 120 [vR (some o), vI x1, vI x2, vI x3, vI x4, vI (x4 / (nI 10)), vI (nI (tones t19 (nt x1))), vI (nI 0), vU] dX4_split_118 rfl rfl rfl ?_
                  exact vc
                · replace vc := vc.2 e8
                  refine go_bipush (v := (-4)) 100 dX4_split_98 rfl (by decide) ?_
                  exact go_ireturn dX4_split_100 rfl vc
            · replace vc := vc.2 e6
              refine go_iconst (v := (-1)) 60 dX4_split_59 rfl (by decide) ?_
              exact go_ireturn dX4_split_60 rfl vc

theorem bX4_split_120 {h : Hp} {b : Nat × Nat} {Q : Rs → Hp → Prop} {o : Nat} {x1 : Int32} {x2 : Int32} {x3 : Int32} {x4 : Int32} {x5 : Int32} {x6 : Int32} {x7 : Int32} {t : St} {g : Nat} (hM : MS h o t g) (vc : ((x6 ≤ x7 → (vp_in (((nI 6) * x1) + x5) 78 ∧ (nt (((nI 6) * x1) + x5)) < 6 * ns t ∧ (vp_in x5 6 ∧ (∀ h2, h2 = w1 h (o + 23) (nt x5) (massO (hv t (nt (((nI 6) * x1) + x5))) (x4 - x4 / (nI 10) * (nI 10))) → (∃ (P5 : Hp → Prop), Ret mX4_forgetChanges 0 [vR (some o)] h2 0 0 (RV P5) ∧ ∀ h4, P5 h4 → (∃ t7 g8, MS h4 o t7 g8 ∧ AWP mX4_split 16 184 [vR (some o), vI x1, vI x2, vI x3, vI x4, vI x5, vI x6, vI (nI 0), vI (nI 0)] [] h4 b Q)))))) ∧ (¬ x6 ≤ x7 → (∃ (P11 : Int32 → Hp → Prop), Ret mX4_shutOf 15 [vR (some o), vI x7, vI x3] h 0 0 (RI P11) ∧ ∀ z9 h10, P11 z9 h10 → (∃ t13 g14, MS h10 o t13 g14 ∧ (vp_in x7 6 ∧ (∀ h15, h15 = w1 h10 (o + 33) (nt x7) z9 → AWP mX4_split 16 120 [vR (some o), vI x1, vI x2, vI x3, vI x4, vI x5, vI x6, vI (x7 + nI 1), vU] [] h15 b Q))))))) : AWP mX4_split 16 120 [vR (some o), vI x1, vI x2, vI x3, vI x4, vI x5, vI x6, vI x7, vU] [] h b Q := by
  refine go_iload 122 dX4_split_120 rfl rfl ?_
  refine go_iload 124 dX4_split_122 rfl rfl ?_
  refine go_icmp_ge 127 147 dX4_split_124 rfl (by decide) (fun e1 => ?_) (fun e1 => ?_)
  · replace vc := vc.1 e1
    refine go_aload_n 148 0 dX4_split_147 rfl rfl rfl ?_
    refine go_getRe 151 dX4_split_148 rfl (MO_k hM.1) gfX4_78_5 rfl (MO_f1431 hM.1) ?_
    refine go_iload 153 dX4_split_151 rfl rfl ?_
    refine go_aload_n 154 0 dX4_split_153 rfl rfl rfl ?_
    refine go_getRe 157 dX4_split_154 rfl (MO_k hM.1) gfX4_13_5 rfl (MO_f1403 hM.1) ?_
    refine go_bipush (v := nI 6) 159 dX4_split_157 rfl (by decide) ?_
    refine go_iload_n 160 1 dX4_split_159 rfl rfl rfl ?_
    refine go_imul 161 dX4_split_160 rfl ?_
    refine go_iload 163 dX4_split_161 rfl rfl ?_
    refine go_iadd 164 dX4_split_163 rfl ?_
    refine go_iaload 165 dX4_split_164 rfl (MO_k2 hM.1) vc.1 ?_
    replace vc := vc.2
    rw [hM.a2 vc.1]
    replace vc := vc.2
    refine go_iload 167 dX4_split_165 rfl rfl ?_
    refine go_bipush (v := nI 10) 169 dX4_split_167 rfl (by decide) ?_
    refine go_irem 170 dX4_split_169 rfl (by decide) ?_
    refine go_callSI (M' := mX4_massOf) (as := [vI (hv t (nt (((nI 6) * x1) + x5))), vI (x4 - x4 / (nI 10) * (nI 10))]) 173 dX4_split_170 rfl q1839 okX4_massOf rfl rfl rfl rfl rfl (ctX4_massOf) ?_
    intro x0 h0 p0
    rw [p0.1, p0.2]
    refine go_iastore 174 dX4_split_173 rfl (MO_k23 hM.1) vc.1 ?_
    replace vc := vc.2
    refine AWP.nm fun h2 eh2 => ?_
    replace vc := vc h2 eh2
    have hM : MS h2 o t g := by rw [eh2]; exact hM.fr (PE.A rfl)
    refine go_aload_n 175 0 dX4_split_174 rfl rfl rfl ?_
    obtain ⟨P5, hR, vc⟩ := vc
    refine go_callVV (M' := mX4_forgetChanges) (as := []) 178 dX4_split_175 rfl q1878 okX4_forgetChanges (MO_k hM.1) ck_4 rfl rfl rfl rfl rfl hR ?_
    intro h4 p1
    replace vc := vc h4 p1
    obtain ⟨t7, g8, hM, vc⟩ := vc
    refine go_iconst (v := nI 0) 179 dX4_split_178 rfl (by decide) ?_
    refine go_istore 181 [vR (some o), vI x1, vI x2, vI x3, vI x4, vI x5, vI x6, vI (nI 0), vU] dX4_split_179 rfl rfl rfl ?_
    refine go_iconst (v := nI 0) 182 dX4_split_181 rfl (by decide) ?_
    refine go_istore 184 [vR (some o), vI x1, vI x2, vI x3, vI x4, vI x5, vI x6, vI (nI 0), vI (nI 0)] dX4_split_182 rfl rfl rfl ?_
    exact vc
  · replace vc := vc.2 e1
    refine go_aload_n 128 0 dX4_split_127 rfl rfl rfl ?_
    refine go_getRe 131 dX4_split_128 rfl (MO_k hM.1) gfX4_109_5 rfl (MO_f1444 hM.1) ?_
    refine go_iload 133 dX4_split_131 rfl rfl ?_
    refine go_aload_n 134 0 dX4_split_133 rfl rfl rfl ?_
    refine go_iload 136 dX4_split_134 rfl rfl ?_
    refine go_iload_n 137 3 dX4_split_136 rfl rfl rfl ?_
    obtain ⟨P11, hR, vc⟩ := vc
    refine go_callVI (M' := mX4_shutOf) (as := [vI x7, vI x3]) 140 dX4_split_137 rfl q1882 okX4_shutOf (MO_k hM.1) ck_4 rfl rfl rfl rfl rfl hR ?_
    intro z9 h10 p1
    replace vc := vc z9 h10 p1
    obtain ⟨t13, g14, hM, vc⟩ := vc
    refine go_iastore 141 dX4_split_140 rfl (MO_k33 hM.1) vc.1 ?_
    replace vc := vc.2
    refine AWP.nm fun h15 eh15 => ?_
    replace vc := vc h15 eh15
    have hM : MS h15 o t13 g14 := by rw [eh15]; exact hM.fr (PE.A rfl)
    refine go_iinc 144 (x7 + nI 1) [vR (some o), vI x1, vI x2, vI x3, vI x4, vI x5, vI x6, vI (x7 + nI 1), vU] dX4_split_141 rfl rfl (by rfl) rfl rfl ?_
    refine go_goto 120 dX4_split_144 (by decide) ?_
    exact vc

theorem bX4_split_184 {h : Hp} {b : Nat × Nat} {Q : Rs → Hp → Prop} {o : Nat} {x1 : Int32} {x2 : Int32} {x3 : Int32} {x4 : Int32} {x5 : Int32} {x6 : Int32} {x7 : Int32} {x8 : Int32} {t : St} {g : Nat} (hM : MS h o t g) (vc : ((x6 ≤ x8 → Q (rI x7) h) ∧ (¬ x6 ≤ x8 → (vp_in x8 6 ∧ (vp_in x2 6 ∧ ((¬ (hAI h (o + 33) (nt x8)) = (hAI h (o + 33) (nt x2)) → AWP mX4_split 16 184 [vR (some o), vI x1, vI x2, vI x3, vI x4, vI x5, vI x6, vI (x7 + (nI 0)), vI (x8 + nI 1)] [] h b Q) ∧ ((hAI h (o + 33) (nt x8)) = (hAI h (o + 33) (nt x2)) → (∃ (P5 : Int32 → Hp → Prop), Ret mX4_shutOf 15 [vR (some o), vI x8, vI x3] h 0 0 (RI P5) ∧ ∀ z3 h4, P5 z3 h4 → (∃ t7 g8, MS h4 o t7 g8 ∧ (vp_in x8 6 ∧ ((z3 = (hAI h4 (o + 33) (nt x8)) → AWP mX4_split 16 184 [vR (some o), vI x1, vI x2, vI x3, vI x4, vI x5, vI x6, vI (x7 + (nI 0)), vI (x8 + nI 1)] [] h4 b Q) ∧ (¬ z3 = (hAI h4 (o + 33) (nt x8)) → AWP mX4_split 16 184 [vR (some o), vI x1, vI x2, vI x3, vI x4, vI x5, vI x6, vI (x7 + (nI 1)), vI (x8 + nI 1)] [] h4 b Q)))))))))))) : AWP mX4_split 16 184 [vR (some o), vI x1, vI x2, vI x3, vI x4, vI x5, vI x6, vI x7, vI x8] [] h b Q := by
  refine go_iload 186 dX4_split_184 rfl rfl ?_
  refine go_iload 188 dX4_split_186 rfl rfl ?_
  refine go_icmp_ge 191 240 dX4_split_188 rfl (by decide) (fun e1 => ?_) (fun e1 => ?_)
  · replace vc := vc.1 e1
    refine go_iload 242 dX4_split_240 rfl rfl ?_
    exact go_ireturn dX4_split_242 rfl vc
  · replace vc := vc.2 e1
    refine go_iload 193 dX4_split_191 rfl rfl ?_
    refine go_aload_n 194 0 dX4_split_193 rfl rfl rfl ?_
    refine go_getRe 197 dX4_split_194 rfl (MO_k hM.1) gfX4_109_5 rfl (MO_f1444 hM.1) ?_
    refine go_iload 199 dX4_split_197 rfl rfl ?_
    refine go_iaload 200 dX4_split_199 rfl (MO_k33 hM.1) vc.1 ?_
    replace vc := vc.2
    refine go_aload_n 201 0 dX4_split_200 rfl rfl rfl ?_
    refine go_getRe 204 dX4_split_201 rfl (MO_k hM.1) gfX4_109_5 rfl (MO_f1444 hM.1) ?_
    refine go_iload_n 205 2 dX4_split_204 rfl rfl rfl ?_
    refine go_iaload 206 dX4_split_205 rfl (MO_k33 hM.1) vc.1 ?_
    replace vc := vc.2
    refine go_icmp_ne 209 230 dX4_split_206 rfl (by decide) (fun e2 => ?_) (fun e2 => ?_)
    · replace vc := vc.1 e2
      refine go_iconst (v := nI 0) 231 dX4_split_230 rfl (by decide) ?_
      refine go_iadd 232 dX4_split_231 rfl ?_
      refine go_istore 234 [vR (some o), vI x1, vI x2, vI x3, vI x4, vI x5, vI x6, vI (x7 + (nI 0)), vI x8] dX4_split_232 rfl rfl rfl ?_
      refine go_iinc 237 (x8 + nI 1) [vR (some o), vI x1, vI x2, vI x3, vI x4, vI x5, vI x6, vI (x7 + (nI 0)), vI (x8 + nI 1)] dX4_split_234 rfl rfl (by rfl) rfl rfl ?_
      refine go_goto 184 dX4_split_237 (by decide) ?_
      exact vc
    · replace vc := vc.2 e2
      refine go_aload_n 210 0 dX4_split_209 rfl rfl rfl ?_
      refine go_iload 212 dX4_split_210 rfl rfl ?_
      refine go_iload_n 213 3 dX4_split_212 rfl rfl rfl ?_
      obtain ⟨P5, hR, vc⟩ := vc
      refine go_callVI (M' := mX4_shutOf) (as := [vI x8, vI x3]) 216 dX4_split_213 rfl q1882 okX4_shutOf (MO_k hM.1) ck_4 rfl rfl rfl rfl rfl hR ?_
      intro z3 h4 p1
      replace vc := vc z3 h4 p1
      obtain ⟨t7, g8, hM, vc⟩ := vc
      refine go_aload_n 217 0 dX4_split_216 rfl rfl rfl ?_
      refine go_getRe 220 dX4_split_217 rfl (MO_k hM.1) gfX4_109_5 rfl (MO_f1444 hM.1) ?_
      refine go_iload 222 dX4_split_220 rfl rfl ?_
      refine go_iaload 223 dX4_split_222 rfl (MO_k33 hM.1) vc.1 ?_
      replace vc := vc.2
      refine go_icmp_eq 226 230 dX4_split_223 rfl (by decide) (fun e9 => ?_) (fun e9 => ?_)
      · replace vc := vc.1 e9
        refine go_iconst (v := nI 0) 231 dX4_split_230 rfl (by decide) ?_
        refine go_iadd 232 dX4_split_231 rfl ?_
        refine go_istore 234 [vR (some o), vI x1, vI x2, vI x3, vI x4, vI x5, vI x6, vI (x7 + (nI 0)), vI x8] dX4_split_232 rfl rfl rfl ?_
        refine go_iinc 237 (x8 + nI 1) [vR (some o), vI x1, vI x2, vI x3, vI x4, vI x5, vI x6, vI (x7 + (nI 0)), vI (x8 + nI 1)] dX4_split_234 rfl rfl (by rfl) rfl rfl ?_
        refine go_goto 184 dX4_split_237 (by decide) ?_
        exact vc
      · replace vc := vc.2 e9
        refine go_iconst (v := nI 1) 227 dX4_split_226 rfl (by decide) ?_
        refine go_goto 231 dX4_split_227 (by decide) ?_
        refine go_iadd 232 dX4_split_231 rfl ?_
        refine go_istore 234 [vR (some o), vI x1, vI x2, vI x3, vI x4, vI x5, vI x6, vI (x7 + (nI 1)), vI x8] dX4_split_232 rfl rfl rfl ?_
        refine go_iinc 237 (x8 + nI 1) [vR (some o), vI x1, vI x2, vI x3, vI x4, vI x5, vI x6, vI (x7 + (nI 1)), vI (x8 + nI 1)] dX4_split_234 rfl rfl (by rfl) rfl rfl ?_
        refine go_goto 184 dX4_split_237 (by decide) ?_
        exact vc

theorem bX4_bounds_0 {h : Hp} {b : Nat × Nat} {Q : Rs → Hp → Prop} {o : Nat} {x1 : Int32} {x2 : Int32} {x3 : Int32} {x4 : Int32} {x5 : Int32} {t : St} {g : Nat} (hM : MS h o t g) (vc : ((¬ (isSh t x1) → Q (rI (-1)) h) ∧ ((isSh t x1) → (isSh t x1 ∧ ((¬ ((nI 0) ≤ x2 ∧ x2 ≤ ((nI (tones t (nt x1))) - (nI 1))) → Q (rI (-1)) h) ∧ (((nI 0) ≤ x2 ∧ x2 ≤ ((nI (tones t (nt x1))) - (nI 1))) → ((¬ (bt x3 1 9) → Q (rI (-1)) h) ∧ ((bt x3 1 9) → ((¬ (bt x4 0 8) → Q (rI (-1)) h) ∧ ((bt x4 0 8) → (((bt x5 0 1) → (∃ (P8 : Hp → Prop), Ret mX4_take 2 [vR (some o), vI x1] h 0 0 (RV P8) ∧ ∀ h7, P8 h7 → (∃ t10 g11, MS h7 o t10 g11 ∧ AWP mX4_bounds 17 64 [vR (some o), vI x1, vI x2, vI x3, vI x4, vI x5, vI (nI 0), vU, vU, vU] [] h7 b Q))) ∧ (¬ (bt x5 0 1) → Q (rI (-1)) h)))))))))))) : AWP mX4_bounds 17 0 [vR (some o), vI x1, vI x2, vI x3, vI x4, vI x5, vU, vU, vU, vU] [] h b Q := by
  refine go_aload_n 1 0 dX4_bounds_0 rfl rfl rfl ?_
  refine go_iload_n 2 1 dX4_bounds_1 rfl rfl rfl ?_
  refine go_callVI (M' := mX4_isShape) (as := [vI x1]) 5 dX4_bounds_2 rfl q1769 okX4_isShape (MO_k hM.1) ck_4 rfl rfl rfl rfl rfl (ctX4_isShape hM) ?_
  intro x0 h0 p0
  rw [p0.1, p0.2]
  refine go_if_eq 8 54 dX4_bounds_5 rfl (by decide) (fun e1 => ?_) (fun e1 => ?_)
  · replace vc := vc.1 (bI_0.mp e1)
    refine go_iconst (v := (-1)) 55 dX4_bounds_54 rfl (by decide) ?_
    exact go_ireturn dX4_bounds_55 rfl vc
  · replace vc := vc.2 (bI_n0.mp e1)
    refine go_iload_n 9 2 dX4_bounds_8 rfl rfl rfl ?_
    refine go_iconst (v := nI 0) 10 dX4_bounds_9 rfl (by decide) ?_
    refine go_aload_n 11 0 dX4_bounds_10 rfl rfl rfl ?_
    refine go_iload_n 12 1 dX4_bounds_11 rfl rfl rfl ?_
    refine go_callVI (M' := mX4_tonesOf) (as := [vI x1]) 15 dX4_bounds_12 rfl q1778 okX4_tonesOf (MO_k hM.1) ck_4 rfl rfl rfl rfl rfl (ctX4_tonesOf hM vc.1) ?_
    replace vc := vc.2
    intro x0 h0 p0
    rw [p0.1, p0.2]
    refine go_iconst (v := nI 1) 16 dX4_bounds_15 rfl (by decide) ?_
    refine go_isub 17 dX4_bounds_16 rfl ?_
    refine go_callSI (M' := mX4_in) (as := [vI x2, vI (nI 0), vI ((nI (tones t (nt x1))) - (nI 1))]) 20 dX4_bounds_17 rfl q1703 okX4_in rfl rfl rfl rfl rfl (ctX4_in) ?_
    intro x0 h0 p0
    rw [p0.1, p0.2]
    refine go_if_eq 23 54 dX4_bounds_20 rfl (by decide) (fun e2 => ?_) (fun e2 => ?_)
    · replace vc := vc.1 (bI_0.mp e2)
      refine go_iconst (v := (-1)) 55 dX4_bounds_54 rfl (by decide) ?_
      exact go_ireturn dX4_bounds_55 rfl vc
    · replace vc := vc.2 (bI_n0.mp e2)
      refine go_iload_n 24 3 dX4_bounds_23 rfl rfl rfl ?_
      refine go_iconst (v := nI 1) 25 dX4_bounds_24 rfl (by decide) ?_
      refine go_bipush (v := nI 9) 27 dX4_bounds_25 rfl (by decide) ?_
      refine go_callSI (M' := mX4_in) (as := [vI x3, vI (nI 1), vI (nI 9)]) 30 dX4_bounds_27 rfl q1703 okX4_in rfl rfl rfl rfl rfl (ctX4_inL rfl rfl) ?_
      intro x0 h0 p0
      rw [p0.1, p0.2]
      refine go_if_eq 33 54 dX4_bounds_30 rfl (by decide) (fun e3 => ?_) (fun e3 => ?_)
      · replace vc := vc.1 (bI_0.mp e3)
        refine go_iconst (v := (-1)) 55 dX4_bounds_54 rfl (by decide) ?_
        exact go_ireturn dX4_bounds_55 rfl vc
      · replace vc := vc.2 (bI_n0.mp e3)
        refine go_iload 35 dX4_bounds_33 rfl rfl ?_
        refine go_iconst (v := nI 0) 36 dX4_bounds_35 rfl (by decide) ?_
        refine go_bipush (v := nI 8) 38 dX4_bounds_36 rfl (by decide) ?_
        refine go_callSI (M' := mX4_in) (as := [vI x4, vI (nI 0), vI (nI 8)]) 41 dX4_bounds_38 rfl q1703 okX4_in rfl rfl rfl rfl rfl (ctX4_inL rfl rfl) ?_
        intro x0 h0 p0
        rw [p0.1, p0.2]
        refine go_if_eq 44 54 dX4_bounds_41 rfl (by decide) (fun e4 => ?_) (fun e4 => ?_)
        · replace vc := vc.1 (bI_0.mp e4)
          refine go_iconst (v := (-1)) 55 dX4_bounds_54 rfl (by decide) ?_
          exact go_ireturn dX4_bounds_55 rfl vc
        · replace vc := vc.2 (bI_n0.mp e4)
          refine go_iload 46 dX4_bounds_44 rfl rfl ?_
          refine go_iconst (v := nI 0) 47 dX4_bounds_46 rfl (by decide) ?_
          refine go_iconst (v := nI 1) 48 dX4_bounds_47 rfl (by decide) ?_
          refine go_callSI (M' := mX4_in) (as := [vI x5, vI (nI 0), vI (nI 1)]) 51 dX4_bounds_48 rfl q1703 okX4_in rfl rfl rfl rfl rfl (ctX4_inL rfl rfl) ?_
          intro x0 h0 p0
          rw [p0.1, p0.2]
          refine go_if_ne 54 56 dX4_bounds_51 rfl (by decide) (fun e5 => ?_) (fun e5 => ?_)
          · replace vc := vc.1 (bI_n0.mp e5)
            refine go_aload_n 57 0 dX4_bounds_56 rfl rfl rfl ?_
            refine go_iload_n 58 1 dX4_bounds_57 rfl rfl rfl ?_
            obtain ⟨P8, hR, vc⟩ := vc
            refine go_callVV (M' := mX4_take) (as := [vI x1]) 61 dX4_bounds_58 rfl q1835 okX4_take (MO_k hM.1) ck_4 rfl rfl rfl rfl rfl hR ?_
            intro h7 p1
            replace vc := vc h7 p1
            obtain ⟨t10, g11, hM, vc⟩ := vc
            refine go_iconst (v := nI 0) 62 dX4_bounds_61 rfl (by decide) ?_
            refine go_istore 64 [vR (some o), vI x1, vI x2, vI x3, vI x4, vI x5, vI (nI 0), vU, vU, vU] dX4_bounds_62 rfl rfl rfl ?_
            exact vc
          · replace vc := vc.2 (bI_0.mp e5)
            refine go_iconst (v := (-1)) 55 dX4_bounds_54 rfl (by decide) ?_
            exact go_ireturn dX4_bounds_55 rfl vc

theorem bX4_bounds_64 {h : Hp} {b : Nat × Nat} {Q : Rs → Hp → Prop} {o : Nat} {x1 : Int32} {x2 : Int32} {x3 : Int32} {x4 : Int32} {x5 : Int32} {x6 : Int32} {y7 : AV} {y8 : AV} {y9 : AV} {t : St} {g : Nat} (hM : MS h o t g) (vc : (((hFI h 435 o) ≤ x6 → (∃ (P4 : Int32 → Hp → Prop), Ret mX4_shutNow 16 [vR (some o), vI x2, vI x3] h 0 0 (RI P4) ∧ ∀ z2 h3, P4 z2 h3 → (∃ t6 g7, MS h3 o t6 g7 ∧ Q (rI z2) h3))) ∧ (¬ (hFI h 435 o) ≤ x6 → (vp_in (((nI 6) * x1) + x6) 78 ∧ (nt (((nI 6) * x1) + x6)) < 6 * ns t ∧ ((¬ x5 = 0 → AWP mX4_bounds 17 98 [vR (some o), vI x1, vI x2, vI x3, vI x4, vI x5, vI x6, y7, y8, y9] [vI (-x4), vI (hv t (nt (((nI 6) * x1) + x6)))] h b Q) ∧ (x5 = 0 → AWP mX4_bounds 17 98 [vR (some o), vI x1, vI x2, vI x3, vI x4, vI x5, vI x6, y7, y8, y9] [vI x4, vI (hv t (nt (((nI 6) * x1) + x6)))] h b Q)))))) : AWP mX4_bounds 17 64 [vR (some o), vI x1, vI x2, vI x3, vI x4, vI x5, vI x6, y7, y8, y9] [] h b Q := by
  refine go_iload 66 dX4_bounds_64 rfl rfl ?_
  refine go_aload_n 67 0 dX4_bounds_66 rfl rfl rfl ?_
  refine go_getI 70 dX4_bounds_67 rfl (MO_k hM.1) gfX4_307_5 rfl ?_
  refine go_icmp_ge 73 275 dX4_bounds_70 rfl (by decide) (fun e1 => ?_) (fun e1 => ?_)
  · replace vc := vc.1 e1
    refine go_aload_n 276 0 dX4_bounds_275 rfl rfl rfl ?_
    refine go_iload_n 277 2 dX4_bounds_276 rfl rfl rfl ?_
    refine go_iload_n 278 3 dX4_bounds_277 rfl rfl rfl ?_
    obtain ⟨P4, hR, vc⟩ := vc
    refine go_callVI (M' := mX4_shutNow) (as := [vI x2, vI x3]) 281 dX4_bounds_278 rfl q1874 okX4_shutNow (MO_k hM.1) ck_4 rfl rfl rfl rfl rfl hR ?_
    intro z2 h3 p1
    replace vc := vc z2 h3 p1
    obtain ⟨t6, g7, hM, vc⟩ := vc
    exact go_ireturn dX4_bounds_281 rfl vc
  · replace vc := vc.2 e1
    refine go_aload_n 74 0 dX4_bounds_73 rfl rfl rfl ?_
    refine go_getRe 77 dX4_bounds_74 rfl (MO_k hM.1) gfX4_13_5 rfl (MO_f1403 hM.1) ?_
    refine go_bipush (v := nI 6) 79 dX4_bounds_77 rfl (by decide) ?_
    refine go_iload_n 80 1 dX4_bounds_79 rfl rfl rfl ?_
    refine go_imul 81 dX4_bounds_80 rfl ?_
    refine go_iload 83 dX4_bounds_81 rfl rfl ?_
    refine go_iadd 84 dX4_bounds_83 rfl ?_
    refine go_iaload 85 dX4_bounds_84 rfl (MO_k2 hM.1) vc.1 ?_
    replace vc := vc.2
    rw [hM.a2 vc.1]
    replace vc := vc.2
    refine go_iload 87 dX4_bounds_85 rfl rfl ?_
    refine go_if_ne 90 95 dX4_bounds_87 rfl (by decide) (fun e8 => ?_) (fun e8 => ?_)
    · replace vc := vc.1 e8
      refine go_iload 97 dX4_bounds_95 rfl rfl ?_
      refine go_ineg 98 dX4_bounds_97 rfl ?_
      exact vc
    · replace vc := vc.2 e8
      refine go_iload 92 dX4_bounds_90 rfl rfl ?_
      refine go_goto 98 dX4_bounds_92 (by decide) ?_
      exact vc

theorem bX4_bounds_98 {h : Hp} {b : Nat × Nat} {Q : Rs → Hp → Prop} {o : Nat} {x1 : Int32} {x2 : Int32} {x3 : Int32} {x4 : Int32} {x5 : Int32} {x6 : Int32} {y7 : AV} {y8 : AV} {y9 : AV} {s0 : Int32} {s1 : Int32} {t : St} {g : Nat} (hM : MS h o t g) (vc : (((nI 1) ≤ (s0 + s1) → (((s0 + s1) ≤ (nI 9) → (vp_in (((nI 6) * x1) + x6) 78 ∧ (nt (((nI 6) * x1) + x6)) < 6 * ns t ∧ (vp_in x6 6 ∧ (∀ h3, h3 = w1 h (o + 23) (nt x6) (massO (s0 + s1) (wg t (nt (((nI 6) * x1) + x6)))) → AWP mX4_bounds 17 150 [vR (some o), vI x1, vI x2, vI x3, vI x4, vI x5, vI x6, vI (s0 + s1), vI (nI 0), y9] [] h3 b Q)))) ∧ (¬ (s0 + s1) ≤ (nI 9) → (vp_in (((nI 6) * x1) + x6) 78 ∧ (nt (((nI 6) * x1) + x6)) < 6 * ns t ∧ (vp_in x6 6 ∧ (∀ h4, h4 = w1 h (o + 23) (nt x6) (massO (nI 9) (wg t (nt (((nI 6) * x1) + x6)))) → AWP mX4_bounds 17 150 [vR (some o), vI x1, vI x2, vI x3, vI x4, vI x5, vI x6, vI (s0 + s1), vI (nI 0), y9] [] h4 b Q)))))) ∧ (¬ (nI 1) ≤ (s0 + s1) → (vp_in (((nI 6) * x1) + x6) 78 ∧ (nt (((nI 6) * x1) + x6)) < 6 * ns t ∧ (vp_in x6 6 ∧ (∀ h5, h5 = w1 h (o + 23) (nt x6) (massO (nI 1) (wg t (nt (((nI 6) * x1) + x6)))) → AWP mX4_bounds 17 150 [vR (some o), vI x1, vI x2, vI x3, vI x4, vI x5, vI x6, vI (s0 + s1), vI (nI 0), y9] [] h5 b Q)))))) : AWP mX4_bounds 17 98 [vR (some o), vI x1, vI x2, vI x3, vI x4, vI x5, vI x6, y7, y8, y9] [vI s1, vI s0] h b Q := by
  refine go_iadd 99 dX4_bounds_98 rfl ?_
  refine go_istore 101 [vR (some o), vI x1, vI x2, vI x3, vI x4, vI x5, vI x6, vI (s0 + s1), y8, y9] dX4_bounds_99 rfl rfl rfl ?_
  refine go_aload_n 102 0 dX4_bounds_101 rfl rfl rfl ?_
  refine go_getRe 105 dX4_bounds_102 rfl (MO_k hM.1) gfX4_78_5 rfl (MO_f1431 hM.1) ?_
  refine go_iload 107 dX4_bounds_105 rfl rfl ?_
  refine go_iload 109 dX4_bounds_107 rfl rfl ?_
  refine go_iconst (v := nI 1) 110 dX4_bounds_109 rfl (by decide) ?_
  refine go_icmp_ge 113 117 dX4_bounds_110 rfl (by decide) (fun e1 => ?_) (fun e1 => ?_)
  · replace vc := vc.1 e1
    refine go_iload 119 dX4_bounds_117 rfl rfl ?_
    refine go_bipush (v := nI 9) 121 dX4_bounds_119 rfl (by decide) ?_
    refine go_icmp_le 124 129 dX4_bounds_121 rfl (by decide) (fun e2 => ?_) (fun e2 => ?_)
    · replace vc := vc.1 e2
      refine go_iload 131 dX4_bounds_129 rfl rfl ?_
      refine go_aload_n 132 0 dX4_bounds_131 rfl rfl rfl ?_
      refine go_getRe 135 dX4_bounds_132 rfl (MO_k hM.1) gfX4_19_5 rfl (MO_f1405 hM.1) ?_
      refine go_bipush (v := nI 6) 137 dX4_bounds_135 rfl (by decide) ?_
      refine go_iload_n 138 1 dX4_bounds_137 rfl rfl rfl ?_
      refine go_imul 139 dX4_bounds_138 rfl ?_
      refine go_iload 141 dX4_bounds_139 rfl rfl ?_
      refine go_iadd 142 dX4_bounds_141 rfl ?_
      refine go_iaload 143 dX4_bounds_142 rfl (MO_k4 hM.1) vc.1 ?_
      replace vc := vc.2
      rw [hM.a4 vc.1]
      replace vc := vc.2
      refine go_callSI (M' := mX4_massOf) (as := [vI (s0 + s1), vI (wg t (nt (((nI 6) * x1) + x6)))]) 146 dX4_bounds_143 rfl q1839 okX4_massOf rfl rfl rfl rfl rfl (ctX4_massOf) ?_
      intro x0 h0 p0
      rw [p0.1, p0.2]
      refine go_iastore 147 dX4_bounds_146 rfl (MO_k23 hM.1) vc.1 ?_
      replace vc := vc.2
      refine AWP.nm fun h3 eh3 => ?_
      replace vc := vc h3 eh3
      have hM : MS h3 o t g := by rw [eh3]; exact hM.fr (PE.A rfl)
      refine go_iconst (v := nI 0) 148 dX4_bounds_147 rfl (by decide) ?_
      refine go_istore 150 [vR (some o), vI x1, vI x2, vI x3, vI x4, vI x5, vI x6, vI (s0 + s1), vI (nI 0), y9] dX4_bounds_148 rfl rfl rfl ?_
      exact vc
    · replace vc := vc.2 e2
      refine go_bipush (v := nI 9) 126 dX4_bounds_124 rfl (by decide) ?_
      refine go_goto 131 dX4_bounds_126 (by decide) ?_
      refine go_aload_n 132 0 dX4_bounds_131 rfl rfl rfl ?_
      refine go_getRe 135 dX4_bounds_132 rfl (MO_k hM.1) gfX4_19_5 rfl (MO_f1405 hM.1) ?_
      refine go_bipush (v := nI 6) 137 dX4_bounds_135 rfl (by decide) ?_
      refine go_iload_n 138 1 dX4_bounds_137 rfl rfl rfl ?_
      refine go_imul 139 dX4_bounds_138 rfl ?_
      refine go_iload 141 dX4_bounds_139 rfl rfl ?_
      refine go_iadd 142 dX4_bounds_141 rfl ?_
      refine go_iaload 143 dX4_bounds_142 rfl (MO_k4 hM.1) vc.1 ?_
      replace vc := vc.2
      rw [hM.a4 vc.1]
      replace vc := vc.2
      refine go_callSI (M' := mX4_massOf) (as := [vI (nI 9), vI (wg t (nt (((nI 6) * x1) + x6)))]) 146 dX4_bounds_143 rfl q1839 okX4_massOf rfl rfl rfl rfl rfl (ctX4_massOf) ?_
      intro x0 h0 p0
      rw [p0.1, p0.2]
      refine go_iastore 147 dX4_bounds_146 rfl (MO_k23 hM.1) vc.1 ?_
      replace vc := vc.2
      refine AWP.nm fun h4 eh4 => ?_
      replace vc := vc h4 eh4
      have hM : MS h4 o t g := by rw [eh4]; exact hM.fr (PE.A rfl)
      refine go_iconst (v := nI 0) 148 dX4_bounds_147 rfl (by decide) ?_
      refine go_istore 150 [vR (some o), vI x1, vI x2, vI x3, vI x4, vI x5, vI x6, vI (s0 + s1), vI (nI 0), y9] dX4_bounds_148 rfl rfl rfl ?_
      exact vc
  · replace vc := vc.2 e1
    refine go_iconst (v := nI 1) 114 dX4_bounds_113 rfl (by decide) ?_
    refine go_goto 131 dX4_bounds_114 (by decide) ?_
    refine go_aload_n 132 0 dX4_bounds_131 rfl rfl rfl ?_
    refine go_getRe 135 dX4_bounds_132 rfl (MO_k hM.1) gfX4_19_5 rfl (MO_f1405 hM.1) ?_
    refine go_bipush (v := nI 6) 137 dX4_bounds_135 rfl (by decide) ?_
    refine go_iload_n 138 1 dX4_bounds_137 rfl rfl rfl ?_
    refine go_imul 139 dX4_bounds_138 rfl ?_
    refine go_iload 141 dX4_bounds_139 rfl rfl ?_
    refine go_iadd 142 dX4_bounds_141 rfl ?_
    refine go_iaload 143 dX4_bounds_142 rfl (MO_k4 hM.1) vc.1 ?_
    replace vc := vc.2
    rw [hM.a4 vc.1]
    replace vc := vc.2
    refine go_callSI (M' := mX4_massOf) (as := [vI (nI 1), vI (wg t (nt (((nI 6) * x1) + x6)))]) 146 dX4_bounds_143 rfl q1839 okX4_massOf rfl rfl rfl rfl rfl (ctX4_massOf) ?_
    intro x0 h0 p0
    rw [p0.1, p0.2]
    refine go_iastore 147 dX4_bounds_146 rfl (MO_k23 hM.1) vc.1 ?_
    replace vc := vc.2
    refine AWP.nm fun h5 eh5 => ?_
    replace vc := vc h5 eh5
    have hM : MS h5 o t g := by rw [eh5]; exact hM.fr (PE.A rfl)
    refine go_iconst (v := nI 0) 148 dX4_bounds_147 rfl (by decide) ?_
    refine go_istore 150 [vR (some o), vI x1, vI x2, vI x3, vI x4, vI x5, vI x6, vI (s0 + s1), vI (nI 0), y9] dX4_bounds_148 rfl rfl rfl ?_
    exact vc

theorem bX4_bounds_150 {h : Hp} {b : Nat × Nat} {Q : Rs → Hp → Prop} {o : Nat} {x1 : Int32} {x2 : Int32} {x3 : Int32} {x4 : Int32} {x5 : Int32} {x6 : Int32} {x7 : Int32} {x8 : Int32} {y9 : AV} {t : St} {g : Nat} (hM : MS h o t g) (vc : (((hFI h 435 o) ≤ x8 → AWP mX4_bounds 17 64 [vR (some o), vI x1, vI x2, vI x3, vI x4, vI x5, vI (x6 + nI 1), vI x7, vI x8, y9] [] h b Q) ∧ (¬ (hFI h 435 o) ≤ x8 → ((isSh t x1 ∧ bt x6 0 5 ∧ bt x8 0 5) ∧ (((has t (nt x1) (nt x6) (nt x8) = true) → (vp_in (nI 36 * x1 + nI 6 * x6 + x8) 468 ∧ (nt (nI 36 * x1 + nI 6 * x6 + x8)) < 36 * ns t ∧ ((¬ x5 = 0 → AWP mX4_bounds 17 200 [vR (some o), vI x1, vI x2, vI x3, vI x4, vI x5, vI x6, vI x7, vI x8, y9] [vI x4, vI (sf t (nt (nI 36 * x1 + nI 6 * x6 + x8)))] h b Q) ∧ (x5 = 0 → AWP mX4_bounds 17 200 [vR (some o), vI x1, vI x2, vI x3, vI x4, vI x5, vI x6, vI x7, vI x8, y9] [vI (-x4), vI (sf t (nt (nI 36 * x1 + nI 6 * x6 + x8)))] h b Q)))) ∧ (¬ (has t (nt x1) (nt x6) (nt x8) = true) → AWP mX4_bounds 17 150 [vR (some o), vI x1, vI x2, vI x3, vI x4, vI x5, vI x6, vI x7, vI (x8 + nI 1), y9] [] h b Q)))))) : AWP mX4_bounds 17 150 [vR (some o), vI x1, vI x2, vI x3, vI x4, vI x5, vI x6, vI x7, vI x8, y9] [] h b Q := by
  refine go_iload 152 dX4_bounds_150 rfl rfl ?_
  refine go_aload_n 153 0 dX4_bounds_152 rfl rfl rfl ?_
  refine go_getI 156 dX4_bounds_153 rfl (MO_k hM.1) gfX4_307_5 rfl ?_
  refine go_icmp_ge 159 269 dX4_bounds_156 rfl (by decide) (fun e1 => ?_) (fun e1 => ?_)
  · replace vc := vc.1 e1
    refine go_iinc 272 (x6 + nI 1) [vR (some o), vI x1, vI x2, vI x3, vI x4, vI x5, vI (x6 + nI 1), vI x7, vI x8, y9] dX4_bounds_269 rfl rfl (by rfl) rfl rfl ?_
    refine go_goto 64 dX4_bounds_272 (by decide) ?_
    exact vc
  · replace vc := vc.2 e1
    refine go_aload_n 160 0 dX4_bounds_159 rfl rfl rfl ?_
    refine go_iload_n 161 1 dX4_bounds_160 rfl rfl rfl ?_
    refine go_iload 163 dX4_bounds_161 rfl rfl ?_
    refine go_iload 165 dX4_bounds_163 rfl rfl ?_
    refine go_callVI (M' := mX4_hasPiece) (as := [vI x1, vI x6, vI x8]) 168 dX4_bounds_165 rfl q1750 okX4_hasPiece (MO_k hM.1) ck_4 rfl rfl rfl rfl rfl (ctX4_hasPiece hM vc.1) ?_
    replace vc := vc.2
    intro x0 h0 p0
    rw [p0.1, p0.2]
    refine go_if_ne 171 174 dX4_bounds_168 rfl (by decide) (fun e2 => ?_) (fun e2 => ?_)
    · replace vc := vc.1 (bI_n0.mp e2)
      refine go_aload_n 175 0 dX4_bounds_174 rfl rfl rfl ?_
      refine go_getRe 178 dX4_bounds_175 rfl (MO_k hM.1) gfX4_26_5 rfl (MO_f1407 hM.1) ?_
      refine go_iload_n 179 1 dX4_bounds_178 rfl rfl rfl ?_
      refine go_iload 181 dX4_bounds_179 rfl rfl ?_
      refine go_iload 183 dX4_bounds_181 rfl rfl ?_
      refine go_callSI (M' := mX4_at) (as := [vI x1, vI x6, vI x8]) 186 dX4_bounds_183 rfl q1754 okX4_at rfl rfl rfl rfl rfl (ctX4_at) ?_
      intro x0 h0 p0
      rw [p0.1, p0.2]
      refine go_iaload 187 dX4_bounds_186 rfl (MO_k6 hM.1) vc.1 ?_
      replace vc := vc.2
      rw [hM.a6 vc.1]
      replace vc := vc.2
      refine go_iload 189 dX4_bounds_187 rfl rfl ?_
      refine go_if_ne 192 198 dX4_bounds_189 rfl (by decide) (fun e3 => ?_) (fun e3 => ?_)
      · replace vc := vc.1 e3
        refine go_iload 200 dX4_bounds_198 rfl rfl ?_
        exact vc
      · replace vc := vc.2 e3
        refine go_iload 194 dX4_bounds_192 rfl rfl ?_
        refine go_ineg 195 dX4_bounds_194 rfl ?_
        refine go_goto 200 dX4_bounds_195 (by decide) ?_
        exact vc
    · replace vc := vc.2 (bI_0.mp e2)
      refine go_goto 263 dX4_bounds_171 (by decide) ?_
      refine go_iinc 266 (x8 + nI 1) [vR (some o), vI x1, vI x2, vI x3, vI x4, vI x5, vI x6, vI x7, vI (x8 + nI 1), y9] dX4_bounds_263 rfl rfl (by rfl) rfl rfl ?_
      refine go_goto 150 dX4_bounds_266 (by decide) ?_
      exact vc

theorem bX4_bounds_200 {h : Hp} {b : Nat × Nat} {Q : Rs → Hp → Prop} {o : Nat} {x1 : Int32} {x2 : Int32} {x3 : Int32} {x4 : Int32} {x5 : Int32} {x6 : Int32} {x7 : Int32} {x8 : Int32} {y9 : AV} {s0 : Int32} {s1 : Int32} {t : St} {g : Nat} (hM : MS h o t g) (vc : (((nI 1) ≤ (s0 + s1) → (((s0 + s1) ≤ (nI 9) → AWP mX4_bounds 17 227 [vR (some o), vI x1, vI x2, vI x3, vI x4, vI x5, vI x6, vI x7, vI x8, vI (s0 + s1)] [vI (s0 + s1)] h b Q) ∧ (¬ (s0 + s1) ≤ (nI 9) → AWP mX4_bounds 17 227 [vR (some o), vI x1, vI x2, vI x3, vI x4, vI x5, vI x6, vI x7, vI x8, vI (s0 + s1)] [vI (nI 9)] h b Q))) ∧ (¬ (nI 1) ≤ (s0 + s1) → AWP mX4_bounds 17 227 [vR (some o), vI x1, vI x2, vI x3, vI x4, vI x5, vI x6, vI x7, vI x8, vI (s0 + s1)] [vI (nI 1)] h b Q))) : AWP mX4_bounds 17 200 [vR (some o), vI x1, vI x2, vI x3, vI x4, vI x5, vI x6, vI x7, vI x8, y9] [vI s1, vI s0] h b Q := by
  refine go_iadd 201 dX4_bounds_200 rfl ?_
  refine go_istore 203 [vR (some o), vI x1, vI x2, vI x3, vI x4, vI x5, vI x6, vI x7, vI x8, vI (s0 + s1)] dX4_bounds_201 rfl rfl rfl ?_
  refine go_iload 205 dX4_bounds_203 rfl rfl ?_
  refine go_iconst (v := nI 1) 206 dX4_bounds_205 rfl (by decide) ?_
  refine go_icmp_ge 209 213 dX4_bounds_206 rfl (by decide) (fun e1 => ?_) (fun e1 => ?_)
  · replace vc := vc.1 e1
    refine go_iload 215 dX4_bounds_213 rfl rfl ?_
    refine go_bipush (v := nI 9) 217 dX4_bounds_215 rfl (by decide) ?_
    refine go_icmp_le 220 225 dX4_bounds_217 rfl (by decide) (fun e2 => ?_) (fun e2 => ?_)
    · replace vc := vc.1 e2
      refine go_iload 227 dX4_bounds_225 rfl rfl ?_
      exact vc
    · replace vc := vc.2 e2
      refine go_bipush (v := nI 9) 222 dX4_bounds_220 rfl (by decide) ?_
      refine go_goto 227 dX4_bounds_222 (by decide) ?_
      exact vc
  · replace vc := vc.2 e1
    refine go_iconst (v := nI 1) 210 dX4_bounds_209 rfl (by decide) ?_
    refine go_goto 227 dX4_bounds_210 (by decide) ?_
    exact vc

theorem bX4_bounds_227 {h : Hp} {b : Nat × Nat} {Q : Rs → Hp → Prop} {o : Nat} {x1 : Int32} {x2 : Int32} {x3 : Int32} {x4 : Int32} {x5 : Int32} {x6 : Int32} {x7 : Int32} {x8 : Int32} {x9 : Int32} {s0 : Int32} {t : St} {g : Nat} (hM : MS h o t g) (vc : (vp_in (nI 36 * x1 + nI 6 * x6 + x8) 468 ∧ (nt (nI 36 * x1 + nI 6 * x6 + x8)) < 36 * ns t ∧ (vp_in (((nI 6) * x6) + x8) 36 ∧ (∀ h1, h1 = w1 h (o + 26) (nt (((nI 6) * x6) + x8)) (s0 - (mnI s0 (ck t (nt (nI 36 * x1 + nI 6 * x6 + x8))))) → AWP mX4_bounds 17 150 [vR (some o), vI x1, vI x2, vI x3, vI x4, vI x5, vI x6, vI x7, vI (x8 + nI 1), vI s0] [] h1 b Q)))) : AWP mX4_bounds 17 227 [vR (some o), vI x1, vI x2, vI x3, vI x4, vI x5, vI x6, vI x7, vI x8, vI x9] [vI s0] h b Q := by
  refine go_istore 229 [vR (some o), vI x1, vI x2, vI x3, vI x4, vI x5, vI x6, vI x7, vI x8, vI s0] dX4_bounds_227 rfl rfl rfl ?_
  refine go_aload_n 230 0 dX4_bounds_229 rfl rfl rfl ?_
  refine go_getRe 233 dX4_bounds_230 rfl (MO_k hM.1) gfX4_87_5 rfl (MO_f1434 hM.1) ?_
  refine go_bipush (v := nI 6) 235 dX4_bounds_233 rfl (by decide) ?_
  refine go_iload 237 dX4_bounds_235 rfl rfl ?_
  refine go_imul 238 dX4_bounds_237 rfl ?_
  refine go_iload 240 dX4_bounds_238 rfl rfl ?_
  refine go_iadd 241 dX4_bounds_240 rfl ?_
  refine go_iload 243 dX4_bounds_241 rfl rfl ?_
  refine go_iload 245 dX4_bounds_243 rfl rfl ?_
  refine go_aload_n 246 0 dX4_bounds_245 rfl rfl rfl ?_
  refine go_getRe 249 dX4_bounds_246 rfl (MO_k hM.1) gfX4_29_5 rfl (MO_f1408 hM.1) ?_
  refine go_iload_n 250 1 dX4_bounds_249 rfl rfl rfl ?_
  refine go_iload 252 dX4_bounds_250 rfl rfl ?_
  refine go_iload 254 dX4_bounds_252 rfl rfl ?_
  refine go_callSI (M' := mX4_at) (as := [vI x1, vI x6, vI x8]) 257 dX4_bounds_254 rfl q1754 okX4_at rfl rfl rfl rfl rfl (ctX4_at) ?_
  intro x0 h0 p0
  rw [p0.1, p0.2]
  refine go_iaload 258 dX4_bounds_257 rfl (MO_k7 hM.1) vc.1 ?_
  replace vc := vc.2
  rw [hM.a7 vc.1]
  replace vc := vc.2
  refine go_callSI (M' := mX4_lesser) (as := [vI s0, vI (ck t (nt (nI 36 * x1 + nI 6 * x6 + x8)))]) 261 dX4_bounds_258 rfl q1810 okX4_lesser rfl rfl rfl rfl rfl (ctX4_lesser) ?_
  intro x0 h0 p0
  rw [p0.1, p0.2]
  refine go_isub 262 dX4_bounds_261 rfl ?_
  refine go_iastore 263 dX4_bounds_262 rfl (MO_k26 hM.1) vc.1 ?_
  replace vc := vc.2
  refine AWP.nm fun h1 eh1 => ?_
  replace vc := vc h1 eh1
  have hM : MS h1 o t g := by rw [eh1]; exact hM.fr (PE.A rfl)
  refine go_iinc 266 (x8 + nI 1) [vR (some o), vI x1, vI x2, vI x3, vI x4, vI x5, vI x6, vI x7, vI (x8 + nI 1), vI s0] dX4_bounds_263 rfl rfl (by rfl) rfl rfl ?_
  refine go_goto 150 dX4_bounds_266 (by decide) ?_
  exact vc

theorem bX4_led_0 {h : Hp} {b : Nat × Nat} {Q : Rs → Hp → Prop} {o : Nat} {x1 : Int32} {x2 : Int32} {x3 : Int32} {x4 : Int32} {t : St} {g : Nat} (hM : MS h o t g) (vc : ((¬ (isSh t x1) → Q (rI (-1)) h) ∧ ((isSh t x1) → (isSh t x1 ∧ ((¬ ((nI 0) ≤ x2 ∧ x2 ≤ ((nI (tones t (nt x1))) - (nI 1))) → Q (rI (-1)) h) ∧ (((nI 0) ≤ x2 ∧ x2 ≤ ((nI (tones t (nt x1))) - (nI 1))) → ((¬ (bt x3 1 9) → Q (rI (-1)) h) ∧ ((bt x3 1 9) → (((bt x4 0 1) → (∃ (P7 : Hp → Prop), Ret mX4_take 2 [vR (some o), vI x1] h 0 0 (RV P7) ∧ ∀ h6, P7 h6 → (∃ t9 g10, MS h6 o t9 g10 ∧ (∃ (P13 : Int32 → Hp → Prop), Ret mX4_shutNow 16 [vR (some o), vI x2, vI x3] h6 0 0 (RI P13) ∧ ∀ z11 h12, P13 z11 h12 → (∃ t15 g16, MS h12 o t15 g16 ∧ AWP mX4_led 17 68 [vR (some o), vI x1, vI x2, vI x3, vI x4, vI z11, vI (-2), vI (nI 0), vI (nI 0), vU, vU, vU, vU, vU] [] h12 b Q))))) ∧ (¬ (bt x4 0 1) → Q (rI (-1)) h)))))))))) : AWP mX4_led 17 0 [vR (some o), vI x1, vI x2, vI x3, vI x4, vU, vU, vU, vU, vU, vU, vU, vU, vU] [] h b Q := by
  refine go_aload_n 1 0 dX4_led_0 rfl rfl rfl ?_
  refine go_iload_n 2 1 dX4_led_1 rfl rfl rfl ?_
  refine go_callVI (M' := mX4_isShape) (as := [vI x1]) 5 dX4_led_2 rfl q1769 okX4_isShape (MO_k hM.1) ck_4 rfl rfl rfl rfl rfl (ctX4_isShape hM) ?_
  intro x0 h0 p0
  rw [p0.1, p0.2]
  refine go_if_eq 8 43 dX4_led_5 rfl (by decide) (fun e1 => ?_) (fun e1 => ?_)
  · replace vc := vc.1 (bI_0.mp e1)
    refine go_iconst (v := (-1)) 44 dX4_led_43 rfl (by decide) ?_
    exact go_ireturn dX4_led_44 rfl vc
  · replace vc := vc.2 (bI_n0.mp e1)
    refine go_iload_n 9 2 dX4_led_8 rfl rfl rfl ?_
    refine go_iconst (v := nI 0) 10 dX4_led_9 rfl (by decide) ?_
    refine go_aload_n 11 0 dX4_led_10 rfl rfl rfl ?_
    refine go_iload_n 12 1 dX4_led_11 rfl rfl rfl ?_
    refine go_callVI (M' := mX4_tonesOf) (as := [vI x1]) 15 dX4_led_12 rfl q1778 okX4_tonesOf (MO_k hM.1) ck_4 rfl rfl rfl rfl rfl (ctX4_tonesOf hM vc.1) ?_
    replace vc := vc.2
    intro x0 h0 p0
    rw [p0.1, p0.2]
    refine go_iconst (v := nI 1) 16 dX4_led_15 rfl (by decide) ?_
    refine go_isub 17 dX4_led_16 rfl ?_
    refine go_callSI (M' := mX4_in) (as := [vI x2, vI (nI 0), vI ((nI (tones t (nt x1))) - (nI 1))]) 20 dX4_led_17 rfl q1703 okX4_in rfl rfl rfl rfl rfl (ctX4_in) ?_
    intro x0 h0 p0
    rw [p0.1, p0.2]
    refine go_if_eq 23 43 dX4_led_20 rfl (by decide) (fun e2 => ?_) (fun e2 => ?_)
    · replace vc := vc.1 (bI_0.mp e2)
      refine go_iconst (v := (-1)) 44 dX4_led_43 rfl (by decide) ?_
      exact go_ireturn dX4_led_44 rfl vc
    · replace vc := vc.2 (bI_n0.mp e2)
      refine go_iload_n 24 3 dX4_led_23 rfl rfl rfl ?_
      refine go_iconst (v := nI 1) 25 dX4_led_24 rfl (by decide) ?_
      refine go_bipush (v := nI 9) 27 dX4_led_25 rfl (by decide) ?_
      refine go_callSI (M' := mX4_in) (as := [vI x3, vI (nI 1), vI (nI 9)]) 30 dX4_led_27 rfl q1703 okX4_in rfl rfl rfl rfl rfl (ctX4_inL rfl rfl) ?_
      intro x0 h0 p0
      rw [p0.1, p0.2]
      refine go_if_eq 33 43 dX4_led_30 rfl (by decide) (fun e3 => ?_) (fun e3 => ?_)
      · replace vc := vc.1 (bI_0.mp e3)
        refine go_iconst (v := (-1)) 44 dX4_led_43 rfl (by decide) ?_
        exact go_ireturn dX4_led_44 rfl vc
      · replace vc := vc.2 (bI_n0.mp e3)
        refine go_iload 35 dX4_led_33 rfl rfl ?_
        refine go_iconst (v := nI 0) 36 dX4_led_35 rfl (by decide) ?_
        refine go_iconst (v := nI 1) 37 dX4_led_36 rfl (by decide) ?_
        refine go_callSI (M' := mX4_in) (as := [vI x4, vI (nI 0), vI (nI 1)]) 40 dX4_led_37 rfl q1703 okX4_in rfl rfl rfl rfl rfl (ctX4_inL rfl rfl) ?_
        intro x0 h0 p0
        rw [p0.1, p0.2]
        refine go_if_ne 43 45 dX4_led_40 rfl (by decide) (fun e4 => ?_) (fun e4 => ?_)
        · replace vc := vc.1 (bI_n0.mp e4)
          refine go_aload_n 46 0 dX4_led_45 rfl rfl rfl ?_
          refine go_iload_n 47 1 dX4_led_46 rfl rfl rfl ?_
          obtain ⟨P7, hR, vc⟩ := vc
          refine go_callVV (M' := mX4_take) (as := [vI x1]) 50 dX4_led_47 rfl q1835 okX4_take (MO_k hM.1) ck_4 rfl rfl rfl rfl rfl hR ?_
          intro h6 p1
          replace vc := vc h6 p1
          obtain ⟨t9, g10, hM, vc⟩ := vc
          refine go_aload_n 51 0 dX4_led_50 rfl rfl rfl ?_
          refine go_iload_n 52 2 dX4_led_51 rfl rfl rfl ?_
          refine go_iload_n 53 3 dX4_led_52 rfl rfl rfl ?_
          obtain ⟨P13, hR, vc⟩ := vc
          refine go_callVI (M' := mX4_shutNow) (as := [vI x2, vI x3]) 56 dX4_led_53 rfl q1874 okX4_shutNow (MO_k hM.1) ck_4 rfl rfl rfl rfl rfl hR ?_
          intro z11 h12 p1
          replace vc := vc z11 h12 p1
          obtain ⟨t15, g16, hM, vc⟩ := vc
          refine go_istore 58 [vR (some o), vI x1, vI x2, vI x3, vI x4, vI z11, vU, vU, vU, vU, vU, vU, vU, vU] dX4_led_56 rfl rfl rfl ?_
          refine go_bipush (v := (-2)) 60 dX4_led_58 rfl (by decide) ?_
          refine go_istore 62 [vR (some o), vI x1, vI x2, vI x3, vI x4, vI z11, vI (-2), vU, vU, vU, vU, vU, vU, vU] dX4_led_60 rfl rfl rfl ?_
          refine go_iconst (v := nI 0) 63 dX4_led_62 rfl (by decide) ?_
          refine go_istore 65 [vR (some o), vI x1, vI x2, vI x3, vI x4, vI z11, vI (-2), vI (nI 0), vU, vU, vU, vU, vU, vU] dX4_led_63 rfl rfl rfl ?_
          refine go_iconst (v := nI 0) 66 dX4_led_65 rfl (by decide) ?_
          refine go_istore 68 [vR (some o), vI x1, vI x2, vI x3, vI x4, vI z11, vI (-2), vI (nI 0), vI (nI 0), vU, vU, vU, vU, vU] dX4_led_66 rfl rfl rfl ?_
          exact vc
        · replace vc := vc.2 (bI_0.mp e4)
          refine go_iconst (v := (-1)) 44 dX4_led_43 rfl (by decide) ?_
          exact go_ireturn dX4_led_44 rfl vc

theorem bX4_led_68 {h : Hp} {b : Nat × Nat} {Q : Rs → Hp → Prop} {o : Nat} {x1 : Int32} {x2 : Int32} {x3 : Int32} {x4 : Int32} {x5 : Int32} {x6 : Int32} {x7 : Int32} {x8 : Int32} {y9 : AV} {y10 : AV} {y11 : AV} {y12 : AV} {y13 : AV} {t : St} {g : Nat} (hM : MS h o t g) (vc : (((nI (nb t)) ≤ x8 → ((¬ x4 = 0 → Q (rI x7) h) ∧ (x4 = 0 → Q (rI x6) h))) ∧ (¬ (nI (nb t)) ≤ x8 → (vp_in x8 200 ∧ (nt x8) < nb t ∧ ((((nI (li t (nt x8))) - (nI 1)) < 0 → AWP mX4_led 17 68 [vR (some o), vI x1, vI x2, vI x3, vI x4, vI x5, vI x6, vI x7, vI (x8 + nI 1), vI ((nI (li t (nt x8))) - (nI 1)), y10, y11, y12, y13] [] h b Q) ∧ (¬ ((nI (li t (nt x8))) - (nI 1)) < 0 → (((((nI (li t (nt x8))) - (nI 1)) / (nI 36)) = x1 → AWP mX4_led 17 105 [vR (some o), vI x1, vI x2, vI x3, vI x4, vI x5, vI x6, vI x7, vI x8, vI ((nI (li t (nt x8))) - (nI 1)), y10, y11, y12, y13] [] h b Q) ∧ (¬ (((nI (li t (nt x8))) - (nI 1)) / (nI 36)) = x1 → AWP mX4_led 17 68 [vR (some o), vI x1, vI x2, vI x3, vI x4, vI x5, vI x6, vI x7, vI (x8 + nI 1), vI ((nI (li t (nt x8))) - (nI 1)), y10, y11, y12, y13] [] h b Q)))))))) : AWP mX4_led 17 68 [vR (some o), vI x1, vI x2, vI x3, vI x4, vI x5, vI x6, vI x7, vI x8, y9, y10, y11, y12, y13] [] h b Q := by
  refine go_iload 70 dX4_led_68 rfl rfl ?_
  refine go_aload_n 71 0 dX4_led_70 rfl rfl rfl ?_
  refine go_getI 74 dX4_led_71 rfl (MO_k hM.1) gfX4_261_5 rfl ?_
  rw [hM.f412]
  refine go_icmp_ge 77 196 dX4_led_74 rfl (by decide) (fun e1 => ?_) (fun e1 => ?_)
  · replace vc := vc.1 e1
    refine go_iload 198 dX4_led_196 rfl rfl ?_
    refine go_if_ne 201 206 dX4_led_198 rfl (by decide) (fun e2 => ?_) (fun e2 => ?_)
    · replace vc := vc.1 e2
      refine go_iload 208 dX4_led_206 rfl rfl ?_
      exact go_ireturn dX4_led_208 rfl vc
    · replace vc := vc.2 e2
      refine go_iload 203 dX4_led_201 rfl rfl ?_
      refine go_goto 208 dX4_led_203 (by decide) ?_
      exact go_ireturn dX4_led_208 rfl vc
  · replace vc := vc.2 e1
    refine go_aload_n 78 0 dX4_led_77 rfl rfl rfl ?_
    refine go_getRe 81 dX4_led_78 rfl (MO_k hM.1) gfX4_44_5 rfl (MO_f1414 hM.1) ?_
    refine go_iload 83 dX4_led_81 rfl rfl ?_
    refine go_iaload 84 dX4_led_83 rfl (MO_k12 hM.1) vc.1 ?_
    replace vc := vc.2
    rw [hM.a12 vc.1]
    replace vc := vc.2
    refine go_iconst (v := nI 1) 85 dX4_led_84 rfl (by decide) ?_
    refine go_isub 86 dX4_led_85 rfl ?_
    refine go_istore 88 [vR (some o), vI x1, vI x2, vI x3, vI x4, vI x5, vI x6, vI x7, vI x8, vI ((nI (li t (nt x8))) - (nI 1)), y10, y11, y12, y13] dX4_led_86 rfl rfl rfl ?_
    refine go_iload 90 dX4_led_88 rfl rfl ?_
    refine go_if_lt 93 190 dX4_led_90 rfl (by decide) (fun e3 => ?_) (fun e3 => ?_)
    · replace vc := vc.1 e3
      refine go_iinc 193 (x8 + nI 1) [vR (some o), vI x1, vI x2, vI x3, vI x4, vI x5, vI x6, vI x7, vI (x8 + nI 1), vI ((nI (li t (nt x8))) - (nI 1)), y10, y11, y12, y13] dX4_led_190 rfl rfl (by rfl) rfl rfl ?_
      refine go_goto 68 dX4_led_193 (by decide) ?_
      exact vc
    · replace vc := vc.2 e3
      refine go_iload 95 dX4_led_93 rfl rfl ?_
      refine go_bipush (v := nI 36) 97 dX4_led_95 rfl (by decide) ?_
      refine go_idiv 98 dX4_led_97 rfl (by decide) ?_
      refine go_iload_n 99 1 dX4_led_98 rfl rfl rfl ?_
      refine go_icmp_eq 102 105 dX4_led_99 rfl (by decide) (fun e4 => ?_) (fun e4 => ?_)
      · replace vc := vc.1 e4
        exact vc
      · replace vc := vc.2 e4
        refine go_goto 190 dX4_led_102 (by decide) ?_
        refine go_iinc 193 (x8 + nI 1) [vR (some o), vI x1, vI x2, vI x3, vI x4, vI x5, vI x6, vI x7, vI (x8 + nI 1), vI ((nI (li t (nt x8))) - (nI 1)), y10, y11, y12, y13] dX4_led_190 rfl rfl (by rfl) rfl rfl ?_
        refine go_goto 68 dX4_led_193 (by decide) ?_
        exact vc

theorem bX4_led_105 {h : Hp} {b : Nat × Nat} {Q : Rs → Hp → Prop} {o : Nat} {x1 : Int32} {x2 : Int32} {x3 : Int32} {x4 : Int32} {x5 : Int32} {x6 : Int32} {x7 : Int32} {x8 : Int32} {x9 : Int32} {y10 : AV} {y11 : AV} {y12 : AV} {y13 : AV} {t : St} {g : Nat} (hM : MS h o t g) (vc : AWP mX4_led 17 122 [vR (some o), vI x1, vI x2, vI x3, vI x4, vI x5, vI x6, vI x7, vI x8, vI x9, vI ((x9 / (nI 6)) - (x9 / (nI 6)) / (nI 6) * (nI 6)), vI (x9 - x9 / (nI 6) * (nI 6)), y12, y13] [] h b Q) : AWP mX4_led 17 105 [vR (some o), vI x1, vI x2, vI x3, vI x4, vI x5, vI x6, vI x7, vI x8, vI x9, y10, y11, y12, y13] [] h b Q := by
  refine go_iload 107 dX4_led_105 rfl rfl ?_
  refine go_bipush (v := nI 6) 109 dX4_led_107 rfl (by decide) ?_
  refine go_idiv 110 dX4_led_109 rfl (by decide) ?_
  refine go_bipush (v := nI 6) 112 dX4_led_110 rfl (by decide) ?_
  refine go_irem 113 dX4_led_112 rfl (by decide) ?_
  refine go_istore 115 [vR (some o), vI x1, vI x2, vI x3, vI x4, vI x5, vI x6, vI x7, vI x8, vI x9, vI ((x9 / (nI 6)) - (x9 / (nI 6)) / (nI 6) * (nI 6)), y11, y12, y13] dX4_led_113 rfl rfl rfl ?_
  refine go_iload 117 dX4_led_115 rfl rfl ?_
  refine go_bipush (v := nI 6) 119 dX4_led_117 rfl (by decide) ?_
  refine go_irem 120 dX4_led_119 rfl (by decide) ?_
  refine go_istore 122 [vR (some o), vI x1, vI x2, vI x3, vI x4, vI x5, vI x6, vI x7, vI x8, vI x9, vI ((x9 / (nI 6)) - (x9 / (nI 6)) / (nI 6) * (nI 6)), vI (x9 - x9 / (nI 6) * (nI 6)), y12, y13] dX4_led_120 rfl rfl rfl ?_
  exact vc

theorem bX4_led_122 {h : Hp} {b : Nat × Nat} {Q : Rs → Hp → Prop} {o : Nat} {x1 : Int32} {x2 : Int32} {x3 : Int32} {x4 : Int32} {x5 : Int32} {x6 : Int32} {x7 : Int32} {x8 : Int32} {x9 : Int32} {x10 : Int32} {x11 : Int32} {y12 : AV} {y13 : AV} {t : St} {g : Nat} (hM : MS h o t g) (vc : (vp_in (((nI 6) * x10) + x11) 36 ∧ (∃ (P3 : Hp → Prop), Ret mX4_setCount 0 [vR (some o), vI x10, vI x11, vI (nI 0)] h 0 0 (RV P3) ∧ ∀ h2, P3 h2 → (∃ t5 g6, MS h2 o t5 g6 ∧ (∃ (P9 : Int32 → Hp → Prop), Ret mX4_shutNow 16 [vR (some o), vI x2, vI x3] h2 0 0 (RI P9) ∧ ∀ z7 h8, P9 z7 h8 → (∃ t11 g12, MS h8 o t11 g12 ∧ (∃ (P15 : Hp → Prop), Ret mX4_setCount 0 [vR (some o), vI x10, vI x11, vI (hAI h (o + 26) (nt (((nI 6) * x10) + x11)))] h8 0 0 (RV P15) ∧ ∀ h14, P15 h14 → (∃ t17 g18, MS h14 o t17 g18 ∧ ((x6 < 0 → AWP mX4_led 17 68 [vR (some o), vI x1, vI x2, vI x3, vI x4, vI x5, vI x8, vI (x5 - z7), vI (x8 + nI 1), vI x9, vI x10, vI x11, vI (hAI h (o + 26) (nt (((nI 6) * x10) + x11))), vI (x5 - z7)] [] h14 b Q) ∧ (¬ x6 < 0 → ((x7 < (x5 - z7) → AWP mX4_led 17 68 [vR (some o), vI x1, vI x2, vI x3, vI x4, vI x5, vI x8, vI (x5 - z7), vI (x8 + nI 1), vI x9, vI x10, vI x11, vI (hAI h (o + 26) (nt (((nI 6) * x10) + x11))), vI (x5 - z7)] [] h14 b Q) ∧ (¬ x7 < (x5 - z7) → AWP mX4_led 17 68 [vR (some o), vI x1, vI x2, vI x3, vI x4, vI x5, vI x6, vI x7, vI (x8 + nI 1), vI x9, vI x10, vI x11, vI (hAI h (o + 26) (nt (((nI 6) * x10) + x11))), vI (x5 - z7)] [] h14 b Q)))))))))))) : AWP mX4_led 17 122 [vR (some o), vI x1, vI x2, vI x3, vI x4, vI x5, vI x6, vI x7, vI x8, vI x9, vI x10, vI x11, y12, y13] [] h b Q := by
  refine go_aload_n 123 0 dX4_led_122 rfl rfl rfl ?_
  refine go_getRe 126 dX4_led_123 rfl (MO_k hM.1) gfX4_87_5 rfl (MO_f1434 hM.1) ?_
  refine go_bipush (v := nI 6) 128 dX4_led_126 rfl (by decide) ?_
  refine go_iload 130 dX4_led_128 rfl rfl ?_
  refine go_imul 131 dX4_led_130 rfl ?_
  refine go_iload 133 dX4_led_131 rfl rfl ?_
  refine go_iadd 134 dX4_led_133 rfl ?_
  refine go_iaload 135 dX4_led_134 rfl (MO_k26 hM.1) vc.1 ?_
  replace vc := vc.2
  refine go_istore 137 [vR (some o), vI x1, vI x2, vI x3, vI x4, vI x5, vI x6, vI x7, vI x8, vI x9, vI x10, vI x11, vI (hAI h (o + 26) (nt (((nI 6) * x10) + x11))), y13] dX4_led_135 rfl rfl rfl ?_
  refine go_aload_n 138 0 dX4_led_137 rfl rfl rfl ?_
  refine go_iload 140 dX4_led_138 rfl rfl ?_
  refine go_iload 142 dX4_led_140 rfl rfl ?_
  refine go_iconst (v := nI 0) 143 dX4_led_142 rfl (by decide) ?_
  obtain ⟨P3, hR, vc⟩ := vc
  refine go_callVV (M' := mX4_setCount) (as := [vI x10, vI x11, vI (nI 0)]) 146 dX4_led_143 rfl q1902 okX4_setCount (MO_k hM.1) ck_4 rfl rfl rfl rfl rfl hR ?_
  intro h2 p1
  replace vc := vc h2 p1
  obtain ⟨t5, g6, hM, vc⟩ := vc
  refine go_iload 148 dX4_led_146 rfl rfl ?_
  refine go_aload_n 149 0 dX4_led_148 rfl rfl rfl ?_
  refine go_iload_n 150 2 dX4_led_149 rfl rfl rfl ?_
  refine go_iload_n 151 3 dX4_led_150 rfl rfl rfl ?_
  obtain ⟨P9, hR, vc⟩ := vc
  refine go_callVI (M' := mX4_shutNow) (as := [vI x2, vI x3]) 154 dX4_led_151 rfl q1874 okX4_shutNow (MO_k hM.1) ck_4 rfl rfl rfl rfl rfl hR ?_
  intro z7 h8 p1
  replace vc := vc z7 h8 p1
  obtain ⟨t11, g12, hM, vc⟩ := vc
  refine go_isub 155 dX4_led_154 rfl ?_
  refine go_istore 157 [vR (some o), vI x1, vI x2, vI x3, vI x4, vI x5, vI x6, vI x7, vI x8, vI x9, vI x10, vI x11, vI (hAI h (o + 26) (nt (((nI 6) * x10) + x11))), vI (x5 - z7)] dX4_led_155 rfl rfl rfl ?_
  refine go_aload_n 158 0 dX4_led_157 rfl rfl rfl ?_
  refine go_iload 160 dX4_led_158 rfl rfl ?_
  refine go_iload 162 dX4_led_160 rfl rfl ?_
  refine go_iload 164 dX4_led_162 rfl rfl ?_
  obtain ⟨P15, hR, vc⟩ := vc
  refine go_callVV (M' := mX4_setCount) (as := [vI x10, vI x11, vI (hAI h (o + 26) (nt (((nI 6) * x10) + x11)))]) 167 dX4_led_164 rfl q1902 okX4_setCount (MO_k hM.1) ck_4 rfl rfl rfl rfl rfl hR ?_
  intro h14 p1
  replace vc := vc h14 p1
  obtain ⟨t17, g18, hM, vc⟩ := vc
  refine go_iload 169 dX4_led_167 rfl rfl ?_
  refine go_if_lt 172 182 dX4_led_169 rfl (by decide) (fun e19 => ?_) (fun e19 => ?_)
  · replace vc := vc.1 e19
    refine go_iload 184 dX4_led_182 rfl rfl ?_
    refine go_istore 186 [vR (some o), vI x1, vI x2, vI x3, vI x4, vI x5, vI x8, vI x7, vI x8, vI x9, vI x10, vI x11, vI (hAI h (o + 26) (nt (((nI 6) * x10) + x11))), vI (x5 - z7)] dX4_led_184 rfl rfl rfl ?_
    refine go_iload 188 dX4_led_186 rfl rfl ?_
    refine go_istore 190 [vR (some o), vI x1, vI x2, vI x3, vI x4, vI x5, vI x8, vI (x5 - z7), vI x8, vI x9, vI x10, vI x11, vI (hAI h (o + 26) (nt (((nI 6) * x10) + x11))), vI (x5 - z7)] dX4_led_188 rfl rfl rfl ?_
    refine go_iinc 193 (x8 + nI 1) [vR (some o), vI x1, vI x2, vI x3, vI x4, vI x5, vI x8, vI (x5 - z7), vI (x8 + nI 1), vI x9, vI x10, vI x11, vI (hAI h (o + 26) (nt (((nI 6) * x10) + x11))), vI (x5 - z7)] dX4_led_190 rfl rfl (by rfl) rfl rfl ?_
    refine go_goto 68 dX4_led_193 (by decide) ?_
    exact vc
  · replace vc := vc.2 e19
    refine go_iload 174 dX4_led_172 rfl rfl ?_
    refine go_iload 176 dX4_led_174 rfl rfl ?_
    refine go_icmp_gt 179 182 dX4_led_176 rfl (by decide) (fun e20 => ?_) (fun e20 => ?_)
    · replace vc := vc.1 e20
      refine go_iload 184 dX4_led_182 rfl rfl ?_
      refine go_istore 186 [vR (some o), vI x1, vI x2, vI x3, vI x4, vI x5, vI x8, vI x7, vI x8, vI x9, vI x10, vI x11, vI (hAI h (o + 26) (nt (((nI 6) * x10) + x11))), vI (x5 - z7)] dX4_led_184 rfl rfl rfl ?_
      refine go_iload 188 dX4_led_186 rfl rfl ?_
      refine go_istore 190 [vR (some o), vI x1, vI x2, vI x3, vI x4, vI x5, vI x8, vI (x5 - z7), vI x8, vI x9, vI x10, vI x11, vI (hAI h (o + 26) (nt (((nI 6) * x10) + x11))), vI (x5 - z7)] dX4_led_188 rfl rfl rfl ?_
      refine go_iinc 193 (x8 + nI 1) [vR (some o), vI x1, vI x2, vI x3, vI x4, vI x5, vI x8, vI (x5 - z7), vI (x8 + nI 1), vI x9, vI x10, vI x11, vI (hAI h (o + 26) (nt (((nI 6) * x10) + x11))), vI (x5 - z7)] dX4_led_190 rfl rfl (by rfl) rfl rfl ?_
      refine go_goto 68 dX4_led_193 (by decide) ?_
      exact vc
    · replace vc := vc.2 e20
      refine go_goto 190 dX4_led_179 (by decide) ?_
      refine go_iinc 193 (x8 + nI 1) [vR (some o), vI x1, vI x2, vI x3, vI x4, vI x5, vI x6, vI x7, vI (x8 + nI 1), vI x9, vI x10, vI x11, vI (hAI h (o + 26) (nt (((nI 6) * x10) + x11))), vI (x5 - z7)] dX4_led_190 rfl rfl (by rfl) rfl rfl ?_
      refine go_goto 68 dX4_led_193 (by decide) ?_
      exact vc

theorem bX4_changesOf_0 {h : Hp} {b : Nat × Nat} {Q : Rs → Hp → Prop} {o : Nat} {x1 : Int32} {x2 : Int32} {t : St} {g : Nat} (hM : MS h o t g) (vc : (∃ (P3 : Hp → Prop), Ret mX4_take 2 [vR (some o), vI x1] h 0 0 (RV P3) ∧ ∀ h2, P3 h2 → (∃ t5 g6, MS h2 o t5 g6 ∧ (∃ (P9 : Int32 → Hp → Prop), Ret mX4_changes 14 [vR (some o), vI (x2 / (nI 10)), vI (x2 - x2 / (nI 10) * (nI 10))] h2 0 0 (RI P9) ∧ ∀ z7 h8, P9 z7 h8 → (∃ t11 g12, MS h8 o t11 g12 ∧ Q (rI z7) h8))))) : AWP mX4_changesOf 15 0 [vR (some o), vI x1, vI x2] [] h b Q := by
  refine go_aload_n 1 0 dX4_changesOf_0 rfl rfl rfl ?_
  refine go_iload_n 2 1 dX4_changesOf_1 rfl rfl rfl ?_
  obtain ⟨P3, hR, vc⟩ := vc
  refine go_callVV (M' := mX4_take) (as := [vI x1]) 5 dX4_changesOf_2 rfl q1835 okX4_take (MO_k hM.1) ck_4 rfl rfl rfl rfl rfl hR ?_
  intro h2 p1
  replace vc := vc h2 p1
  obtain ⟨t5, g6, hM, vc⟩ := vc
  refine go_aload_n 6 0 dX4_changesOf_5 rfl rfl rfl ?_
  refine go_iload_n 7 2 dX4_changesOf_6 rfl rfl rfl ?_
  refine go_bipush (v := nI 10) 9 dX4_changesOf_7 rfl (by decide) ?_
  refine go_idiv 10 dX4_changesOf_9 rfl (by decide) ?_
  refine go_iload_n 11 2 dX4_changesOf_10 rfl rfl rfl ?_
  refine go_bipush (v := nI 10) 13 dX4_changesOf_11 rfl (by decide) ?_
  refine go_irem 14 dX4_changesOf_13 rfl (by decide) ?_
  obtain ⟨P9, hR, vc⟩ := vc
  refine go_callVI (M' := mX4_changes) (as := [vI (x2 / (nI 10)), vI (x2 - x2 / (nI 10) * (nI 10))]) 17 dX4_changesOf_14 rfl q1842 okX4_changes (MO_k hM.1) ck_4 rfl rfl rfl rfl rfl hR ?_
  intro z7 h8 p1
  replace vc := vc z7 h8 p1
  obtain ⟨t11, g12, hM, vc⟩ := vc
  exact go_ireturn dX4_changesOf_17 rfl vc

theorem bX4_law_0 {h : Hp} {b : Nat × Nat} {Q : Rs → Hp → Prop} {o : Nat} {x1 : Int32} {x2 : Int32} {t : St} {g : Nat} (hM : MS h o t g) (vc : ((¬ (isSh t x1) → Q (rI (-1)) h) ∧ ((isSh t x1) → (((isMk x2) → (vp_in x1 12 ∧ (nt x1) < ns t ∧ ((0 ≤ (jo t (nt x1)) → (vp_in x1 12 ∧ (nt x1) < ns t ∧ (∃ (P6 : Int32 → Hp → Prop), Ret mX4_changesOf 15 [vR (some o), vI (jo t (nt x1)), vI x2] h 0 0 (RI P6) ∧ ∀ z4 h5, P6 z4 h5 → (∃ t8 g9, MS h5 o t8 g9 ∧ (vp_in x1 12 ∧ (∃ (P12 : Int32 → Hp → Prop), Ret mX4_changesOf 15 [vR (some o), vI (hAI h5 (o + 10) (nt x1)), vI x2] h5 0 0 (RI P12) ∧ ∀ z10 h11, P12 z10 h11 → (∃ t14 g15, MS h11 o t14 g15 ∧ (∃ (P18 : Int32 → Hp → Prop), Ret mX4_changesOf 15 [vR (some o), vI x1, vI x2] h11 0 0 (RI P18) ∧ ∀ z16 h17, P18 z16 h17 → (∃ t20 g21, MS h17 o t20 g21 ∧ ((((z4 + z10) - z16) = 0 → Q (rI (nI 1)) h17) ∧ (¬ ((z4 + z10) - z16) = 0 → ((¬ ((z4 + z10) - z16) = (nI 1) → Q (rI (nI 0)) h17) ∧ (((z4 + z10) - z16) = (nI 1) → Q (rI (nI 1)) h17))))))))))))) ∧ (¬ 0 ≤ (jo t (nt x1)) → Q (rI (-2)) h)))) ∧ (¬ (isMk x2) → Q (rI (-1)) h))))) : AWP mX4_law 16 0 [vR (some o), vI x1, vI x2, vU, vU] [] h b Q := by
  refine go_aload_n 1 0 dX4_law_0 rfl rfl rfl ?_
  refine go_iload_n 2 1 dX4_law_1 rfl rfl rfl ?_
  refine go_callVI (M' := mX4_isShape) (as := [vI x1]) 5 dX4_law_2 rfl q1769 okX4_isShape (MO_k hM.1) ck_4 rfl rfl rfl rfl rfl (ctX4_isShape hM) ?_
  intro x0 h0 p0
  rw [p0.1, p0.2]
  refine go_if_eq 8 15 dX4_law_5 rfl (by decide) (fun e1 => ?_) (fun e1 => ?_)
  · replace vc := vc.1 (bI_0.mp e1)
    refine go_iconst (v := (-1)) 16 dX4_law_15 rfl (by decide) ?_
    exact go_ireturn dX4_law_16 rfl vc
  · replace vc := vc.2 (bI_n0.mp e1)
    refine go_iload_n 9 2 dX4_law_8 rfl rfl rfl ?_
    refine go_callSI (M' := mX4_isMark) (as := [vI x2]) 12 dX4_law_9 rfl q1832 okX4_isMark rfl rfl rfl rfl rfl (ctX4_isMark) ?_
    intro x0 h0 p0
    rw [p0.1, p0.2]
    refine go_if_ne 15 17 dX4_law_12 rfl (by decide) (fun e2 => ?_) (fun e2 => ?_)
    · replace vc := vc.1 (bI_n0.mp e2)
      refine go_aload_n 18 0 dX4_law_17 rfl rfl rfl ?_
      refine go_getRe 21 dX4_law_18 rfl (MO_k hM.1) gfX4_35_5 rfl (MO_f1410 hM.1) ?_
      refine go_iload_n 22 1 dX4_law_21 rfl rfl rfl ?_
      refine go_iaload 23 dX4_law_22 rfl (MO_k9 hM.1) vc.1 ?_
      replace vc := vc.2
      rw [hM.a9 vc.1]
      replace vc := vc.2
      refine go_if_ge 26 29 dX4_law_23 rfl (by decide) (fun e3 => ?_) (fun e3 => ?_)
      · replace vc := vc.1 e3
        refine go_aload_n 30 0 dX4_law_29 rfl rfl rfl ?_
        refine go_aload_n 31 0 dX4_law_30 rfl rfl rfl ?_
        refine go_getRe 34 dX4_law_31 rfl (MO_k hM.1) gfX4_35_5 rfl (MO_f1410 hM.1) ?_
        refine go_iload_n 35 1 dX4_law_34 rfl rfl rfl ?_
        refine go_iaload 36 dX4_law_35 rfl (MO_k9 hM.1) vc.1 ?_
        replace vc := vc.2
        rw [hM.a9 vc.1]
        replace vc := vc.2
        refine go_iload_n 37 2 dX4_law_36 rfl rfl rfl ?_
        obtain ⟨P6, hR, vc⟩ := vc
        refine go_callVI (M' := mX4_changesOf) (as := [vI (jo t (nt x1)), vI x2]) 40 dX4_law_37 rfl q2134 okX4_changesOf (MO_k hM.1) ck_4 rfl rfl rfl rfl rfl hR ?_
        intro z4 h5 p1
        replace vc := vc z4 h5 p1
        obtain ⟨t8, g9, hM, vc⟩ := vc
        refine go_aload_n 41 0 dX4_law_40 rfl rfl rfl ?_
        refine go_aload_n 42 0 dX4_law_41 rfl rfl rfl ?_
        refine go_getRe 45 dX4_law_42 rfl (MO_k hM.1) gfX4_38_5 rfl (MO_f1411 hM.1) ?_
        refine go_iload_n 46 1 dX4_law_45 rfl rfl rfl ?_
        refine go_iaload 47 dX4_law_46 rfl (MO_k10 hM.1) vc.1 ?_
        replace vc := vc.2
        refine go_iload_n 48 2 dX4_law_47 rfl rfl rfl ?_
        obtain ⟨P12, hR, vc⟩ := vc
        refine go_callVI (M' := mX4_changesOf) (as := [vI (hAI h5 (o + 10) (nt x1)), vI x2]) 51 dX4_law_48 rfl q2134 okX4_changesOf (MO_k hM.1) ck_4 rfl rfl rfl rfl rfl hR ?_
        intro z10 h11 p1
        replace vc := vc z10 h11 p1
        obtain ⟨t14, g15, hM, vc⟩ := vc
        refine go_iadd 52 dX4_law_51 rfl ?_
        refine go_istore_n 53 3 [vR (some o), vI x1, vI x2, vI (z4 + z10), vU] dX4_law_52 rfl rfl rfl rfl ?_
        refine go_iload_n 54 3 dX4_law_53 rfl rfl rfl ?_
        refine go_aload_n 55 0 dX4_law_54 rfl rfl rfl ?_
        refine go_iload_n 56 1 dX4_law_55 rfl rfl rfl ?_
        refine go_iload_n 57 2 dX4_law_56 rfl rfl rfl ?_
        obtain ⟨P18, hR, vc⟩ := vc
        refine go_callVI (M' := mX4_changesOf) (as := [vI x1, vI x2]) 60 dX4_law_57 rfl q2134 okX4_changesOf (MO_k hM.1) ck_4 rfl rfl rfl rfl rfl hR ?_
        intro z16 h17 p1
        replace vc := vc z16 h17 p1
        obtain ⟨t20, g21, hM, vc⟩ := vc
        refine go_isub 61 dX4_law_60 rfl ?_
        refine go_istore 63 [vR (some o), vI x1, vI x2, vI (z4 + z10), vI ((z4 + z10) - z16)] dX4_law_61 rfl rfl rfl ?_
        refine go_iload 65 dX4_law_63 rfl rfl ?_
        refine go_if_eq 68 74 dX4_law_65 rfl (by decide) (fun e22 => ?_) (fun e22 => ?_)
        · replace vc := vc.1 e22
          refine go_iconst (v := nI 1) 75 dX4_law_74 rfl (by decide) ?_
          refine go_goto 79 dX4_law_75 (by decide) ?_
          exact go_ireturn dX4_law_79 rfl vc
        · replace vc := vc.2 e22
          refine go_iload 70 dX4_law_68 rfl rfl ?_
          refine go_iconst (v := nI 1) 71 dX4_law_70 rfl (by decide) ?_
          refine go_icmp_ne 74 78 dX4_law_71 rfl (by decide) (fun e23 => ?_) (fun e23 => ?_)
          · replace vc := vc.1 e23
            refine go_iconst (v := nI 0) 79 dX4_law_78 rfl (by decide) ?_
            exact go_ireturn dX4_law_79 rfl vc
          · replace vc := vc.2 e23
            refine go_iconst (v := nI 1) 75 dX4_law_74 rfl (by decide) ?_
            refine go_goto 79 dX4_law_75 (by decide) ?_
            exact go_ireturn dX4_law_79 rfl vc
      · replace vc := vc.2 e3
        refine go_bipush (v := (-2)) 28 dX4_law_26 rfl (by decide) ?_
        exact go_ireturn dX4_law_28 rfl vc
    · replace vc := vc.2 (bI_0.mp e2)
      refine go_iconst (v := (-1)) 16 dX4_law_15 rfl (by decide) ?_
      exact go_ireturn dX4_law_16 rfl vc

theorem bX4_divisor_0 {h : Hp} {b : Nat × Nat} {Q : Rs → Hp → Prop} {o : Nat} {x1 : Int32} {t : St} {g : Nat} (hM : MS h o t g) (vc : AWP mX4_divisor 1 8 [vR (some o), vI x1, vJ 1, vU, vI ((nI 6) * x1)] [] h b Q) : AWP mX4_divisor 1 0 [vR (some o), vI x1, vU, vU, vU] [] h b Q := by
  refine go_lconst (v := 1) 1 dX4_divisor_0 rfl (by decide) ?_
  refine go_lstore_n 2 2 [vR (some o), vI x1, vJ 1, vU, vU] dX4_divisor_1 rfl rfl rfl rfl ?_
  refine go_bipush (v := nI 6) 4 dX4_divisor_2 rfl (by decide) ?_
  refine go_iload_n 5 1 dX4_divisor_4 rfl rfl rfl ?_
  refine go_imul 6 dX4_divisor_5 rfl ?_
  refine go_istore 8 [vR (some o), vI x1, vJ 1, vU, vI ((nI 6) * x1)] dX4_divisor_6 rfl rfl rfl ?_
  exact vc

theorem bX4_divisor_8 {h : Hp} {b : Nat × Nat} {Q : Rs → Hp → Prop} {o : Nat} {x1 : Int32} {x2 : Int64} {x4 : Int32} {t : St} {g : Nat} (hM : MS h o t g) (vc : (vp_in x1 13 ∧ (nt x1) < ns t ∧ (((((nI 6) * x1) + (nI (nc t (nt x1)))) ≤ x4 → Q (rJ x2) h) ∧ (¬ (((nI 6) * x1) + (nI (nc t (nt x1)))) ≤ x4 → (vp_in x4 78 ∧ (nt x4) < 6 * ns t ∧ ((¬ (hl t (nt x4)) = 0 → AWP mX4_divisor 1 8 [vR (some o), vI x1, vJ x2, vU, vI (x4 + nI 1)] [] h b Q) ∧ ((hl t (nt x4)) = 0 → (vp_in x4 78 ∧ (nt x4) < 6 * ns t ∧ (vp_in x4 78 ∧ (nt x4) < 6 * ns t ∧ AWP mX4_divisor 1 8 [vR (some o), vI x1, vJ (x2 * ((massO (hv t (nt x4)) (wg t (nt x4))).toInt64)), vU, vI (x4 + nI 1)] [] h b Q))))))))) : AWP mX4_divisor 1 8 [vR (some o), vI x1, vJ x2, vU, vI x4] [] h b Q := by
  refine go_iload 10 dX4_divisor_8 rfl rfl ?_
  refine go_bipush (v := nI 6) 12 dX4_divisor_10 rfl (by decide) ?_
  refine go_iload_n 13 1 dX4_divisor_12 rfl rfl rfl ?_
  refine go_imul 14 dX4_divisor_13 rfl ?_
  refine go_aload_n 15 0 dX4_divisor_14 rfl rfl rfl ?_
  refine go_getRe 18 dX4_divisor_15 rfl (MO_k hM.1) gfX4_7_5 rfl (MO_f1402 hM.1) ?_
  refine go_iload_n 19 1 dX4_divisor_18 rfl rfl rfl ?_
  refine go_iaload 20 dX4_divisor_19 rfl (MO_k1 hM.1) vc.1 ?_
  replace vc := vc.2
  rw [hM.a1 vc.1]
  replace vc := vc.2
  refine go_iadd 21 dX4_divisor_20 rfl ?_
  refine go_icmp_ge 24 61 dX4_divisor_21 rfl (by decide) (fun e1 => ?_) (fun e1 => ?_)
  · replace vc := vc.1 e1
    refine go_lload_n 62 2 dX4_divisor_61 rfl rfl rfl ?_
    exact go_lreturn dX4_divisor_62 rfl vc
  · replace vc := vc.2 e1
    refine go_aload_n 25 0 dX4_divisor_24 rfl rfl rfl ?_
    refine go_getRe 28 dX4_divisor_25 rfl (MO_k hM.1) gfX4_22_5 rfl (MO_f1406 hM.1) ?_
    refine go_iload 30 dX4_divisor_28 rfl rfl ?_
    refine go_baloadZ 31 dX4_divisor_30 rfl (MO_k5 hM.1) vc.1 ?_
    replace vc := vc.2
    rw [hM.a5 vc.1]
    replace vc := vc.2
    refine go_if_ne 34 55 dX4_divisor_31 rfl (by decide) (fun e2 => ?_) (fun e2 => ?_)
    · replace vc := vc.1 e2
      refine go_iinc 58 (x4 + nI 1) [vR (some o), vI x1, vJ x2, vU, vI (x4 + nI 1)] dX4_divisor_55 rfl rfl (by rfl) rfl rfl ?_
      refine go_goto 8 dX4_divisor_58 (by decide) ?_
      exact vc
    · replace vc := vc.2 e2
      refine go_lload_n 35 2 dX4_divisor_34 rfl rfl rfl ?_
      refine go_aload_n 36 0 dX4_divisor_35 rfl rfl rfl ?_
      refine go_getRe 39 dX4_divisor_36 rfl (MO_k hM.1) gfX4_13_5 rfl (MO_f1403 hM.1) ?_
      refine go_iload 41 dX4_divisor_39 rfl rfl ?_
      refine go_iaload 42 dX4_divisor_41 rfl (MO_k2 hM.1) vc.1 ?_
      replace vc := vc.2
      rw [hM.a2 vc.1]
      replace vc := vc.2
      refine go_aload_n 43 0 dX4_divisor_42 rfl rfl rfl ?_
      refine go_getRe 46 dX4_divisor_43 rfl (MO_k hM.1) gfX4_19_5 rfl (MO_f1405 hM.1) ?_
      refine go_iload 48 dX4_divisor_46 rfl rfl ?_
      refine go_iaload 49 dX4_divisor_48 rfl (MO_k4 hM.1) vc.1 ?_
      replace vc := vc.2
      rw [hM.a4 vc.1]
      replace vc := vc.2
      refine go_callSI (M' := mX4_massOf) (as := [vI (hv t (nt x4)), vI (wg t (nt x4))]) 52 dX4_divisor_49 rfl q1839 okX4_massOf rfl rfl rfl rfl rfl (ctX4_massOf) ?_
      intro x0 h0 p0
      rw [p0.1, p0.2]
      refine go_i2l 53 dX4_divisor_52 rfl ?_
      refine go_lmul 54 dX4_divisor_53 rfl ?_
      refine go_lstore_n 55 2 [vR (some o), vI x1, vJ (x2 * ((massO (hv t (nt x4)) (wg t (nt x4))).toInt64)), vU, vI x4] dX4_divisor_54 rfl rfl rfl rfl ?_
      refine go_iinc 58 (x4 + nI 1) [vR (some o), vI x1, vJ (x2 * ((massO (hv t (nt x4)) (wg t (nt x4))).toInt64)), vU, vI (x4 + nI 1)] dX4_divisor_55 rfl rfl (by rfl) rfl rfl ?_
      refine go_goto 8 dX4_divisor_58 (by decide) ?_
      exact vc

theorem bX4_lastSum_0 {h : Hp} {b : Nat × Nat} {Q : Rs → Hp → Prop} {o : Nat} {x1 : Int32} {x2 : Int32} {t : St} {g : Nat} (hM : MS h o t g) (vc : (∃ (P3 : Hp → Prop), Ret mX4_take 2 [vR (some o), vI x1] h 0 0 (RV P3) ∧ ∀ h2, P3 h2 → (∃ t5 g6, MS h2 o t5 g6 ∧ (∃ (P9 : Hp → Prop), Ret mX4_findSums 13 [vR (some o), vI x2, vI (nI 1)] h2 0 0 (RV P9) ∧ ∀ h8, P9 h8 → (∃ t11 g12, MS h8 o t11 g12 ∧ (vp_in (hFI h8 437 o) 7 ∧ Q (rJ (hAL h8 (o + 28) (nt (hFI h8 437 o)))) h8)))))) : AWP mX4_lastSum 14 0 [vR (some o), vI x1, vI x2] [] h b Q := by
  refine go_aload_n 1 0 dX4_lastSum_0 rfl rfl rfl ?_
  refine go_iload_n 2 1 dX4_lastSum_1 rfl rfl rfl ?_
  obtain ⟨P3, hR, vc⟩ := vc
  refine go_callVV (M' := mX4_take) (as := [vI x1]) 5 dX4_lastSum_2 rfl q1835 okX4_take (MO_k hM.1) ck_4 rfl rfl rfl rfl rfl hR ?_
  intro h2 p1
  replace vc := vc h2 p1
  obtain ⟨t5, g6, hM, vc⟩ := vc
  refine go_aload_n 6 0 dX4_lastSum_5 rfl rfl rfl ?_
  refine go_iload_n 7 2 dX4_lastSum_6 rfl rfl rfl ?_
  refine go_iconst (v := nI 1) 8 dX4_lastSum_7 rfl (by decide) ?_
  obtain ⟨P9, hR, vc⟩ := vc
  refine go_callVV (M' := mX4_findSums) (as := [vI x2, vI (nI 1)]) 11 dX4_lastSum_8 rfl q1846 okX4_findSums (MO_k hM.1) ck_4 rfl rfl rfl rfl rfl hR ?_
  intro h8 p1
  replace vc := vc h8 p1
  obtain ⟨t11, g12, hM, vc⟩ := vc
  refine go_aload_n 12 0 dX4_lastSum_11 rfl rfl rfl ?_
  refine go_getRe 15 dX4_lastSum_12 rfl (MO_k hM.1) gfX4_94_5 rfl (MO_f1438 hM.1) ?_
  refine go_aload_n 16 0 dX4_lastSum_15 rfl rfl rfl ?_
  refine go_getI 19 dX4_lastSum_16 rfl (MO_k hM.1) gfX4_316_5 rfl ?_
  refine go_laload 20 dX4_lastSum_19 rfl (MO_k28 hM.1) vc.1 ?_
  replace vc := vc.2
  exact go_lreturn dX4_lastSum_20 rfl vc

theorem bX4_soundAlike_0 {h : Hp} {b : Nat × Nat} {Q : Rs → Hp → Prop} {o : Nat} {x1 : Int32} {x2 : Int32} {t : St} {g : Nat} (hM : MS h o t g) (vc : (isSh t x1 ∧ (isSh t x2 ∧ (((nI (tones t (nt x1))) = (nI (tones t (nt x2))) → AWP mX4_soundAlike 15 17 [vR (some o), vI x1, vI x2, vI (nI 0)] [] h b Q) ∧ (¬ (nI (tones t (nt x1))) = (nI (tones t (nt x2))) → Q (rI (nI 0)) h))))) : AWP mX4_soundAlike 15 0 [vR (some o), vI x1, vI x2, vU] [] h b Q := by
  refine go_aload_n 1 0 dX4_soundAlike_0 rfl rfl rfl ?_
  refine go_iload_n 2 1 dX4_soundAlike_1 rfl rfl rfl ?_
  refine go_callVI (M' := mX4_tonesOf) (as := [vI x1]) 5 dX4_soundAlike_2 rfl q1778 okX4_tonesOf (MO_k hM.1) ck_4 rfl rfl rfl rfl rfl (ctX4_tonesOf hM vc.1) ?_
  replace vc := vc.2
  intro x0 h0 p0
  rw [p0.1, p0.2]
  refine go_aload_n 6 0 dX4_soundAlike_5 rfl rfl rfl ?_
  refine go_iload_n 7 2 dX4_soundAlike_6 rfl rfl rfl ?_
  refine go_callVI (M' := mX4_tonesOf) (as := [vI x2]) 10 dX4_soundAlike_7 rfl q1778 okX4_tonesOf (MO_k hM.1) ck_4 rfl rfl rfl rfl rfl (ctX4_tonesOf hM vc.1) ?_
  replace vc := vc.2
  intro x0 h0 p0
  rw [p0.1, p0.2]
  refine go_icmp_eq 13 15 dX4_soundAlike_10 rfl (by decide) (fun e1 => ?_) (fun e1 => ?_)
  · replace vc := vc.1 e1
    refine go_iconst (v := nI 0) 16 dX4_soundAlike_15 rfl (by decide) ?_
    refine go_istore_n 17 3 [vR (some o), vI x1, vI x2, vI (nI 0)] dX4_soundAlike_16 rfl rfl rfl rfl ?_
    exact vc
  · replace vc := vc.2 e1
    refine go_iconst (v := nI 0) 14 dX4_soundAlike_13 rfl (by decide) ?_
    exact go_zreturn dX4_soundAlike_14 rfl (by decide) vc

theorem bX4_soundAlike_17 {h : Hp} {b : Nat × Nat} {Q : Rs → Hp → Prop} {o : Nat} {x1 : Int32} {x2 : Int32} {x3 : Int32} {t : St} {g : Nat} (hM : MS h o t g) (vc : (((nI 7) ≤ x3 → Q (rI (nI 1)) h) ∧ (¬ (nI 7) ≤ x3 → (∃ (P4 : Int64 → Hp → Prop), Ret mX4_lastSum 14 [vR (some o), vI x1, vI x3] h 0 0 (RJ P4) ∧ ∀ z2 h3, P4 z2 h3 → (∃ t6 g7, MS h3 o t6 g7 ∧ (∃ (P10 : Int64 → Hp → Prop), Ret mX4_divisor 1 [vR (some o), vI x2] h3 0 0 (RJ P10) ∧ ∀ z8 h9, P10 z8 h9 → (∃ t12 g13, MS h9 o t12 g13 ∧ (∃ (P16 : Int64 → Hp → Prop), Ret mX4_lastSum 14 [vR (some o), vI x2, vI x3] h9 0 0 (RJ P16) ∧ ∀ z14 h15, P16 z14 h15 → (∃ t18 g19, MS h15 o t18 g19 ∧ (∃ (P22 : Int64 → Hp → Prop), Ret mX4_divisor 1 [vR (some o), vI x1] h15 0 0 (RJ P22) ∧ ∀ z20 h21, P22 z20 h21 → (∃ t24 g25, MS h21 o t24 g25 ∧ (((lg_cmp (z2 * z8) (z14 * z20)) = 0 → AWP mX4_soundAlike 15 17 [vR (some o), vI x1, vI x2, vI (x3 + nI 1)] [] h21 b Q) ∧ (¬ (lg_cmp (z2 * z8) (z14 * z20)) = 0 → Q (rI (nI 0)) h21))))))))))))) : AWP mX4_soundAlike 15 17 [vR (some o), vI x1, vI x2, vI x3] [] h b Q := by
  refine go_iload_n 18 3 dX4_soundAlike_17 rfl rfl rfl ?_
  refine go_bipush (v := nI 7) 20 dX4_soundAlike_18 rfl (by decide) ?_
  refine go_icmp_ge 23 59 dX4_soundAlike_20 rfl (by decide) (fun e1 => ?_) (fun e1 => ?_)
  · replace vc := vc.1 e1
    refine go_iconst (v := nI 1) 60 dX4_soundAlike_59 rfl (by decide) ?_
    exact go_zreturn dX4_soundAlike_60 rfl (by decide) vc
  · replace vc := vc.2 e1
    refine go_aload_n 24 0 dX4_soundAlike_23 rfl rfl rfl ?_
    refine go_iload_n 25 1 dX4_soundAlike_24 rfl rfl rfl ?_
    refine go_iload_n 26 3 dX4_soundAlike_25 rfl rfl rfl ?_
    obtain ⟨P4, hR, vc⟩ := vc
    refine go_callVJ (M' := mX4_lastSum) (as := [vI x1, vI x3]) 29 dX4_soundAlike_26 rfl q1946 okX4_lastSum (MO_k hM.1) ck_4 rfl rfl rfl rfl rfl hR ?_
    intro z2 h3 p1
    replace vc := vc z2 h3 p1
    obtain ⟨t6, g7, hM, vc⟩ := vc
    refine go_aload_n 30 0 dX4_soundAlike_29 rfl rfl rfl ?_
    refine go_iload_n 31 2 dX4_soundAlike_30 rfl rfl rfl ?_
    obtain ⟨P10, hR, vc⟩ := vc
    refine go_callVJ (M' := mX4_divisor) (as := [vI x2]) 34 dX4_soundAlike_31 rfl q1950 okX4_divisor (MO_k hM.1) ck_4 rfl rfl rfl rfl rfl hR ?_
    intro z8 h9 p1
    replace vc := vc z8 h9 p1
    obtain ⟨t12, g13, hM, vc⟩ := vc
    refine go_lmul 35 dX4_soundAlike_34 rfl ?_
    refine go_aload_n 36 0 dX4_soundAlike_35 rfl rfl rfl ?_
    refine go_iload_n 37 2 dX4_soundAlike_36 rfl rfl rfl ?_
    refine go_iload_n 38 3 dX4_soundAlike_37 rfl rfl rfl ?_
    obtain ⟨P16, hR, vc⟩ := vc
    refine go_callVJ (M' := mX4_lastSum) (as := [vI x2, vI x3]) 41 dX4_soundAlike_38 rfl q1946 okX4_lastSum (MO_k hM.1) ck_4 rfl rfl rfl rfl rfl hR ?_
    intro z14 h15 p1
    replace vc := vc z14 h15 p1
    obtain ⟨t18, g19, hM, vc⟩ := vc
    refine go_aload_n 42 0 dX4_soundAlike_41 rfl rfl rfl ?_
    refine go_iload_n 43 1 dX4_soundAlike_42 rfl rfl rfl ?_
    obtain ⟨P22, hR, vc⟩ := vc
    refine go_callVJ (M' := mX4_divisor) (as := [vI x1]) 46 dX4_soundAlike_43 rfl q1950 okX4_divisor (MO_k hM.1) ck_4 rfl rfl rfl rfl rfl hR ?_
    intro z20 h21 p1
    replace vc := vc z20 h21 p1
    obtain ⟨t24, g25, hM, vc⟩ := vc
    refine go_lmul 47 dX4_soundAlike_46 rfl ?_
    refine go_lcmp 48 dX4_soundAlike_47 rfl ?_
    refine go_if_eq 51 53 dX4_soundAlike_48 rfl (by decide) (fun e26 => ?_) (fun e26 => ?_)
    · replace vc := vc.1 e26
      refine go_iinc 56 (x3 + nI 1) [vR (some o), vI x1, vI x2, vI (x3 + nI 1)] dX4_soundAlike_53 rfl rfl (by rfl) rfl rfl ?_
      refine go_goto 17 dX4_soundAlike_56 (by decide) ?_
      exact vc
    · replace vc := vc.2 e26
      refine go_iconst (v := nI 0) 52 dX4_soundAlike_51 rfl (by decide) ?_
      exact go_zreturn dX4_soundAlike_52 rfl (by decide) vc

theorem bX4_areLike_0 {h : Hp} {b : Nat × Nat} {Q : Rs → Hp → Prop} {o : Nat} {x1 : Int32} {x2 : Int32} {x3 : Int32} {x4 : Int32} {t : St} {g : Nat} (hM : MS h o t g) (vc : (vp_in (((nI 6) * x1) + x2) 78 ∧ (nt (((nI 6) * x1) + x2)) < 6 * ns t ∧ (vp_in (((nI 6) * x3) + x4) 78 ∧ (nt (((nI 6) * x3) + x4)) < 6 * ns t ∧ ((¬ (hv t (nt (((nI 6) * x1) + x2))) = (hv t (nt (((nI 6) * x3) + x4))) → Q (rI (nI 0)) h) ∧ ((hv t (nt (((nI 6) * x1) + x2))) = (hv t (nt (((nI 6) * x3) + x4))) → (vp_in (((nI 6) * x1) + x2) 78 ∧ (nt (((nI 6) * x1) + x2)) < 6 * ns t ∧ (vp_in (((nI 6) * x3) + x4) 78 ∧ (nt (((nI 6) * x3) + x4)) < 6 * ns t ∧ ((¬ (pd t (nt (((nI 6) * x1) + x2))) = (pd t (nt (((nI 6) * x3) + x4))) → Q (rI (nI 0)) h) ∧ ((pd t (nt (((nI 6) * x1) + x2))) = (pd t (nt (((nI 6) * x3) + x4))) → (vp_in (((nI 6) * x1) + x2) 78 ∧ (nt (((nI 6) * x1) + x2)) < 6 * ns t ∧ (vp_in (((nI 6) * x3) + x4) 78 ∧ (nt (((nI 6) * x3) + x4)) < 6 * ns t ∧ ((¬ (wg t (nt (((nI 6) * x1) + x2))) = (wg t (nt (((nI 6) * x3) + x4))) → Q (rI (nI 0)) h) ∧ ((wg t (nt (((nI 6) * x1) + x2))) = (wg t (nt (((nI 6) * x3) + x4))) → (vp_in (((nI 6) * x1) + x2) 78 ∧ (nt (((nI 6) * x1) + x2)) < 6 * ns t ∧ (vp_in (((nI 6) * x3) + x4) 78 ∧ (nt (((nI 6) * x3) + x4)) < 6 * ns t ∧ ((¬ (hl t (nt (((nI 6) * x1) + x2))) = (hl t (nt (((nI 6) * x3) + x4))) → Q (rI (nI 0)) h) ∧ ((hl t (nt (((nI 6) * x1) + x2))) = (hl t (nt (((nI 6) * x3) + x4))) → Q (rI (nI 1)) h))))))))))))))))) : AWP mX4_areLike 0 0 [vR (some o), vI x1, vI x2, vI x3, vI x4, vU, vU] [] h b Q := by
  refine go_bipush (v := nI 6) 2 dX4_areLike_0 rfl (by decide) ?_
  refine go_iload_n 3 1 dX4_areLike_2 rfl rfl rfl ?_
  refine go_imul 4 dX4_areLike_3 rfl ?_
  refine go_iload_n 5 2 dX4_areLike_4 rfl rfl rfl ?_
  refine go_iadd 6 dX4_areLike_5 rfl ?_
  refine go_istore 8 [vR (some o), vI x1, vI x2, vI x3, vI x4, vI (((nI 6) * x1) + x2), vU] dX4_areLike_6 rfl rfl rfl ?_
  refine go_bipush (v := nI 6) 10 dX4_areLike_8 rfl (by decide) ?_
  refine go_iload_n 11 3 dX4_areLike_10 rfl rfl rfl ?_
  refine go_imul 12 dX4_areLike_11 rfl ?_
  refine go_iload 14 dX4_areLike_12 rfl rfl ?_
  refine go_iadd 15 dX4_areLike_14 rfl ?_
  refine go_istore 17 [vR (some o), vI x1, vI x2, vI x3, vI x4, vI (((nI 6) * x1) + x2), vI (((nI 6) * x3) + x4)] dX4_areLike_15 rfl rfl rfl ?_
  refine go_aload_n 18 0 dX4_areLike_17 rfl rfl rfl ?_
  refine go_getRe 21 dX4_areLike_18 rfl (MO_k hM.1) gfX4_13_5 rfl (MO_f1403 hM.1) ?_
  refine go_iload 23 dX4_areLike_21 rfl rfl ?_
  refine go_iaload 24 dX4_areLike_23 rfl (MO_k2 hM.1) vc.1 ?_
  replace vc := vc.2
  rw [hM.a2 vc.1]
  replace vc := vc.2
  refine go_aload_n 25 0 dX4_areLike_24 rfl rfl rfl ?_
  refine go_getRe 28 dX4_areLike_25 rfl (MO_k hM.1) gfX4_13_5 rfl (MO_f1403 hM.1) ?_
  refine go_iload 30 dX4_areLike_28 rfl rfl ?_
  refine go_iaload 31 dX4_areLike_30 rfl (MO_k2 hM.1) vc.1 ?_
  replace vc := vc.2
  rw [hM.a2 vc.1]
  replace vc := vc.2
  refine go_icmp_ne 34 89 dX4_areLike_31 rfl (by decide) (fun e1 => ?_) (fun e1 => ?_)
  · replace vc := vc.1 e1
    refine go_iconst (v := nI 0) 90 dX4_areLike_89 rfl (by decide) ?_
    exact go_zreturn dX4_areLike_90 rfl (by decide) vc
  · replace vc := vc.2 e1
    refine go_aload_n 35 0 dX4_areLike_34 rfl rfl rfl ?_
    refine go_getRe 38 dX4_areLike_35 rfl (MO_k hM.1) gfX4_16_5 rfl (MO_f1404 hM.1) ?_
    refine go_iload 40 dX4_areLike_38 rfl rfl ?_
    refine go_iaload 41 dX4_areLike_40 rfl (MO_k3 hM.1) vc.1 ?_
    replace vc := vc.2
    rw [hM.a3 vc.1]
    replace vc := vc.2
    refine go_aload_n 42 0 dX4_areLike_41 rfl rfl rfl ?_
    refine go_getRe 45 dX4_areLike_42 rfl (MO_k hM.1) gfX4_16_5 rfl (MO_f1404 hM.1) ?_
    refine go_iload 47 dX4_areLike_45 rfl rfl ?_
    refine go_iaload 48 dX4_areLike_47 rfl (MO_k3 hM.1) vc.1 ?_
    replace vc := vc.2
    rw [hM.a3 vc.1]
    replace vc := vc.2
    refine go_icmp_ne 51 89 dX4_areLike_48 rfl (by decide) (fun e2 => ?_) (fun e2 => ?_)
    · replace vc := vc.1 e2
      refine go_iconst (v := nI 0) 90 dX4_areLike_89 rfl (by decide) ?_
      exact go_zreturn dX4_areLike_90 rfl (by decide) vc
    · replace vc := vc.2 e2
      refine go_aload_n 52 0 dX4_areLike_51 rfl rfl rfl ?_
      refine go_getRe 55 dX4_areLike_52 rfl (MO_k hM.1) gfX4_19_5 rfl (MO_f1405 hM.1) ?_
      refine go_iload 57 dX4_areLike_55 rfl rfl ?_
      refine go_iaload 58 dX4_areLike_57 rfl (MO_k4 hM.1) vc.1 ?_
      replace vc := vc.2
      rw [hM.a4 vc.1]
      replace vc := vc.2
      refine go_aload_n 59 0 dX4_areLike_58 rfl rfl rfl ?_
      refine go_getRe 62 dX4_areLike_59 rfl (MO_k hM.1) gfX4_19_5 rfl (MO_f1405 hM.1) ?_
      refine go_iload 64 dX4_areLike_62 rfl rfl ?_
      refine go_iaload 65 dX4_areLike_64 rfl (MO_k4 hM.1) vc.1 ?_
      replace vc := vc.2
      rw [hM.a4 vc.1]
      replace vc := vc.2
      refine go_icmp_ne 68 89 dX4_areLike_65 rfl (by decide) (fun e3 => ?_) (fun e3 => ?_)
      · replace vc := vc.1 e3
        refine go_iconst (v := nI 0) 90 dX4_areLike_89 rfl (by decide) ?_
        exact go_zreturn dX4_areLike_90 rfl (by decide) vc
      · replace vc := vc.2 e3
        refine go_aload_n 69 0 dX4_areLike_68 rfl rfl rfl ?_
        refine go_getRe 72 dX4_areLike_69 rfl (MO_k hM.1) gfX4_22_5 rfl (MO_f1406 hM.1) ?_
        refine go_iload 74 dX4_areLike_72 rfl rfl ?_
        refine go_baloadZ 75 dX4_areLike_74 rfl (MO_k5 hM.1) vc.1 ?_
        replace vc := vc.2
        rw [hM.a5 vc.1]
        replace vc := vc.2
        refine go_aload_n 76 0 dX4_areLike_75 rfl rfl rfl ?_
        refine go_getRe 79 dX4_areLike_76 rfl (MO_k hM.1) gfX4_22_5 rfl (MO_f1406 hM.1) ?_
        refine go_iload 81 dX4_areLike_79 rfl rfl ?_
        refine go_baloadZ 82 dX4_areLike_81 rfl (MO_k5 hM.1) vc.1 ?_
        replace vc := vc.2
        rw [hM.a5 vc.1]
        replace vc := vc.2
        refine go_icmp_ne 85 89 dX4_areLike_82 rfl (by decide) (fun e4 => ?_) (fun e4 => ?_)
        · replace vc := vc.1 e4
          refine go_iconst (v := nI 0) 90 dX4_areLike_89 rfl (by decide) ?_
          exact go_zreturn dX4_areLike_90 rfl (by decide) vc
        · replace vc := vc.2 e4
          refine go_iconst (v := nI 1) 86 dX4_areLike_85 rfl (by decide) ?_
          refine go_goto 90 dX4_areLike_86 (by decide) ?_
          exact go_zreturn dX4_areLike_90 rfl (by decide) vc

theorem bX4_countBetween_0 {h : Hp} {b : Nat × Nat} {Q : Rs → Hp → Prop} {o : Nat} {x1 : Int32} {x2 : Int32} {x3 : Int32} {t : St} {g : Nat} (hM : MS h o t g) (vc : ((isSh t x1 ∧ bt x2 0 5 ∧ bt x3 0 5) ∧ ((¬ (has t (nt x1) (nt x2) (nt x3) = true) → Q (rI (nI 0)) h) ∧ ((has t (nt x1) (nt x2) (nt x3) = true) → (vp_in (nI 36 * x1 + nI 6 * x2 + x3) 468 ∧ (nt (nI 36 * x1 + nI 6 * x2 + x3)) < 36 * ns t ∧ (vp_in (nI 36 * x1 + nI 6 * x2 + x3) 468 ∧ (nt (nI 36 * x1 + nI 6 * x2 + x3)) < 36 * ns t ∧ Q (rI ((sf t (nt (nI 36 * x1 + nI 6 * x2 + x3))) - (ck t (nt (nI 36 * x1 + nI 6 * x2 + x3))))) h)))))) : AWP mX4_countBetween 2 0 [vR (some o), vI x1, vI x2, vI x3] [] h b Q := by
  refine go_aload_n 1 0 dX4_countBetween_0 rfl rfl rfl ?_
  refine go_iload_n 2 1 dX4_countBetween_1 rfl rfl rfl ?_
  refine go_iload_n 3 2 dX4_countBetween_2 rfl rfl rfl ?_
  refine go_iload_n 4 3 dX4_countBetween_3 rfl rfl rfl ?_
  refine go_callVI (M' := mX4_hasPiece) (as := [vI x1, vI x2, vI x3]) 7 dX4_countBetween_4 rfl q1750 okX4_hasPiece (MO_k hM.1) ck_4 rfl rfl rfl rfl rfl (ctX4_hasPiece hM vc.1) ?_
  replace vc := vc.2
  intro x0 h0 p0
  rw [p0.1, p0.2]
  refine go_if_eq 10 36 dX4_countBetween_7 rfl (by decide) (fun e1 => ?_) (fun e1 => ?_)
  · replace vc := vc.1 (bI_0.mp e1)
    refine go_iconst (v := nI 0) 37 dX4_countBetween_36 rfl (by decide) ?_
    exact go_ireturn dX4_countBetween_37 rfl vc
  · replace vc := vc.2 (bI_n0.mp e1)
    refine go_aload_n 11 0 dX4_countBetween_10 rfl rfl rfl ?_
    refine go_getRe 14 dX4_countBetween_11 rfl (MO_k hM.1) gfX4_26_5 rfl (MO_f1407 hM.1) ?_
    refine go_iload_n 15 1 dX4_countBetween_14 rfl rfl rfl ?_
    refine go_iload_n 16 2 dX4_countBetween_15 rfl rfl rfl ?_
    refine go_iload_n 17 3 dX4_countBetween_16 rfl rfl rfl ?_
    refine go_callSI (M' := mX4_at) (as := [vI x1, vI x2, vI x3]) 20 dX4_countBetween_17 rfl q1754 okX4_at rfl rfl rfl rfl rfl (ctX4_at) ?_
    intro x0 h0 p0
    rw [p0.1, p0.2]
    refine go_iaload 21 dX4_countBetween_20 rfl (MO_k6 hM.1) vc.1 ?_
    replace vc := vc.2
    rw [hM.a6 vc.1]
    replace vc := vc.2
    refine go_aload_n 22 0 dX4_countBetween_21 rfl rfl rfl ?_
    refine go_getRe 25 dX4_countBetween_22 rfl (MO_k hM.1) gfX4_29_5 rfl (MO_f1408 hM.1) ?_
    refine go_iload_n 26 1 dX4_countBetween_25 rfl rfl rfl ?_
    refine go_iload_n 27 2 dX4_countBetween_26 rfl rfl rfl ?_
    refine go_iload_n 28 3 dX4_countBetween_27 rfl rfl rfl ?_
    refine go_callSI (M' := mX4_at) (as := [vI x1, vI x2, vI x3]) 31 dX4_countBetween_28 rfl q1754 okX4_at rfl rfl rfl rfl rfl (ctX4_at) ?_
    intro x0 h0 p0
    rw [p0.1, p0.2]
    refine go_iaload 32 dX4_countBetween_31 rfl (MO_k7 hM.1) vc.1 ?_
    replace vc := vc.2
    rw [hM.a7 vc.1]
    replace vc := vc.2
    refine go_isub 33 dX4_countBetween_32 rfl ?_
    refine go_goto 37 dX4_countBetween_33 (by decide) ?_
    exact go_ireturn dX4_countBetween_37 rfl vc

theorem bX4_turnOn_0 {d : Nat} {h : Hp} {b : Nat × Nat} {Q : Rs → Hp → Prop} {o : Nat} {x1 : Int32} {x2 : Int32} {x3 : Int32} {x4 : Int32} (hdp : 3 ≤ d) {t : St} {g : Nat} (hM : MS h o t g) (vc : (vp_in x1 13 ∧ (nt x1) < ns t ∧ ((¬ x3 = (nI (nc t (nt x1))) → AWP mX4_turnOn d 95 [vR (some o), vI x1, vI x2, vI x3, vI x4, vI (nI 0), vU, vU] [] h b Q) ∧ (x3 = (nI (nc t (nt x1))) → (∀ h2, h2 = sFI h 446 o ((hFI h 446 o) + (nI 1)) → (vp_in (hFI h2 448 o) 6 ∧ (∀ h3, h3 = sFI h2 447 o ((hFI h2 447 o) ||| ((nI 1) <<< ((hAI h2 (o + 34) (nt (hFI h2 448 o))) &&& 31))) → ((¬ (hFI h3 449 o) = 0 → Q rV h3) ∧ ((hFI h3 449 o) = 0 → (∀ h5, h5 = sFI h3 450 o (nI 0) → AWP mX4_turnOn d 55 [vR (some o), vI x1, vI x2, vI x3, vI x4, vI (nI 0), vU, vU] [] h5 b Q)))))))))) : AWP mX4_turnOn d 0 [vR (some o), vI x1, vI x2, vI x3, vI x4, vU, vU, vU] [] h b Q := by
  refine go_iload_n 1 3 dX4_turnOn_0 rfl rfl rfl ?_
  refine go_aload_n 2 0 dX4_turnOn_1 rfl rfl rfl ?_
  refine go_getRe 5 dX4_turnOn_2 rfl (MO_k hM.1) gfX4_7_5 rfl (MO_f1402 hM.1) ?_
  refine go_iload_n 6 1 dX4_turnOn_5 rfl rfl rfl ?_
  refine go_iaload 7 dX4_turnOn_6 rfl (MO_k1 hM.1) vc.1 ?_
  replace vc := vc.2
  rw [hM.a1 vc.1]
  replace vc := vc.2
  refine go_icmp_ne 10 92 dX4_turnOn_7 rfl (by decide) (fun e1 => ?_) (fun e1 => ?_)
  · replace vc := vc.1 e1
    refine go_iconst (v := nI 0) 93 dX4_turnOn_92 rfl (by decide) ?_
    refine go_istore 95 [vR (some o), vI x1, vI x2, vI x3, vI x4, vI (nI 0), vU, vU] dX4_turnOn_93 rfl rfl rfl ?_
    exact vc
  · replace vc := vc.2 e1
    refine go_aload_n 11 0 dX4_turnOn_10 rfl rfl rfl ?_
    refine go_dup 12 dX4_turnOn_11 rfl rfl ?_
    refine go_getI 15 dX4_turnOn_12 rfl (MO_k hM.1) gfX4_361_5 rfl ?_
    refine go_iconst (v := nI 1) 16 dX4_turnOn_15 rfl (by decide) ?_
    refine go_iadd 17 dX4_turnOn_16 rfl ?_
    refine go_putI 20 dX4_turnOn_17 rfl (MO_k hM.1) (gpX4_361_5 _) rfl ?_
    refine AWP.nm fun h2 eh2 => ?_
    replace vc := vc h2 eh2
    have hM : MS h2 o t g := by rw [eh2]; exact hM.fr (PE.F rfl)
    refine go_aload_n 21 0 dX4_turnOn_20 rfl rfl rfl ?_
    refine go_dup 22 dX4_turnOn_21 rfl rfl ?_
    refine go_getI 25 dX4_turnOn_22 rfl (MO_k hM.1) gfX4_364_5 rfl ?_
    refine go_iconst (v := nI 1) 26 dX4_turnOn_25 rfl (by decide) ?_
    refine go_aload_n 27 0 dX4_turnOn_26 rfl rfl rfl ?_
    refine go_getRe 30 dX4_turnOn_27 rfl (MO_k hM.1) gfX4_112_5 rfl (MO_f1445 hM.1) ?_
    refine go_aload_n 31 0 dX4_turnOn_30 rfl rfl rfl ?_
    refine go_getI 34 dX4_turnOn_31 rfl (MO_k hM.1) gfX4_367_5 rfl ?_
    refine go_iaload 35 dX4_turnOn_34 rfl (MO_k34 hM.1) vc.1 ?_
    replace vc := vc.2
    refine go_ishl 36 dX4_turnOn_35 rfl ?_
    refine go_ior 37 dX4_turnOn_36 rfl ?_
    refine go_putI 40 dX4_turnOn_37 rfl (MO_k hM.1) (gpX4_364_5 _) rfl ?_
    refine AWP.nm fun h3 eh3 => ?_
    replace vc := vc h3 eh3
    have hM : MS h3 o t g := by rw [eh3]; exact hM.fr (PE.F rfl)
    refine go_aload_n 41 0 dX4_turnOn_40 rfl rfl rfl ?_
    refine go_getI 44 dX4_turnOn_41 rfl (MO_k hM.1) gfX4_370_5 rfl ?_
    refine go_if_ne 47 91 dX4_turnOn_44 rfl (by decide) (fun e4 => ?_) (fun e4 => ?_)
    · replace vc := vc.1 e4
      exact go_return dX4_turnOn_91 rfl vc
    · replace vc := vc.2 e4
      refine go_aload_n 48 0 dX4_turnOn_47 rfl rfl rfl ?_
      refine go_iconst (v := nI 0) 49 dX4_turnOn_48 rfl (by decide) ?_
      refine go_putI 52 dX4_turnOn_49 rfl (MO_k hM.1) (gpX4_374_5 _) rfl ?_
      refine AWP.nm fun h5 eh5 => ?_
      replace vc := vc h5 eh5
      have hM : MS h5 o t g := by rw [eh5]; exact hM.fr (PE.F rfl)
      refine go_iconst (v := nI 0) 53 dX4_turnOn_52 rfl (by decide) ?_
      refine go_istore 55 [vR (some o), vI x1, vI x2, vI x3, vI x4, vI (nI 0), vU, vU] dX4_turnOn_53 rfl rfl rfl ?_
      exact vc

theorem bX4_turnOn_55 {d : Nat} {h : Hp} {b : Nat × Nat} {Q : Rs → Hp → Prop} {o : Nat} {x1 : Int32} {x2 : Int32} {x3 : Int32} {x4 : Int32} {x5 : Int32} (hdp : 3 ≤ d) {t : St} {g : Nat} (hM : MS h o t g) (vc : ((x3 ≤ x5 → (∀ h2, h2 = sFI h 449 o (nI 1) → Q rV h2)) ∧ (¬ x3 ≤ x5 → (vp_in x5 6 ∧ (∀ h3, h3 = sFI h 450 o (((nI 10) * (hFI h 450 o)) + (hAI h (o + 34) (nt x5))) → AWP mX4_turnOn d 55 [vR (some o), vI x1, vI x2, vI x3, vI x4, vI (x5 + nI 1), vU, vU] [] h3 b Q))))) : AWP mX4_turnOn d 55 [vR (some o), vI x1, vI x2, vI x3, vI x4, vI x5, vU, vU] [] h b Q := by
  refine go_iload 57 dX4_turnOn_55 rfl rfl ?_
  refine go_iload_n 58 3 dX4_turnOn_57 rfl rfl rfl ?_
  refine go_icmp_ge 61 86 dX4_turnOn_58 rfl (by decide) (fun e1 => ?_) (fun e1 => ?_)
  · replace vc := vc.1 e1
    refine go_aload_n 87 0 dX4_turnOn_86 rfl rfl rfl ?_
    refine go_iconst (v := nI 1) 88 dX4_turnOn_87 rfl (by decide) ?_
    refine go_putZ 91 dX4_turnOn_88 rfl (MO_k hM.1) (gpX4_370_5 _) rfl (by decide) ?_
    refine AWP.nm fun h2 eh2 => ?_
    replace vc := vc h2 eh2
    have hM : MS h2 o t g := by rw [eh2]; exact hM.fr (PE.F rfl)
    exact go_return dX4_turnOn_91 rfl vc
  · replace vc := vc.2 e1
    refine go_aload_n 62 0 dX4_turnOn_61 rfl rfl rfl ?_
    refine go_bipush (v := nI 10) 64 dX4_turnOn_62 rfl (by decide) ?_
    refine go_aload_n 65 0 dX4_turnOn_64 rfl rfl rfl ?_
    refine go_getI 68 dX4_turnOn_65 rfl (MO_k hM.1) gfX4_374_5 rfl ?_
    refine go_imul 69 dX4_turnOn_68 rfl ?_
    refine go_aload_n 70 0 dX4_turnOn_69 rfl rfl rfl ?_
    refine go_getRe 73 dX4_turnOn_70 rfl (MO_k hM.1) gfX4_112_5 rfl (MO_f1445 hM.1) ?_
    refine go_iload 75 dX4_turnOn_73 rfl rfl ?_
    refine go_iaload 76 dX4_turnOn_75 rfl (MO_k34 hM.1) vc.1 ?_
    replace vc := vc.2
    refine go_iadd 77 dX4_turnOn_76 rfl ?_
    refine go_putI 80 dX4_turnOn_77 rfl (MO_k hM.1) (gpX4_374_5 _) rfl ?_
    refine AWP.nm fun h3 eh3 => ?_
    replace vc := vc h3 eh3
    have hM : MS h3 o t g := by rw [eh3]; exact hM.fr (PE.F rfl)
    refine go_iinc 83 (x5 + nI 1) [vR (some o), vI x1, vI x2, vI x3, vI x4, vI (x5 + nI 1), vU, vU] dX4_turnOn_80 rfl rfl (by rfl) rfl rfl ?_
    refine go_goto 55 dX4_turnOn_83 (by decide) ?_
    exact vc

theorem bX4_turnOn_95 {d : Nat} {h : Hp} {b : Nat × Nat} {Q : Rs → Hp → Prop} {o : Nat} {x1 : Int32} {x2 : Int32} {x3 : Int32} {x4 : Int32} {x5 : Int32} {y6 : AV} {y7 : AV} (hdp : 3 ≤ d) {t : St} {g : Nat} (hM : MS h o t g) (vc : (vp_in x1 13 ∧ (nt x1) < ns t ∧ (((nI (nc t (nt x1))) ≤ x5 → Q rV h) ∧ (¬ (nI (nc t (nt x1))) ≤ x5 → ((((x4 >>> (x5 &&& 31)) &&& (nI 1)) = (nI 1) → AWP mX4_turnOn d 95 [vR (some o), vI x1, vI x2, vI x3, vI x4, vI (x5 + nI 1), y6, y7] [] h b Q) ∧ (¬ ((x4 >>> (x5 &&& 31)) &&& (nI 1)) = (nI 1) → (∃ (P5 : Int32 → Hp → Prop), Ret mX4_areLike 0 [vR (some o), vI x1, vI x3, vI x2, vI x5] h 0 0 (RI P5) ∧ ∀ z3 h4, P5 z3 h4 → (∃ t7 g8, MS h4 o t7 g8 ∧ ((¬ z3 = 0 → AWP mX4_turnOn d 138 [vR (some o), vI x1, vI x2, vI x3, vI x4, vI x5, vI (nI 1), vI (nI 0)] [] h4 b Q) ∧ (z3 = 0 → AWP mX4_turnOn d 95 [vR (some o), vI x1, vI x2, vI x3, vI x4, vI (x5 + nI 1), y6, y7] [] h4 b Q)))))))))) : AWP mX4_turnOn d 95 [vR (some o), vI x1, vI x2, vI x3, vI x4, vI x5, y6, y7] [] h b Q := by
  refine go_iload 97 dX4_turnOn_95 rfl rfl ?_
  refine go_aload_n 98 0 dX4_turnOn_97 rfl rfl rfl ?_
  refine go_getRe 101 dX4_turnOn_98 rfl (MO_k hM.1) gfX4_7_5 rfl (MO_f1402 hM.1) ?_
  refine go_iload_n 102 1 dX4_turnOn_101 rfl rfl rfl ?_
  refine go_iaload 103 dX4_turnOn_102 rfl (MO_k1 hM.1) vc.1 ?_
  replace vc := vc.2
  rw [hM.a1 vc.1]
  replace vc := vc.2
  refine go_icmp_ge 106 225 dX4_turnOn_103 rfl (by decide) (fun e1 => ?_) (fun e1 => ?_)
  · replace vc := vc.1 e1
    exact go_return dX4_turnOn_225 rfl vc
  · replace vc := vc.2 e1
    refine go_iload 108 dX4_turnOn_106 rfl rfl ?_
    refine go_iload 110 dX4_turnOn_108 rfl rfl ?_
    refine go_ishr 111 dX4_turnOn_110 rfl ?_
    refine go_iconst (v := nI 1) 112 dX4_turnOn_111 rfl (by decide) ?_
    refine go_iand 113 dX4_turnOn_112 rfl ?_
    refine go_iconst (v := nI 1) 114 dX4_turnOn_113 rfl (by decide) ?_
    refine go_icmp_eq 117 219 dX4_turnOn_114 rfl (by decide) (fun e2 => ?_) (fun e2 => ?_)
    · replace vc := vc.1 e2
      refine go_iinc 222 (x5 + nI 1) [vR (some o), vI x1, vI x2, vI x3, vI x4, vI (x5 + nI 1), y6, y7] dX4_turnOn_219 rfl rfl (by rfl) rfl rfl ?_
      refine go_goto 95 dX4_turnOn_222 (by decide) ?_
      exact vc
    · replace vc := vc.2 e2
      refine go_aload_n 118 0 dX4_turnOn_117 rfl rfl rfl ?_
      refine go_iload_n 119 1 dX4_turnOn_118 rfl rfl rfl ?_
      refine go_iload_n 120 3 dX4_turnOn_119 rfl rfl rfl ?_
      refine go_iload_n 121 2 dX4_turnOn_120 rfl rfl rfl ?_
      refine go_iload 123 dX4_turnOn_121 rfl rfl ?_
      obtain ⟨P5, hR, vc⟩ := vc
      refine go_callVI (M' := mX4_areLike) (as := [vI x1, vI x3, vI x2, vI x5]) 126 dX4_turnOn_123 rfl q1918 okX4_areLike (MO_k hM.1) ck_4 rfl rfl rfl (ble_le (Nat.le_trans (by decide) hdp)) rfl hR ?_
      intro z3 h4 p1
      replace vc := vc z3 h4 p1
      obtain ⟨t7, g8, hM, vc⟩ := vc
      refine go_if_ne 129 132 dX4_turnOn_126 rfl (by decide) (fun e9 => ?_) (fun e9 => ?_)
      · replace vc := vc.1 e9
        refine go_iconst (v := nI 1) 133 dX4_turnOn_132 rfl (by decide) ?_
        refine go_istore 135 [vR (some o), vI x1, vI x2, vI x3, vI x4, vI x5, vI (nI 1), y7] dX4_turnOn_133 rfl rfl rfl ?_
        refine go_iconst (v := nI 0) 136 dX4_turnOn_135 rfl (by decide) ?_
        refine go_istore 138 [vR (some o), vI x1, vI x2, vI x3, vI x4, vI x5, vI (nI 1), vI (nI 0)] dX4_turnOn_136 rfl rfl rfl ?_
        exact vc
      · replace vc := vc.2 e9
        refine go_goto 219 dX4_turnOn_129 (by decide) ?_
        refine go_iinc 222 (x5 + nI 1) [vR (some o), vI x1, vI x2, vI x3, vI x4, vI (x5 + nI 1), y6, y7] dX4_turnOn_219 rfl rfl (by rfl) rfl rfl ?_
        refine go_goto 95 dX4_turnOn_222 (by decide) ?_
        exact vc

theorem bX4_turnOn_138 {d : Nat} {h : Hp} {b : Nat × Nat} {Q : Rs → Hp → Prop} {o : Nat} {x1 : Int32} {x2 : Int32} {x3 : Int32} {x4 : Int32} {x5 : Int32} {x6 : Int32} {x7 : Int32} (hdp : 3 ≤ d) {t : St} {g : Nat} (hM : MS h o t g) (vc : ((x3 ≤ x7 → AWP mX4_turnOn d 187 [vR (some o), vI x1, vI x2, vI x3, vI x4, vI x5, vI x6, vI x7] [] h b Q) ∧ (¬ x3 ≤ x7 → ((x6 = 0 → AWP mX4_turnOn d 187 [vR (some o), vI x1, vI x2, vI x3, vI x4, vI x5, vI x6, vI x7] [] h b Q) ∧ (¬ x6 = 0 → (∃ (P5 : Int32 → Hp → Prop), Ret mX4_countBetween 2 [vR (some o), vI x1, vI x7, vI x3] h 0 0 (RI P5) ∧ ∀ z3 h4, P5 z3 h4 → (∃ t7 g8, MS h4 o t7 g8 ∧ (vp_in x7 6 ∧ (∃ (P11 : Int32 → Hp → Prop), Ret mX4_countBetween 2 [vR (some o), vI x2, vI (hAI h4 (o + 34) (nt x7)), vI x5] h4 0 0 (RI P11) ∧ ∀ z9 h10, P11 z9 h10 → (∃ t13 g14, MS h10 o t13 g14 ∧ ((¬ z3 = z9 → AWP mX4_turnOn d 138 [vR (some o), vI x1, vI x2, vI x3, vI x4, vI x5, vI (nI 0), vI (x7 + nI 1)] [] h10 b Q) ∧ (z3 = z9 → AWP mX4_turnOn d 138 [vR (some o), vI x1, vI x2, vI x3, vI x4, vI x5, vI (nI 1), vI (x7 + nI 1)] [] h10 b Q)))))))))))) : AWP mX4_turnOn d 138 [vR (some o), vI x1, vI x2, vI x3, vI x4, vI x5, vI x6, vI x7] [] h b Q := by
  refine go_iload 140 dX4_turnOn_138 rfl rfl ?_
  refine go_iload_n 141 3 dX4_turnOn_140 rfl rfl rfl ?_
  refine go_icmp_ge 144 187 dX4_turnOn_141 rfl (by decide) (fun e1 => ?_) (fun e1 => ?_)
  · replace vc := vc.1 e1
    exact vc
  · replace vc := vc.2 e1
    refine go_iload 146 dX4_turnOn_144 rfl rfl ?_
    refine go_if_eq 149 187 dX4_turnOn_146 rfl (by decide) (fun e2 => ?_) (fun e2 => ?_)
    · replace vc := vc.1 e2
      exact vc
    · replace vc := vc.2 e2
      refine go_aload_n 150 0 dX4_turnOn_149 rfl rfl rfl ?_
      refine go_iload_n 151 1 dX4_turnOn_150 rfl rfl rfl ?_
      refine go_iload 153 dX4_turnOn_151 rfl rfl ?_
      refine go_iload_n 154 3 dX4_turnOn_153 rfl rfl rfl ?_
      obtain ⟨P5, hR, vc⟩ := vc
      refine go_callVI (M' := mX4_countBetween) (as := [vI x1, vI x7, vI x3]) 157 dX4_turnOn_154 rfl q1922 okX4_countBetween (MO_k hM.1) ck_4 rfl rfl rfl (ble_le (Nat.le_trans (by decide) hdp)) rfl hR ?_
      intro z3 h4 p1
      replace vc := vc z3 h4 p1
      obtain ⟨t7, g8, hM, vc⟩ := vc
      refine go_aload_n 158 0 dX4_turnOn_157 rfl rfl rfl ?_
      refine go_iload_n 159 2 dX4_turnOn_158 rfl rfl rfl ?_
      refine go_aload_n 160 0 dX4_turnOn_159 rfl rfl rfl ?_
      refine go_getRe 163 dX4_turnOn_160 rfl (MO_k hM.1) gfX4_112_5 rfl (MO_f1445 hM.1) ?_
      refine go_iload 165 dX4_turnOn_163 rfl rfl ?_
      refine go_iaload 166 dX4_turnOn_165 rfl (MO_k34 hM.1) vc.1 ?_
      replace vc := vc.2
      refine go_iload 168 dX4_turnOn_166 rfl rfl ?_
      obtain ⟨P11, hR, vc⟩ := vc
      refine go_callVI (M' := mX4_countBetween) (as := [vI x2, vI (hAI h4 (o + 34) (nt x7)), vI x5]) 171 dX4_turnOn_168 rfl q1922 okX4_countBetween (MO_k hM.1) ck_4 rfl rfl rfl (ble_le (Nat.le_trans (by decide) hdp)) rfl hR ?_
      intro z9 h10 p1
      replace vc := vc z9 h10 p1
      obtain ⟨t13, g14, hM, vc⟩ := vc
      refine go_icmp_ne 174 178 dX4_turnOn_171 rfl (by decide) (fun e15 => ?_) (fun e15 => ?_)
      · replace vc := vc.1 e15
        refine go_iconst (v := nI 0) 179 dX4_turnOn_178 rfl (by decide) ?_
        refine go_istore 181 [vR (some o), vI x1, vI x2, vI x3, vI x4, vI x5, vI (nI 0), vI x7] dX4_turnOn_179 rfl rfl rfl ?_
        refine go_iinc 184 (x7 + nI 1) [vR (some o), vI x1, vI x2, vI x3, vI x4, vI x5, vI (nI 0), vI (x7 + nI 1)] dX4_turnOn_181 rfl rfl (by rfl) rfl rfl ?_
        refine go_goto 138 dX4_turnOn_184 (by decide) ?_
        exact vc
      · replace vc := vc.2 e15
        refine go_iconst (v := nI 1) 175 dX4_turnOn_174 rfl (by decide) ?_
        refine go_goto 179 dX4_turnOn_175 (by decide) ?_
        refine go_istore 181 [vR (some o), vI x1, vI x2, vI x3, vI x4, vI x5, vI (nI 1), vI x7] dX4_turnOn_179 rfl rfl rfl ?_
        refine go_iinc 184 (x7 + nI 1) [vR (some o), vI x1, vI x2, vI x3, vI x4, vI x5, vI (nI 1), vI (x7 + nI 1)] dX4_turnOn_181 rfl rfl (by rfl) rfl rfl ?_
        refine go_goto 138 dX4_turnOn_184 (by decide) ?_
        exact vc

theorem bX4_turnOn_187 {d : Nat} {h : Hp} {b : Nat × Nat} {Q : Rs → Hp → Prop} {o : Nat} {x1 : Int32} {x2 : Int32} {x3 : Int32} {x4 : Int32} {x5 : Int32} {x6 : Int32} {x7 : Int32} (hdp : 3 ≤ d) {t : St} {g : Nat} (hM : MS h o t g) (vc : ((¬ x6 = 0 → (vp_in x3 6 ∧ (∀ h2, h2 = w1 h (o + 34) (nt x3) x5 → (∃ (P5 : Hp → Prop) (d6 : Nat), Nat.ble (d6 + 1) d = true ∧ Ret mX4_turnOn d6 [vR (some o), vI x1, vI x2, vI (x3 + (nI 1)), vI (x4 ||| ((nI 1) <<< (x5 &&& 31)))] h2 0 0 (RV P5) ∧ ∀ h4, P5 h4 → (∃ t7 g8, MS h4 o t7 g8 ∧ AWP mX4_turnOn d 95 [vR (some o), vI x1, vI x2, vI x3, vI x4, vI (x5 + nI 1), vI x6, vI x7] [] h4 b Q))))) ∧ (x6 = 0 → AWP mX4_turnOn d 95 [vR (some o), vI x1, vI x2, vI x3, vI x4, vI (x5 + nI 1), vI x6, vI x7] [] h b Q))) : AWP mX4_turnOn d 187 [vR (some o), vI x1, vI x2, vI x3, vI x4, vI x5, vI x6, vI x7] [] h b Q := by
  refine go_iload 189 dX4_turnOn_187 rfl rfl ?_
  refine go_if_ne 192 195 dX4_turnOn_189 rfl (by decide) (fun e1 => ?_) (fun e1 => ?_)
  · replace vc := vc.1 e1
    refine go_aload_n 196 0 dX4_turnOn_195 rfl rfl rfl ?_
    refine go_getRe 199 dX4_turnOn_196 rfl (MO_k hM.1) gfX4_112_5 rfl (MO_f1445 hM.1) ?_
    refine go_iload_n 200 3 dX4_turnOn_199 rfl rfl rfl ?_
    refine go_iload 202 dX4_turnOn_200 rfl rfl ?_
    refine go_iastore 203 dX4_turnOn_202 rfl (MO_k34 hM.1) vc.1 ?_
    replace vc := vc.2
    refine AWP.nm fun h2 eh2 => ?_
    replace vc := vc h2 eh2
    have hM : MS h2 o t g := by rw [eh2]; exact hM.fr (PE.A rfl)
    refine go_aload_n 204 0 dX4_turnOn_203 rfl rfl rfl ?_
    refine go_iload_n 205 1 dX4_turnOn_204 rfl rfl rfl ?_
    refine go_iload_n 206 2 dX4_turnOn_205 rfl rfl rfl ?_
    refine go_iload_n 207 3 dX4_turnOn_206 rfl rfl rfl ?_
    refine go_iconst (v := nI 1) 208 dX4_turnOn_207 rfl (by decide) ?_
    refine go_iadd 209 dX4_turnOn_208 rfl ?_
    refine go_iload 211 dX4_turnOn_209 rfl rfl ?_
    refine go_iconst (v := nI 1) 212 dX4_turnOn_211 rfl (by decide) ?_
    refine go_iload 214 dX4_turnOn_212 rfl rfl ?_
    refine go_ishl 215 dX4_turnOn_214 rfl ?_
    refine go_ior 216 dX4_turnOn_215 rfl ?_
    obtain ⟨P5, d6, hD, hR, vc⟩ := vc
    refine go_callVV (M' := mX4_turnOn) (as := [vI x1, vI x2, vI (x3 + (nI 1)), vI (x4 ||| ((nI 1) <<< (x5 &&& 31)))]) 219 dX4_turnOn_216 rfl q1914 okX4_turnOn (MO_k hM.1) ck_4 rfl rfl rfl hD rfl hR ?_
    intro h4 p1
    replace vc := vc h4 p1
    obtain ⟨t7, g8, hM, vc⟩ := vc
    refine go_iinc 222 (x5 + nI 1) [vR (some o), vI x1, vI x2, vI x3, vI x4, vI (x5 + nI 1), vI x6, vI x7] dX4_turnOn_219 rfl rfl (by rfl) rfl rfl ?_
    refine go_goto 95 dX4_turnOn_222 (by decide) ?_
    exact vc
  · replace vc := vc.2 e1
    refine go_goto 219 dX4_turnOn_192 (by decide) ?_
    refine go_iinc 222 (x5 + nI 1) [vR (some o), vI x1, vI x2, vI x3, vI x4, vI (x5 + nI 1), vI x6, vI x7] dX4_turnOn_219 rfl rfl (by rfl) rfl rfl ?_
    refine go_goto 95 dX4_turnOn_222 (by decide) ?_
    exact vc

theorem bX4_findTurns_0 {h : Hp} {b : Nat × Nat} {Q : Rs → Hp → Prop} {o : Nat} {x1 : Int32} {x2 : Int32} {x3 : Int32} {t : St} {g : Nat} (hM : MS h o t g) (vc : (∀ h1, h1 = sFI h 446 o (nI 0) → (∀ h2, h2 = sFI h1 447 o (nI 0) → (∀ h3, h3 = sFI h2 448 o x3 → (∀ h4, h4 = sFI h3 449 o (nI 0) → (∃ (P7 : Hp → Prop) (d8 : Nat), Nat.ble (d8 + 1) 16 = true ∧ Ret mX4_turnOn d8 [vR (some o), vI x1, vI x2, vI (nI 0), vI (nI 0)] h4 0 0 (RV P7) ∧ ∀ h6, P7 h6 → (∃ t9 g10, MS h6 o t9 g10 ∧ Q rV h6))))))) : AWP mX4_findTurns 16 0 [vR (some o), vI x1, vI x2, vI x3] [] h b Q := by
  refine go_aload_n 1 0 dX4_findTurns_0 rfl rfl rfl ?_
  refine go_iconst (v := nI 0) 2 dX4_findTurns_1 rfl (by decide) ?_
  refine go_putI 5 dX4_findTurns_2 rfl (MO_k hM.1) (gpX4_361_5 _) rfl ?_
  refine AWP.nm fun h1 eh1 => ?_
  replace vc := vc h1 eh1
  have hM : MS h1 o t g := by rw [eh1]; exact hM.fr (PE.F rfl)
  refine go_aload_n 6 0 dX4_findTurns_5 rfl rfl rfl ?_
  refine go_iconst (v := nI 0) 7 dX4_findTurns_6 rfl (by decide) ?_
  refine go_putI 10 dX4_findTurns_7 rfl (MO_k hM.1) (gpX4_364_5 _) rfl ?_
  refine AWP.nm fun h2 eh2 => ?_
  replace vc := vc h2 eh2
  have hM : MS h2 o t g := by rw [eh2]; exact hM.fr (PE.F rfl)
  refine go_aload_n 11 0 dX4_findTurns_10 rfl rfl rfl ?_
  refine go_iload_n 12 3 dX4_findTurns_11 rfl rfl rfl ?_
  refine go_putI 15 dX4_findTurns_12 rfl (MO_k hM.1) (gpX4_367_5 _) rfl ?_
  refine AWP.nm fun h3 eh3 => ?_
  replace vc := vc h3 eh3
  have hM : MS h3 o t g := by rw [eh3]; exact hM.fr (PE.F rfl)
  refine go_aload_n 16 0 dX4_findTurns_15 rfl rfl rfl ?_
  refine go_iconst (v := nI 0) 17 dX4_findTurns_16 rfl (by decide) ?_
  refine go_putZ 20 dX4_findTurns_17 rfl (MO_k hM.1) (gpX4_370_5 _) rfl (by decide) ?_
  refine AWP.nm fun h4 eh4 => ?_
  replace vc := vc h4 eh4
  have hM : MS h4 o t g := by rw [eh4]; exact hM.fr (PE.F rfl)
  refine go_aload_n 21 0 dX4_findTurns_20 rfl rfl rfl ?_
  refine go_iload_n 22 1 dX4_findTurns_21 rfl rfl rfl ?_
  refine go_iload_n 23 2 dX4_findTurns_22 rfl rfl rfl ?_
  refine go_iconst (v := nI 0) 24 dX4_findTurns_23 rfl (by decide) ?_
  refine go_iconst (v := nI 0) 25 dX4_findTurns_24 rfl (by decide) ?_
  obtain ⟨P7, d8, hD, hR, vc⟩ := vc
  refine go_callVV (M' := mX4_turnOn) (as := [vI x1, vI x2, vI (nI 0), vI (nI 0)]) 28 dX4_findTurns_25 rfl q1914 okX4_turnOn (MO_k hM.1) ck_4 rfl rfl rfl hD rfl hR ?_
  intro h6 p1
  replace vc := vc h6 p1
  obtain ⟨t9, g10, hM, vc⟩ := vc
  exact go_return dX4_findTurns_28 rfl vc

theorem bX4_turnsOf_0 {h : Hp} {b : Nat × Nat} {Q : Rs → Hp → Prop} {o : Nat} {x1 : Int32} {t : St} {g : Nat} (hM : MS h o t g) (vc : (((isSh t x1) → (∃ (P4 : Hp → Prop), Ret mX4_findTurns 16 [vR (some o), vI x1, vI x1, vI (nI 0)] h 0 0 (RV P4) ∧ ∀ h3, P4 h3 → (∃ t6 g7, MS h3 o t6 g7 ∧ Q (rI (hFI h3 446 o)) h3))) ∧ (¬ (isSh t x1) → Q (rI (-1)) h))) : AWP mX4_turnsOf 17 0 [vR (some o), vI x1] [] h b Q := by
  refine go_aload_n 1 0 dX4_turnsOf_0 rfl rfl rfl ?_
  refine go_iload_n 2 1 dX4_turnsOf_1 rfl rfl rfl ?_
  refine go_callVI (M' := mX4_isShape) (as := [vI x1]) 5 dX4_turnsOf_2 rfl q1769 okX4_isShape (MO_k hM.1) ck_4 rfl rfl rfl rfl rfl (ctX4_isShape hM) ?_
  intro x0 h0 p0
  rw [p0.1, p0.2]
  refine go_if_ne 8 10 dX4_turnsOf_5 rfl (by decide) (fun e1 => ?_) (fun e1 => ?_)
  · replace vc := vc.1 (bI_n0.mp e1)
    refine go_aload_n 11 0 dX4_turnsOf_10 rfl rfl rfl ?_
    refine go_iload_n 12 1 dX4_turnsOf_11 rfl rfl rfl ?_
    refine go_iload_n 13 1 dX4_turnsOf_12 rfl rfl rfl ?_
    refine go_iconst (v := nI 0) 14 dX4_turnsOf_13 rfl (by decide) ?_
    obtain ⟨P4, hR, vc⟩ := vc
    refine go_callVV (M' := mX4_findTurns) (as := [vI x1, vI x1, vI (nI 0)]) 17 dX4_turnsOf_14 rfl q1910 okX4_findTurns (MO_k hM.1) ck_4 rfl rfl rfl rfl rfl hR ?_
    intro h3 p1
    replace vc := vc h3 p1
    obtain ⟨t6, g7, hM, vc⟩ := vc
    refine go_aload_n 18 0 dX4_turnsOf_17 rfl rfl rfl ?_
    refine go_getI 21 dX4_turnsOf_18 rfl (MO_k hM.1) gfX4_361_5 rfl ?_
    exact go_ireturn dX4_turnsOf_21 rfl vc
  · replace vc := vc.2 (bI_0.mp e1)
    refine go_iconst (v := (-1)) 9 dX4_turnsOf_8 rfl (by decide) ?_
    exact go_ireturn dX4_turnsOf_9 rfl vc

theorem bX4_orbit_0 {h : Hp} {b : Nat × Nat} {Q : Rs → Hp → Prop} {o : Nat} {x1 : Int32} {x2 : Int32} {t : St} {g : Nat} (hM : MS h o t g) (vc : ((¬ (isSh t x1) → Q (rI (-1)) h) ∧ ((isSh t x1) → (isSh t x1 ∧ (((isCo t x1 x2) → (∃ (P5 : Hp → Prop), Ret mX4_findTurns 16 [vR (some o), vI x1, vI x1, vI x2] h 0 0 (RV P5) ∧ ∀ h4, P5 h4 → (∃ t7 g8, MS h4 o t7 g8 ∧ Q (rI (hFI h4 447 o)) h4))) ∧ (¬ (isCo t x1 x2) → Q (rI (-1)) h)))))) : AWP mX4_orbit 17 0 [vR (some o), vI x1, vI x2] [] h b Q := by
  refine go_aload_n 1 0 dX4_orbit_0 rfl rfl rfl ?_
  refine go_iload_n 2 1 dX4_orbit_1 rfl rfl rfl ?_
  refine go_callVI (M' := mX4_isShape) (as := [vI x1]) 5 dX4_orbit_2 rfl q1769 okX4_isShape (MO_k hM.1) ck_4 rfl rfl rfl rfl rfl (ctX4_isShape hM) ?_
  intro x0 h0 p0
  rw [p0.1, p0.2]
  refine go_if_eq 8 17 dX4_orbit_5 rfl (by decide) (fun e1 => ?_) (fun e1 => ?_)
  · replace vc := vc.1 (bI_0.mp e1)
    refine go_iconst (v := (-1)) 18 dX4_orbit_17 rfl (by decide) ?_
    exact go_ireturn dX4_orbit_18 rfl vc
  · replace vc := vc.2 (bI_n0.mp e1)
    refine go_aload_n 9 0 dX4_orbit_8 rfl rfl rfl ?_
    refine go_iload_n 10 1 dX4_orbit_9 rfl rfl rfl ?_
    refine go_iload_n 11 2 dX4_orbit_10 rfl rfl rfl ?_
    refine go_callVI (M' := mX4_isCorner) (as := [vI x1, vI x2]) 14 dX4_orbit_11 rfl q1746 okX4_isCorner (MO_k hM.1) ck_4 rfl rfl rfl rfl rfl (ctX4_isCorner hM vc.1) ?_
    replace vc := vc.2
    intro x0 h0 p0
    rw [p0.1, p0.2]
    refine go_if_ne 17 19 dX4_orbit_14 rfl (by decide) (fun e2 => ?_) (fun e2 => ?_)
    · replace vc := vc.1 (bI_n0.mp e2)
      refine go_aload_n 20 0 dX4_orbit_19 rfl rfl rfl ?_
      refine go_iload_n 21 1 dX4_orbit_20 rfl rfl rfl ?_
      refine go_iload_n 22 1 dX4_orbit_21 rfl rfl rfl ?_
      refine go_iload_n 23 2 dX4_orbit_22 rfl rfl rfl ?_
      obtain ⟨P5, hR, vc⟩ := vc
      refine go_callVV (M' := mX4_findTurns) (as := [vI x1, vI x1, vI x2]) 26 dX4_orbit_23 rfl q1910 okX4_findTurns (MO_k hM.1) ck_4 rfl rfl rfl rfl rfl hR ?_
      intro h4 p1
      replace vc := vc h4 p1
      obtain ⟨t7, g8, hM, vc⟩ := vc
      refine go_aload_n 27 0 dX4_orbit_26 rfl rfl rfl ?_
      refine go_getI 30 dX4_orbit_27 rfl (MO_k hM.1) gfX4_364_5 rfl ?_
      exact go_ireturn dX4_orbit_30 rfl vc
    · replace vc := vc.2 (bI_0.mp e2)
      refine go_iconst (v := (-1)) 18 dX4_orbit_17 rfl (by decide) ?_
      exact go_ireturn dX4_orbit_18 rfl vc

theorem bX4_tableOf_0 {h : Hp} {b : Nat × Nat} {Q : Rs → Hp → Prop} {o : Nat} {x1 : Int32} {x2 : Int32} {t : St} {g : Nat} (hM : MS h o t g) (vc : (vp_in x1 13 ∧ (nt x1) < ns t ∧ (vp_in x2 13 ∧ (nt x2) < ns t ∧ (((nI (nc t (nt x1))) = (nI (nc t (nt x2))) → (∃ (P4 : Hp → Prop), Ret mX4_findTurns 16 [vR (some o), vI x1, vI x2, vI (nI 0)] h 0 0 (RV P4) ∧ ∀ h3, P4 h3 → (∃ t6 g7, MS h3 o t6 g7 ∧ (((hFI h3 449 o) = 0 → Q (rI (-2)) h3) ∧ (¬ (hFI h3 449 o) = 0 → Q (rI (hFI h3 450 o)) h3))))) ∧ (¬ (nI (nc t (nt x1))) = (nI (nc t (nt x2))) → Q (rI (-2)) h))))) : AWP mX4_tableOf 17 0 [vR (some o), vI x1, vI x2] [] h b Q := by
  refine go_aload_n 1 0 dX4_tableOf_0 rfl rfl rfl ?_
  refine go_getRe 4 dX4_tableOf_1 rfl (MO_k hM.1) gfX4_7_5 rfl (MO_f1402 hM.1) ?_
  refine go_iload_n 5 1 dX4_tableOf_4 rfl rfl rfl ?_
  refine go_iaload 6 dX4_tableOf_5 rfl (MO_k1 hM.1) vc.1 ?_
  replace vc := vc.2
  rw [hM.a1 vc.1]
  replace vc := vc.2
  refine go_aload_n 7 0 dX4_tableOf_6 rfl rfl rfl ?_
  refine go_getRe 10 dX4_tableOf_7 rfl (MO_k hM.1) gfX4_7_5 rfl (MO_f1402 hM.1) ?_
  refine go_iload_n 11 2 dX4_tableOf_10 rfl rfl rfl ?_
  refine go_iaload 12 dX4_tableOf_11 rfl (MO_k1 hM.1) vc.1 ?_
  replace vc := vc.2
  rw [hM.a1 vc.1]
  replace vc := vc.2
  refine go_icmp_eq 15 18 dX4_tableOf_12 rfl (by decide) (fun e1 => ?_) (fun e1 => ?_)
  · replace vc := vc.1 e1
    refine go_aload_n 19 0 dX4_tableOf_18 rfl rfl rfl ?_
    refine go_iload_n 20 1 dX4_tableOf_19 rfl rfl rfl ?_
    refine go_iload_n 21 2 dX4_tableOf_20 rfl rfl rfl ?_
    refine go_iconst (v := nI 0) 22 dX4_tableOf_21 rfl (by decide) ?_
    obtain ⟨P4, hR, vc⟩ := vc
    refine go_callVV (M' := mX4_findTurns) (as := [vI x1, vI x2, vI (nI 0)]) 25 dX4_tableOf_22 rfl q1910 okX4_findTurns (MO_k hM.1) ck_4 rfl rfl rfl rfl rfl hR ?_
    intro h3 p1
    replace vc := vc h3 p1
    obtain ⟨t6, g7, hM, vc⟩ := vc
    refine go_aload_n 26 0 dX4_tableOf_25 rfl rfl rfl ?_
    refine go_getI 29 dX4_tableOf_26 rfl (MO_k hM.1) gfX4_370_5 rfl ?_
    refine go_if_eq 32 39 dX4_tableOf_29 rfl (by decide) (fun e8 => ?_) (fun e8 => ?_)
    · replace vc := vc.1 e8
      refine go_bipush (v := (-2)) 41 dX4_tableOf_39 rfl (by decide) ?_
      exact go_ireturn dX4_tableOf_41 rfl vc
    · replace vc := vc.2 e8
      refine go_aload_n 33 0 dX4_tableOf_32 rfl rfl rfl ?_
      refine go_getI 36 dX4_tableOf_33 rfl (MO_k hM.1) gfX4_374_5 rfl ?_
      refine go_goto 41 dX4_tableOf_36 (by decide) ?_
      exact go_ireturn dX4_tableOf_41 rfl vc
  · replace vc := vc.2 e1
    refine go_bipush (v := (-2)) 17 dX4_tableOf_15 rfl (by decide) ?_
    exact go_ireturn dX4_tableOf_17 rfl vc

theorem bX4_table_0 {h : Hp} {b : Nat × Nat} {Q : Rs → Hp → Prop} {o : Nat} {x1 : Int32} {x2 : Int32} {t : St} {g : Nat} (hM : MS h o t g) (vc : ((¬ (isSh t x1) → Q (rI (-1)) h) ∧ ((isSh t x1) → ((¬ (isSh t x2) → Q (rI (-1)) h) ∧ ((isSh t x2) → (∃ (P5 : Int32 → Hp → Prop), Ret mX4_tableOf 17 [vR (some o), vI x1, vI x2] h 0 0 (RI P5) ∧ ∀ z3 h4, P5 z3 h4 → (∃ t7 g8, MS h4 o t7 g8 ∧ Q (rI z3) h4))))))) : AWP mX4_table 18 0 [vR (some o), vI x1, vI x2] [] h b Q := by
  refine go_aload_n 1 0 dX4_table_0 rfl rfl rfl ?_
  refine go_iload_n 2 1 dX4_table_1 rfl rfl rfl ?_
  refine go_callVI (M' := mX4_isShape) (as := [vI x1]) 5 dX4_table_2 rfl q1769 okX4_isShape (MO_k hM.1) ck_4 rfl rfl rfl rfl rfl (ctX4_isShape hM) ?_
  intro x0 h0 p0
  rw [p0.1, p0.2]
  refine go_if_eq 8 25 dX4_table_5 rfl (by decide) (fun e1 => ?_) (fun e1 => ?_)
  · replace vc := vc.1 (bI_0.mp e1)
    refine go_iconst (v := (-1)) 26 dX4_table_25 rfl (by decide) ?_
    exact go_ireturn dX4_table_26 rfl vc
  · replace vc := vc.2 (bI_n0.mp e1)
    refine go_aload_n 9 0 dX4_table_8 rfl rfl rfl ?_
    refine go_iload_n 10 2 dX4_table_9 rfl rfl rfl ?_
    refine go_callVI (M' := mX4_isShape) (as := [vI x2]) 13 dX4_table_10 rfl q1769 okX4_isShape (MO_k hM.1) ck_4 rfl rfl rfl rfl rfl (ctX4_isShape hM) ?_
    intro x0 h0 p0
    rw [p0.1, p0.2]
    refine go_if_eq 16 25 dX4_table_13 rfl (by decide) (fun e2 => ?_) (fun e2 => ?_)
    · replace vc := vc.1 (bI_0.mp e2)
      refine go_iconst (v := (-1)) 26 dX4_table_25 rfl (by decide) ?_
      exact go_ireturn dX4_table_26 rfl vc
    · replace vc := vc.2 (bI_n0.mp e2)
      refine go_aload_n 17 0 dX4_table_16 rfl rfl rfl ?_
      refine go_iload_n 18 1 dX4_table_17 rfl rfl rfl ?_
      refine go_iload_n 19 2 dX4_table_18 rfl rfl rfl ?_
      obtain ⟨P5, hR, vc⟩ := vc
      refine go_callVI (M' := mX4_tableOf) (as := [vI x1, vI x2]) 22 dX4_table_19 rfl q1934 okX4_tableOf (MO_k hM.1) ck_4 rfl rfl rfl rfl rfl hR ?_
      intro z3 h4 p1
      replace vc := vc z3 h4 p1
      obtain ⟨t7, g8, hM, vc⟩ := vc
      refine go_goto 26 dX4_table_22 (by decide) ?_
      exact go_ireturn dX4_table_26 rfl vc

theorem bX4_alike_0 {h : Hp} {b : Nat × Nat} {Q : Rs → Hp → Prop} {o : Nat} {x1 : Int32} {x2 : Int32} {x3 : Int32} {t : St} {g : Nat} (hM : MS h o t g) (vc : ((¬ (isSh t x1) → Q (rI (-1)) h) ∧ ((isSh t x1) → ((¬ (isSh t x2) → Q (rI (-1)) h) ∧ ((isSh t x2) → (((bt x3 0 1) → (∃ (P6 : Int32 → Hp → Prop), Ret mX4_soundAlike 15 [vR (some o), vI x1, vI x2] h 0 0 (RI P6) ∧ ∀ z4 h5, P6 z4 h5 → (∃ t8 g9, MS h5 o t8 g9 ∧ ((¬ z4 = 0 → ((x3 = 0 → Q (rI (nI 1)) h5) ∧ (¬ x3 = 0 → (∃ (P14 : Int32 → Hp → Prop), Ret mX4_tableOf 17 [vR (some o), vI x1, vI x2] h5 0 0 (RI P14) ∧ ∀ z12 h13, P14 z12 h13 → (∃ t16 g17, MS h13 o t16 g17 ∧ ((¬ z12 = (-2) → Q (rI (nI 0)) h13) ∧ (z12 = (-2) → Q (rI (nI 1)) h13))))))) ∧ (z4 = 0 → Q (rI (nI 0)) h5))))) ∧ (¬ (bt x3 0 1) → Q (rI (-1)) h))))))) : AWP mX4_alike 18 0 [vR (some o), vI x1, vI x2, vI x3] [] h b Q := by
  refine go_aload_n 1 0 dX4_alike_0 rfl rfl rfl ?_
  refine go_iload_n 2 1 dX4_alike_1 rfl rfl rfl ?_
  refine go_callVI (M' := mX4_isShape) (as := [vI x1]) 5 dX4_alike_2 rfl q1769 okX4_isShape (MO_k hM.1) ck_4 rfl rfl rfl rfl rfl (ctX4_isShape hM) ?_
  intro x0 h0 p0
  rw [p0.1, p0.2]
  refine go_if_eq 8 25 dX4_alike_5 rfl (by decide) (fun e1 => ?_) (fun e1 => ?_)
  · replace vc := vc.1 (bI_0.mp e1)
    refine go_iconst (v := (-1)) 26 dX4_alike_25 rfl (by decide) ?_
    exact go_ireturn dX4_alike_26 rfl vc
  · replace vc := vc.2 (bI_n0.mp e1)
    refine go_aload_n 9 0 dX4_alike_8 rfl rfl rfl ?_
    refine go_iload_n 10 2 dX4_alike_9 rfl rfl rfl ?_
    refine go_callVI (M' := mX4_isShape) (as := [vI x2]) 13 dX4_alike_10 rfl q1769 okX4_isShape (MO_k hM.1) ck_4 rfl rfl rfl rfl rfl (ctX4_isShape hM) ?_
    intro x0 h0 p0
    rw [p0.1, p0.2]
    refine go_if_eq 16 25 dX4_alike_13 rfl (by decide) (fun e2 => ?_) (fun e2 => ?_)
    · replace vc := vc.1 (bI_0.mp e2)
      refine go_iconst (v := (-1)) 26 dX4_alike_25 rfl (by decide) ?_
      exact go_ireturn dX4_alike_26 rfl vc
    · replace vc := vc.2 (bI_n0.mp e2)
      refine go_iload_n 17 3 dX4_alike_16 rfl rfl rfl ?_
      refine go_iconst (v := nI 0) 18 dX4_alike_17 rfl (by decide) ?_
      refine go_iconst (v := nI 1) 19 dX4_alike_18 rfl (by decide) ?_
      refine go_callSI (M' := mX4_in) (as := [vI x3, vI (nI 0), vI (nI 1)]) 22 dX4_alike_19 rfl q1703 okX4_in rfl rfl rfl rfl rfl (ctX4_inL rfl rfl) ?_
      intro x0 h0 p0
      rw [p0.1, p0.2]
      refine go_if_ne 25 27 dX4_alike_22 rfl (by decide) (fun e3 => ?_) (fun e3 => ?_)
      · replace vc := vc.1 (bI_n0.mp e3)
        refine go_aload_n 28 0 dX4_alike_27 rfl rfl rfl ?_
        refine go_iload_n 29 1 dX4_alike_28 rfl rfl rfl ?_
        refine go_iload_n 30 2 dX4_alike_29 rfl rfl rfl ?_
        obtain ⟨P6, hR, vc⟩ := vc
        refine go_callVI (M' := mX4_soundAlike) (as := [vI x1, vI x2]) 33 dX4_alike_30 rfl q1942 okX4_soundAlike (MO_k hM.1) ck_4 rfl rfl rfl rfl rfl hR ?_
        intro z4 h5 p1
        replace vc := vc z4 h5 p1
        obtain ⟨t8, g9, hM, vc⟩ := vc
        refine go_if_ne 36 38 dX4_alike_33 rfl (by decide) (fun e10 => ?_) (fun e10 => ?_)
        · replace vc := vc.1 e10
          refine go_iload_n 39 3 dX4_alike_38 rfl rfl rfl ?_
          refine go_if_eq 42 53 dX4_alike_39 rfl (by decide) (fun e11 => ?_) (fun e11 => ?_)
          · replace vc := vc.1 e11
            refine go_iconst (v := nI 1) 54 dX4_alike_53 rfl (by decide) ?_
            refine go_goto 58 dX4_alike_54 (by decide) ?_
            exact go_ireturn dX4_alike_58 rfl vc
          · replace vc := vc.2 e11
            refine go_aload_n 43 0 dX4_alike_42 rfl rfl rfl ?_
            refine go_iload_n 44 1 dX4_alike_43 rfl rfl rfl ?_
            refine go_iload_n 45 2 dX4_alike_44 rfl rfl rfl ?_
            obtain ⟨P14, hR, vc⟩ := vc
            refine go_callVI (M' := mX4_tableOf) (as := [vI x1, vI x2]) 48 dX4_alike_45 rfl q1934 okX4_tableOf (MO_k hM.1) ck_4 rfl rfl rfl rfl rfl hR ?_
            intro z12 h13 p1
            replace vc := vc z12 h13 p1
            obtain ⟨t16, g17, hM, vc⟩ := vc
            refine go_bipush (v := (-2)) 50 dX4_alike_48 rfl (by decide) ?_
            refine go_icmp_ne 53 57 dX4_alike_50 rfl (by decide) (fun e18 => ?_) (fun e18 => ?_)
            · replace vc := vc.1 e18
              refine go_iconst (v := nI 0) 58 dX4_alike_57 rfl (by decide) ?_
              exact go_ireturn dX4_alike_58 rfl vc
            · replace vc := vc.2 e18
              refine go_iconst (v := nI 1) 54 dX4_alike_53 rfl (by decide) ?_
              refine go_goto 58 dX4_alike_54 (by decide) ?_
              exact go_ireturn dX4_alike_58 rfl vc
        · replace vc := vc.2 e10
          refine go_iconst (v := nI 0) 37 dX4_alike_36 rfl (by decide) ?_
          exact go_ireturn dX4_alike_37 rfl vc
      · replace vc := vc.2 (bI_0.mp e3)
        refine go_iconst (v := (-1)) 26 dX4_alike_25 rfl (by decide) ?_
        exact go_ireturn dX4_alike_26 rfl vc
