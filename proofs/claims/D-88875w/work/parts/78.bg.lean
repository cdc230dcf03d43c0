theorem bX4_digest_0 {h : Hp} {b : Nat × Nat} {Q : Rs → Hp → Prop} {o : Nat}  {t : St} {g : Nat} (hM : MS h o t g) (vc : AWP mX4_digest 1 5 [vR (some o), vI (nI 7), vI (nI 0), vU, vU] [] h b Q) : AWP mX4_digest 1 0 [vR (some o), vU, vU, vU, vU] [] h b Q := by
  refine go_bipush (v := nI 7) 2 dX4_digest_0 rfl (by decide) ?_
  refine go_istore_n 3 1 [vR (some o), vI (nI 7), vU, vU, vU] dX4_digest_2 rfl rfl rfl rfl ?_
  refine go_iconst (v := nI 0) 4 dX4_digest_3 rfl (by decide) ?_
  refine go_istore_n 5 2 [vR (some o), vI (nI 7), vI (nI 0), vU, vU] dX4_digest_4 rfl rfl rfl rfl ?_
  exact vc

theorem bX4_digest_5 {h : Hp} {b : Nat × Nat} {Q : Rs → Hp → Prop} {o : Nat} {x1 : Int32} {x2 : Int32} {y3 : AV} {y4 : AV} {t : St} {g : Nat} (hM : MS h o t g) (vc : (((nI (ns t)) ≤ x2 → Q (rI x1) h) ∧ (¬ (nI (ns t)) ≤ x2 → AWP mX4_digest 1 18 [vR (some o), vI x1, vI x2, vI ((nI 6) * x2), y4] [] h b Q))) : AWP mX4_digest 1 5 [vR (some o), vI x1, vI x2, y3, y4] [] h b Q := by
  refine go_iload_n 6 2 dX4_digest_5 rfl rfl rfl ?_
  refine go_aload_n 7 0 dX4_digest_6 rfl rfl rfl ?_
  refine go_getI 10 dX4_digest_7 rfl (MO_k hM.1) gfX4_200_5 rfl ?_
  rw [hM.f401]
  refine go_icmp_ge 13 214 dX4_digest_10 rfl (by decide) (fun e1 => ?_) (fun e1 => ?_)
  · replace vc := vc.1 e1
    refine go_iload_n 215 1 dX4_digest_214 rfl rfl rfl ?_
    exact go_ireturn dX4_digest_215 rfl vc
  · replace vc := vc.2 e1
    refine go_bipush (v := nI 6) 15 dX4_digest_13 rfl (by decide) ?_
    refine go_iload_n 16 2 dX4_digest_15 rfl rfl rfl ?_
    refine go_imul 17 dX4_digest_16 rfl ?_
    refine go_istore_n 18 3 [vR (some o), vI x1, vI x2, vI ((nI 6) * x2), y4] dX4_digest_17 rfl rfl rfl rfl ?_
    exact vc

theorem bX4_digest_18 {h : Hp} {b : Nat × Nat} {Q : Rs → Hp → Prop} {o : Nat} {x1 : Int32} {x2 : Int32} {x3 : Int32} {y4 : AV} {t : St} {g : Nat} (hM : MS h o t g) (vc : (vp_in x2 13 ∧ (nt x2) < ns t ∧ (((((nI 6) * x2) + (nI (nc t (nt x2)))) ≤ x3 → AWP mX4_digest 1 97 [vR (some o), vI x1, vI x2, vI (nI 0), y4] [] h b Q) ∧ (¬ (((nI 6) * x2) + (nI (nc t (nt x2)))) ≤ x3 → (vp_in x3 78 ∧ (nt x3) < 6 * ns t ∧ (vp_in x3 78 ∧ (nt x3) < 6 * ns t ∧ (vp_in x3 78 ∧ (nt x3) < 6 * ns t ∧ (vp_in x3 78 ∧ (nt x3) < 6 * ns t ∧ (((hl t (nt x3)) = 0 → AWP mX4_digest 1 18 [vR (some o), vI ((((((((x1 * (nI 31)) + (hv t (nt x3))) * (nI 31)) + (pd t (nt x3))) * (nI 31)) + (wg t (nt x3))) * (nI 31)) + (nI 0)), vI x2, vI (x3 + nI 1), y4] [] h b Q) ∧ (¬ (hl t (nt x3)) = 0 → AWP mX4_digest 1 18 [vR (some o), vI ((((((((x1 * (nI 31)) + (hv t (nt x3))) * (nI 31)) + (pd t (nt x3))) * (nI 31)) + (wg t (nt x3))) * (nI 31)) + (nI 1)), vI x2, vI (x3 + nI 1), y4] [] h b Q)))))))))) : AWP mX4_digest 1 18 [vR (some o), vI x1, vI x2, vI x3, y4] [] h b Q := by
  refine go_iload_n 19 3 dX4_digest_18 rfl rfl rfl ?_
  refine go_bipush (v := nI 6) 21 dX4_digest_19 rfl (by decide) ?_
  refine go_iload_n 22 2 dX4_digest_21 rfl rfl rfl ?_
  refine go_imul 23 dX4_digest_22 rfl ?_
  refine go_aload_n 24 0 dX4_digest_23 rfl rfl rfl ?_
  refine go_getRe 27 dX4_digest_24 rfl (MO_k hM.1) gfX4_7_5 rfl (MO_f1402 hM.1) ?_
  refine go_iload_n 28 2 dX4_digest_27 rfl rfl rfl ?_
  refine go_iaload 29 dX4_digest_28 rfl (MO_k1 hM.1) vc.1 ?_
  replace vc := vc.2
  rw [hM.a1 vc.1]
  replace vc := vc.2
  refine go_iadd 30 dX4_digest_29 rfl ?_
  refine go_icmp_ge 33 95 dX4_digest_30 rfl (by decide) (fun e1 => ?_) (fun e1 => ?_)
  · replace vc := vc.1 e1
    refine go_iconst (v := nI 0) 96 dX4_digest_95 rfl (by decide) ?_
    refine go_istore_n 97 3 [vR (some o), vI x1, vI x2, vI (nI 0), y4] dX4_digest_96 rfl rfl rfl rfl ?_
    exact vc
  · replace vc := vc.2 e1
    refine go_iload_n 34 1 dX4_digest_33 rfl rfl rfl ?_
    refine go_bipush (v := nI 31) 36 dX4_digest_34 rfl (by decide) ?_
    refine go_imul 37 dX4_digest_36 rfl ?_
    refine go_aload_n 38 0 dX4_digest_37 rfl rfl rfl ?_
    refine go_getRe 41 dX4_digest_38 rfl (MO_k hM.1) gfX4_13_5 rfl (MO_f1403 hM.1) ?_
    refine go_iload_n 42 3 dX4_digest_41 rfl rfl rfl ?_
    refine go_iaload 43 dX4_digest_42 rfl (MO_k2 hM.1) vc.1 ?_
    replace vc := vc.2
    rw [hM.a2 vc.1]
    replace vc := vc.2
    refine go_iadd 44 dX4_digest_43 rfl ?_
    refine go_istore_n 45 1 [vR (some o), vI ((x1 * (nI 31)) + (hv t (nt x3))), vI x2, vI x3, y4] dX4_digest_44 rfl rfl rfl rfl ?_
    refine go_iload_n 46 1 dX4_digest_45 rfl rfl rfl ?_
    refine go_bipush (v := nI 31) 48 dX4_digest_46 rfl (by decide) ?_
    refine go_imul 49 dX4_digest_48 rfl ?_
    refine go_aload_n 50 0 dX4_digest_49 rfl rfl rfl ?_
    refine go_getRe 53 dX4_digest_50 rfl (MO_k hM.1) gfX4_16_5 rfl (MO_f1404 hM.1) ?_
    refine go_iload_n 54 3 dX4_digest_53 rfl rfl rfl ?_
    refine go_iaload 55 dX4_digest_54 rfl (MO_k3 hM.1) vc.1 ?_
    replace vc := vc.2
    rw [hM.a3 vc.1]
    replace vc := vc.2
    refine go_iadd 56 dX4_digest_55 rfl ?_
    refine go_istore_n 57 1 [vR (some o), vI ((((x1 * (nI 31)) + (hv t (nt x3))) * (nI 31)) + (pd t (nt x3))), vI x2, vI x3, y4] dX4_digest_56 rfl rfl rfl rfl ?_
    refine go_iload_n 58 1 dX4_digest_57 rfl rfl rfl ?_
    refine go_bipush (v := nI 31) 60 dX4_digest_58 rfl (by decide) ?_
    refine go_imul 61 dX4_digest_60 rfl ?_
    refine go_aload_n 62 0 dX4_digest_61 rfl rfl rfl ?_
    refine go_getRe 65 dX4_digest_62 rfl (MO_k hM.1) gfX4_19_5 rfl (MO_f1405 hM.1) ?_
    refine go_iload_n 66 3 dX4_digest_65 rfl rfl rfl ?_
    refine go_iaload 67 dX4_digest_66 rfl (MO_k4 hM.1) vc.1 ?_
    replace vc := vc.2
    rw [hM.a4 vc.1]
    replace vc := vc.2
    refine go_iadd 68 dX4_digest_67 rfl ?_
    refine go_istore_n 69 1 [vR (some o), vI ((((((x1 * (nI 31)) + (hv t (nt x3))) * (nI 31)) + (pd t (nt x3))) * (nI 31)) + (wg t (nt x3))), vI x2, vI x3, y4] dX4_digest_68 rfl rfl rfl rfl ?_
    refine go_iload_n 70 1 dX4_digest_69 rfl rfl rfl ?_
    refine go_bipush (v := nI 31) 72 dX4_digest_70 rfl (by decide) ?_
    refine go_imul 73 dX4_digest_72 rfl ?_
    refine go_aload_n 74 0 dX4_digest_73 rfl rfl rfl ?_
    refine go_getRe 77 dX4_digest_74 rfl (MO_k hM.1) gfX4_22_5 rfl (MO_f1406 hM.1) ?_
    refine go_iload_n 78 3 dX4_digest_77 rfl rfl rfl ?_
    refine go_baloadZ 79 dX4_digest_78 rfl (MO_k5 hM.1) vc.1 ?_
    replace vc := vc.2
    rw [hM.a5 vc.1]
    replace vc := vc.2
    refine go_if_eq 82 86 dX4_digest_79 rfl (by decide) (fun e2 => ?_) (fun e2 => ?_)
    · replace vc := vc.1 e2
      refine go_iconst (v := nI 0) 87 dX4_digest_86 rfl (by decide) ?_
      refine go_iadd 88 dX4_digest_87 rfl ?_
      refine go_istore_n 89 1 [vR (some o), vI ((((((((x1 * (nI 31)) + (hv t (nt x3))) * (nI 31)) + (pd t (nt x3))) * (nI 31)) + (wg t (nt x3))) * (nI 31)) + (nI 0)), vI x2, vI x3, y4] dX4_digest_88 rfl rfl rfl rfl ?_
      refine go_iinc 92 (x3 + nI 1) [vR (some o), vI ((((((((x1 * (nI 31)) + (hv t (nt x3))) * (nI 31)) + (pd t (nt x3))) * (nI 31)) + (wg t (nt x3))) * (nI 31)) + (nI 0)), vI x2, vI (x3 + nI 1), y4] dX4_digest_89 rfl rfl (by rfl) rfl rfl ?_
      refine go_goto 18 dX4_digest_92 (by decide) ?_
      exact vc
    · replace vc := vc.2 e2
      refine go_iconst (v := nI 1) 83 dX4_digest_82 rfl (by decide) ?_
      refine go_goto 87 dX4_digest_83 (by decide) ?_
      refine go_iadd 88 dX4_digest_87 rfl ?_
      refine go_istore_n 89 1 [vR (some o), vI ((((((((x1 * (nI 31)) + (hv t (nt x3))) * (nI 31)) + (pd t (nt x3))) * (nI 31)) + (wg t (nt x3))) * (nI 31)) + (nI 1)), vI x2, vI x3, y4] dX4_digest_88 rfl rfl rfl rfl ?_
      refine go_iinc 92 (x3 + nI 1) [vR (some o), vI ((((((((x1 * (nI 31)) + (hv t (nt x3))) * (nI 31)) + (pd t (nt x3))) * (nI 31)) + (wg t (nt x3))) * (nI 31)) + (nI 1)), vI x2, vI (x3 + nI 1), y4] dX4_digest_89 rfl rfl (by rfl) rfl rfl ?_
      refine go_goto 18 dX4_digest_92 (by decide) ?_
      exact vc

theorem bX4_digest_97 {h : Hp} {b : Nat × Nat} {Q : Rs → Hp → Prop} {o : Nat} {x1 : Int32} {x2 : Int32} {x3 : Int32} {y4 : AV} {t : St} {g : Nat} (hM : MS h o t g) (vc : (((nI (nb t)) ≤ x3 → AWP mX4_digest 1 5 [vR (some o), vI x1, vI (x2 + nI 1), vI x3, y4] [] h b Q) ∧ (¬ (nI (nb t)) ≤ x3 → (vp_in x3 200 ∧ (nt x3) < nb t ∧ ((((nI (li t (nt x3))) - (nI 1)) < 0 → AWP mX4_digest 1 97 [vR (some o), vI x1, vI x2, vI (x3 + nI 1), vI ((nI (li t (nt x3))) - (nI 1))] [] h b Q) ∧ (¬ ((nI (li t (nt x3))) - (nI 1)) < 0 → (((((nI (li t (nt x3))) - (nI 1)) / (nI 36)) = x2 → AWP mX4_digest 1 132 [vR (some o), vI x1, vI x2, vI x3, vI ((nI (li t (nt x3))) - (nI 1))] [] h b Q) ∧ (¬ (((nI (li t (nt x3))) - (nI 1)) / (nI 36)) = x2 → AWP mX4_digest 1 97 [vR (some o), vI x1, vI x2, vI (x3 + nI 1), vI ((nI (li t (nt x3))) - (nI 1))] [] h b Q)))))))) : AWP mX4_digest 1 97 [vR (some o), vI x1, vI x2, vI x3, y4] [] h b Q := by
  refine go_iload_n 98 3 dX4_digest_97 rfl rfl rfl ?_
  refine go_aload_n 99 0 dX4_digest_98 rfl rfl rfl ?_
  refine go_getI 102 dX4_digest_99 rfl (MO_k hM.1) gfX4_261_5 rfl ?_
  rw [hM.f412]
  refine go_icmp_ge 105 208 dX4_digest_102 rfl (by decide) (fun e1 => ?_) (fun e1 => ?_)
  · replace vc := vc.1 e1
    refine go_iinc 211 (x2 + nI 1) [vR (some o), vI x1, vI (x2 + nI 1), vI x3, y4] dX4_digest_208 rfl rfl (by rfl) rfl rfl ?_
    refine go_goto 5 dX4_digest_211 (by decide) ?_
    exact vc
  · replace vc := vc.2 e1
    refine go_aload_n 106 0 dX4_digest_105 rfl rfl rfl ?_
    refine go_getRe 109 dX4_digest_106 rfl (MO_k hM.1) gfX4_44_5 rfl (MO_f1414 hM.1) ?_
    refine go_iload_n 110 3 dX4_digest_109 rfl rfl rfl ?_
    refine go_iaload 111 dX4_digest_110 rfl (MO_k12 hM.1) vc.1 ?_
    replace vc := vc.2
    rw [hM.a12 vc.1]
    replace vc := vc.2
    refine go_iconst (v := nI 1) 112 dX4_digest_111 rfl (by decide) ?_
    refine go_isub 113 dX4_digest_112 rfl ?_
    refine go_istore 115 [vR (some o), vI x1, vI x2, vI x3, vI ((nI (li t (nt x3))) - (nI 1))] dX4_digest_113 rfl rfl rfl ?_
    refine go_iload 117 dX4_digest_115 rfl rfl ?_
    refine go_if_lt 120 202 dX4_digest_117 rfl (by decide) (fun e2 => ?_) (fun e2 => ?_)
    · replace vc := vc.1 e2
      refine go_iinc 205 (x3 + nI 1) [vR (some o), vI x1, vI x2, vI (x3 + nI 1), vI ((nI (li t (nt x3))) - (nI 1))] dX4_digest_202 rfl rfl (by rfl) rfl rfl ?_
      refine go_goto 97 dX4_digest_205 (by decide) ?_
      exact vc
    · replace vc := vc.2 e2
      refine go_iload 122 dX4_digest_120 rfl rfl ?_
      refine go_bipush (v := nI 36) 124 dX4_digest_122 rfl (by decide) ?_
      refine go_idiv 125 dX4_digest_124 rfl (by decide) ?_
      refine go_iload_n 126 2 dX4_digest_125 rfl rfl rfl ?_
      refine go_icmp_eq 129 132 dX4_digest_126 rfl (by decide) (fun e3 => ?_) (fun e3 => ?_)
      · replace vc := vc.1 e3
        exact vc
      · replace vc := vc.2 e3
        refine go_goto 202 dX4_digest_129 (by decide) ?_
        refine go_iinc 205 (x3 + nI 1) [vR (some o), vI x1, vI x2, vI (x3 + nI 1), vI ((nI (li t (nt x3))) - (nI 1))] dX4_digest_202 rfl rfl (by rfl) rfl rfl ?_
        refine go_goto 97 dX4_digest_205 (by decide) ?_
        exact vc

theorem bX4_digest_132 {h : Hp} {b : Nat × Nat} {Q : Rs → Hp → Prop} {o : Nat} {x1 : Int32} {x2 : Int32} {x3 : Int32} {x4 : Int32} {t : St} {g : Nat} (hM : MS h o t g) (vc : (vp_in x4 468 ∧ (nt x4) < 36 * ns t ∧ (vp_in x4 468 ∧ (nt x4) < 36 * ns t ∧ AWP mX4_digest 1 97 [vR (some o), vI ((((((((x1 * (nI 31)) + (mnI ((x4 / (nI 6)) - (x4 / (nI 6)) / (nI 6) * (nI 6)) (x4 - x4 / (nI 6) * (nI 6)))) * (nI 31)) + (mxI ((x4 / (nI 6)) - (x4 / (nI 6)) / (nI 6) * (nI 6)) (x4 - x4 / (nI 6) * (nI 6)))) * (nI 31)) + (sf t (nt x4))) * (nI 31)) + (ck t (nt x4))), vI x2, vI (x3 + nI 1), vI x4] [] h b Q))) : AWP mX4_digest 1 132 [vR (some o), vI x1, vI x2, vI x3, vI x4] [] h b Q := by
  refine go_iload_n 133 1 dX4_digest_132 rfl rfl rfl ?_
  refine go_bipush (v := nI 31) 135 dX4_digest_133 rfl (by decide) ?_
  refine go_imul 136 dX4_digest_135 rfl ?_
  refine go_iload 138 dX4_digest_136 rfl rfl ?_
  refine go_bipush (v := nI 6) 140 dX4_digest_138 rfl (by decide) ?_
  refine go_idiv 141 dX4_digest_140 rfl (by decide) ?_
  refine go_bipush (v := nI 6) 143 dX4_digest_141 rfl (by decide) ?_
  refine go_irem 144 dX4_digest_143 rfl (by decide) ?_
  refine go_iload 146 dX4_digest_144 rfl rfl ?_
  refine go_bipush (v := nI 6) 148 dX4_digest_146 rfl (by decide) ?_
  refine go_irem 149 dX4_digest_148 rfl (by decide) ?_
  refine go_callSI (M' := mX4_lesser) (as := [vI ((x4 / (nI 6)) - (x4 / (nI 6)) / (nI 6) * (nI 6)), vI (x4 - x4 / (nI 6) * (nI 6))]) 152 dX4_digest_149 rfl q1810 okX4_lesser rfl rfl rfl rfl rfl (ctX4_lesser) ?_
  intro x0 h0 p0
  rw [p0.1, p0.2]
  refine go_iadd 153 dX4_digest_152 rfl ?_
  refine go_istore_n 154 1 [vR (some o), vI ((x1 * (nI 31)) + (mnI ((x4 / (nI 6)) - (x4 / (nI 6)) / (nI 6) * (nI 6)) (x4 - x4 / (nI 6) * (nI 6)))), vI x2, vI x3, vI x4] dX4_digest_153 rfl rfl rfl rfl ?_
  refine go_iload_n 155 1 dX4_digest_154 rfl rfl rfl ?_
  refine go_bipush (v := nI 31) 157 dX4_digest_155 rfl (by decide) ?_
  refine go_imul 158 dX4_digest_157 rfl ?_
  refine go_iload 160 dX4_digest_158 rfl rfl ?_
  refine go_bipush (v := nI 6) 162 dX4_digest_160 rfl (by decide) ?_
  refine go_idiv 163 dX4_digest_162 rfl (by decide) ?_
  refine go_bipush (v := nI 6) 165 dX4_digest_163 rfl (by decide) ?_
  refine go_irem 166 dX4_digest_165 rfl (by decide) ?_
  refine go_iload 168 dX4_digest_166 rfl rfl ?_
  refine go_bipush (v := nI 6) 170 dX4_digest_168 rfl (by decide) ?_
  refine go_irem 171 dX4_digest_170 rfl (by decide) ?_
  refine go_callSI (M' := mX4_greater) (as := [vI ((x4 / (nI 6)) - (x4 / (nI 6)) / (nI 6) * (nI 6)), vI (x4 - x4 / (nI 6) * (nI 6))]) 174 dX4_digest_171 rfl q1825 okX4_greater rfl rfl rfl rfl rfl (ctX4_greater) ?_
  intro x0 h0 p0
  rw [p0.1, p0.2]
  refine go_iadd 175 dX4_digest_174 rfl ?_
  refine go_istore_n 176 1 [vR (some o), vI ((((x1 * (nI 31)) + (mnI ((x4 / (nI 6)) - (x4 / (nI 6)) / (nI 6) * (nI 6)) (x4 - x4 / (nI 6) * (nI 6)))) * (nI 31)) + (mxI ((x4 / (nI 6)) - (x4 / (nI 6)) / (nI 6) * (nI 6)) (x4 - x4 / (nI 6) * (nI 6)))), vI x2, vI x3, vI x4] dX4_digest_175 rfl rfl rfl rfl ?_
  refine go_iload_n 177 1 dX4_digest_176 rfl rfl rfl ?_
  refine go_bipush (v := nI 31) 179 dX4_digest_177 rfl (by decide) ?_
  refine go_imul 180 dX4_digest_179 rfl ?_
  refine go_aload_n 181 0 dX4_digest_180 rfl rfl rfl ?_
  refine go_getRe 184 dX4_digest_181 rfl (MO_k hM.1) gfX4_26_5 rfl (MO_f1407 hM.1) ?_
  refine go_iload 186 dX4_digest_184 rfl rfl ?_
  refine go_iaload 187 dX4_digest_186 rfl (MO_k6 hM.1) vc.1 ?_
  replace vc := vc.2
  rw [hM.a6 vc.1]
  replace vc := vc.2
  refine go_iadd 188 dX4_digest_187 rfl ?_
  refine go_istore_n 189 1 [vR (some o), vI ((((((x1 * (nI 31)) + (mnI ((x4 / (nI 6)) - (x4 / (nI 6)) / (nI 6) * (nI 6)) (x4 - x4 / (nI 6) * (nI 6)))) * (nI 31)) + (mxI ((x4 / (nI 6)) - (x4 / (nI 6)) / (nI 6) * (nI 6)) (x4 - x4 / (nI 6) * (nI 6)))) * (nI 31)) + (sf t (nt x4))), vI x2, vI x3, vI x4] dX4_digest_188 rfl rfl rfl rfl ?_
  refine go_iload_n 190 1 dX4_digest_189 rfl rfl rfl ?_
  refine go_bipush (v := nI 31) 192 dX4_digest_190 rfl (by decide) ?_
  refine go_imul 193 dX4_digest_192 rfl ?_
  refine go_aload_n 194 0 dX4_digest_193 rfl rfl rfl ?_
  refine go_getRe 197 dX4_digest_194 rfl (MO_k hM.1) gfX4_29_5 rfl (MO_f1408 hM.1) ?_
  refine go_iload 199 dX4_digest_197 rfl rfl ?_
  refine go_iaload 200 dX4_digest_199 rfl (MO_k7 hM.1) vc.1 ?_
  replace vc := vc.2
  rw [hM.a7 vc.1]
  replace vc := vc.2
  refine go_iadd 201 dX4_digest_200 rfl ?_
  refine go_istore_n 202 1 [vR (some o), vI ((((((((x1 * (nI 31)) + (mnI ((x4 / (nI 6)) - (x4 / (nI 6)) / (nI 6) * (nI 6)) (x4 - x4 / (nI 6) * (nI 6)))) * (nI 31)) + (mxI ((x4 / (nI 6)) - (x4 / (nI 6)) / (nI 6) * (nI 6)) (x4 - x4 / (nI 6) * (nI 6)))) * (nI 31)) + (sf t (nt x4))) * (nI 31)) + (ck t (nt x4))), vI x2, vI x3, vI x4] dX4_digest_201 rfl rfl rfl rfl ?_
  refine go_iinc 205 (x3 + nI 1) [vR (some o), vI ((((((((x1 * (nI 31)) + (mnI ((x4 / (nI 6)) - (x4 / (nI 6)) / (nI 6) * (nI 6)) (x4 - x4 / (nI 6) * (nI 6)))) * (nI 31)) + (mxI ((x4 / (nI 6)) - (x4 / (nI 6)) / (nI 6) * (nI 6)) (x4 - x4 / (nI 6) * (nI 6)))) * (nI 31)) + (sf t (nt x4))) * (nI 31)) + (ck t (nt x4))), vI x2, vI (x3 + nI 1), vI x4] dX4_digest_202 rfl rfl (by rfl) rfl rfl ?_
  refine go_goto 97 dX4_digest_205 (by decide) ?_
  exact vc

theorem bX4_struck_0 {h : Hp} {b : Nat × Nat} {Q : Rs → Hp → Prop} {o : Nat} {x1 : Int32} {x2 : Int32} {t : St} {g : Nat} (hM : MS h o t g) (vc : (vp_in x1 8 ∧ (nt x1) < pm t ∧ (vp_in x1 8 ∧ (nt x1) < pm t ∧ ((0 ≤ (pb t (nt x1)) → (vp_in (nI 36 * (nI (ps t)) + nI 6 * (nI (pa t (nt x1))) + (pb t (nt x1))) 468 ∧ (nt (nI 36 * (nI (ps t)) + nI 6 * (nI (pa t (nt x1))) + (pb t (nt x1)))) < 36 * ns t ∧ (vp_in (nI 36 * (nI (ps t)) + nI 6 * (nI (pa t (nt x1))) + (pb t (nt x1))) 468 ∧ (nt (nI 36 * (nI (ps t)) + nI 6 * (nI (pa t (nt x1))) + (pb t (nt x1)))) < 36 * ns t ∧ (∃ (P4 : Hp → Prop), Ret mX4_setCount 0 [vR (some o), vI (nI (pa t (nt x1))), vI (pb t (nt x1)), vI (((sf t (nt (nI 36 * (nI (ps t)) + nI 6 * (nI (pa t (nt x1))) + (pb t (nt x1))))) - x2) - (mnI ((sf t (nt (nI 36 * (nI (ps t)) + nI 6 * (nI (pa t (nt x1))) + (pb t (nt x1))))) - x2) (ck t (nt (nI 36 * (nI (ps t)) + nI 6 * (nI (pa t (nt x1))) + (pb t (nt x1)))))))] h 0 0 (RV P4) ∧ ∀ h3, P4 h3 → (∃ t6 g7, MS h3 o t6 g7 ∧ ((((sf t (nt (nI 36 * (nI (ps t)) + nI 6 * (nI (pa t (nt x1))) + (pb t (nt x1))))) - x2) < (nI 1) → Q (rI (nI 0)) h3) ∧ (¬ ((sf t (nt (nI 36 * (nI (ps t)) + nI 6 * (nI (pa t (nt x1))) + (pb t (nt x1))))) - x2) < (nI 1) → Q (rI (nI 1)) h3))))))) ∧ (¬ 0 ≤ (pb t (nt x1)) → (vp_in (((nI 6) * (nI (ps t))) + (nI (pa t (nt x1)))) 78 ∧ (nt (((nI 6) * (nI (ps t))) + (nI (pa t (nt x1))))) < 6 * ns t ∧ (vp_in (((nI 6) * (nI (ps t))) + (nI (pa t (nt x1)))) 78 ∧ (nt (((nI 6) * (nI (ps t))) + (nI (pa t (nt x1))))) < 6 * ns t ∧ (vp_in (nI (pa t (nt x1))) 6 ∧ (∀ h9, h9 = w1 h (o + 23) (nt (nI (pa t (nt x1)))) (massO ((hv t (nt (((nI 6) * (nI (ps t))) + (nI (pa t (nt x1)))))) - x2) (wg t (nt (((nI 6) * (nI (ps t))) + (nI (pa t (nt x1))))))) → ((((hv t (nt (((nI 6) * (nI (ps t))) + (nI (pa t (nt x1)))))) - x2) < (nI 1) → Q (rI (nI 0)) h9) ∧ (¬ ((hv t (nt (((nI 6) * (nI (ps t))) + (nI (pa t (nt x1)))))) - x2) < (nI 1) → Q (rI (nI 1)) h9))))))))))) : AWP mX4_struck 1 0 [vR (some o), vI x1, vI x2, vU, vU, vU, vU] [] h b Q := by
  refine go_aload_n 1 0 dX4_struck_0 rfl rfl rfl ?_
  refine go_getI 4 dX4_struck_1 rfl (MO_k hM.1) gfX4_406_5 rfl ?_
  rw [hM.f452]
  refine go_istore_n 5 3 [vR (some o), vI x1, vI x2, vI (nI (ps t)), vU, vU, vU] dX4_struck_4 rfl rfl rfl rfl ?_
  refine go_aload_n 6 0 dX4_struck_5 rfl rfl rfl ?_
  refine go_getRe 9 dX4_struck_6 rfl (MO_k hM.1) gfX4_115_5 rfl (MO_f1453 hM.1) ?_
  refine go_iload_n 10 1 dX4_struck_9 rfl rfl rfl ?_
  refine go_iaload 11 dX4_struck_10 rfl (MO_k35 hM.1) vc.1 ?_
  replace vc := vc.2
  rw [hM.a35 vc.1]
  replace vc := vc.2
  refine go_istore 13 [vR (some o), vI x1, vI x2, vI (nI (ps t)), vI (nI (pa t (nt x1))), vU, vU] dX4_struck_11 rfl rfl rfl ?_
  refine go_aload_n 14 0 dX4_struck_13 rfl rfl rfl ?_
  refine go_getRe 17 dX4_struck_14 rfl (MO_k hM.1) gfX4_118_5 rfl (MO_f1454 hM.1) ?_
  refine go_iload_n 18 1 dX4_struck_17 rfl rfl rfl ?_
  refine go_iaload 19 dX4_struck_18 rfl (MO_k36 hM.1) vc.1 ?_
  replace vc := vc.2
  rw [hM.a36 vc.1]
  replace vc := vc.2
  refine go_istore 21 [vR (some o), vI x1, vI x2, vI (nI (ps t)), vI (nI (pa t (nt x1))), vI (pb t (nt x1)), vU] dX4_struck_19 rfl rfl rfl ?_
  refine go_iload 23 dX4_struck_21 rfl rfl ?_
  refine go_if_ge 26 78 dX4_struck_23 rfl (by decide) (fun e1 => ?_) (fun e1 => ?_)
  · replace vc := vc.1 e1
    refine go_aload_n 79 0 dX4_struck_78 rfl rfl rfl ?_
    refine go_getRe 82 dX4_struck_79 rfl (MO_k hM.1) gfX4_26_5 rfl (MO_f1407 hM.1) ?_
    refine go_iload_n 83 3 dX4_struck_82 rfl rfl rfl ?_
    refine go_iload 85 dX4_struck_83 rfl rfl ?_
    refine go_iload 87 dX4_struck_85 rfl rfl ?_
    refine go_callSI (M' := mX4_at) (as := [vI (nI (ps t)), vI (nI (pa t (nt x1))), vI (pb t (nt x1))]) 90 dX4_struck_87 rfl q1754 okX4_at rfl rfl rfl rfl rfl (ctX4_at) ?_
    intro x0 h0 p0
    rw [p0.1, p0.2]
    refine go_iaload 91 dX4_struck_90 rfl (MO_k6 hM.1) vc.1 ?_
    replace vc := vc.2
    rw [hM.a6 vc.1]
    replace vc := vc.2
    refine go_iload_n 92 2 dX4_struck_91 rfl rfl rfl ?_
    refine go_isub 93 dX4_struck_92 rfl ?_
    refine go_istore 95 [vR (some o), vI x1, vI x2, vI (nI (ps t)), vI (nI (pa t (nt x1))), vI (pb t (nt x1)), vI ((sf t (nt (nI 36 * (nI (ps t)) + nI 6 * (nI (pa t (nt x1))) + (pb t (nt x1))))) - x2)] dX4_struck_93 rfl rfl rfl ?_
    refine go_aload_n 96 0 dX4_struck_95 rfl rfl rfl ?_
    refine go_iload 98 dX4_struck_96 rfl rfl ?_
    refine go_iload 100 dX4_struck_98 rfl rfl ?_
    refine go_iload 102 dX4_struck_100 rfl rfl ?_
    refine go_iload 104 dX4_struck_102 rfl rfl ?_
    refine go_aload_n 105 0 dX4_struck_104 rfl rfl rfl ?_
    refine go_getRe 108 dX4_struck_105 rfl (MO_k hM.1) gfX4_29_5 rfl (MO_f1408 hM.1) ?_
    refine go_iload_n 109 3 dX4_struck_108 rfl rfl rfl ?_
    refine go_iload 111 dX4_struck_109 rfl rfl ?_
    refine go_iload 113 dX4_struck_111 rfl rfl ?_
    refine go_callSI (M' := mX4_at) (as := [vI (nI (ps t)), vI (nI (pa t (nt x1))), vI (pb t (nt x1))]) 116 dX4_struck_113 rfl q1754 okX4_at rfl rfl rfl rfl rfl (ctX4_at) ?_
    intro x0 h0 p0
    rw [p0.1, p0.2]
    refine go_iaload 117 dX4_struck_116 rfl (MO_k7 hM.1) vc.1 ?_
    replace vc := vc.2
    rw [hM.a7 vc.1]
    replace vc := vc.2
    refine go_callSI (M' := mX4_lesser) (as := [vI ((sf t (nt (nI 36 * (nI (ps t)) + nI 6 * (nI (pa t (nt x1))) + (pb t (nt x1))))) - x2), vI (ck t (nt (nI 36 * (nI (ps t)) + nI 6 * (nI (pa t (nt x1))) + (pb t (nt x1)))))]) 120 dX4_struck_117 rfl q1810 okX4_lesser rfl rfl rfl rfl rfl (ctX4_lesser) ?_
    intro x0 h0 p0
    rw [p0.1, p0.2]
    refine go_isub 121 dX4_struck_120 rfl ?_
    obtain ⟨P4, hR, vc⟩ := vc
    refine go_callVV (M' := mX4_setCount) (as := [vI (nI (pa t (nt x1))), vI (pb t (nt x1)), vI (((sf t (nt (nI 36 * (nI (ps t)) + nI 6 * (nI (pa t (nt x1))) + (pb t (nt x1))))) - x2) - (mnI ((sf t (nt (nI 36 * (nI (ps t)) + nI 6 * (nI (pa t (nt x1))) + (pb t (nt x1))))) - x2) (ck t (nt (nI 36 * (nI (ps t)) + nI 6 * (nI (pa t (nt x1))) + (pb t (nt x1)))))))]) 124 dX4_struck_121 rfl q1902 okX4_setCount (MO_k hM.1) ck_4 rfl rfl rfl rfl rfl hR ?_
    intro h3 p1
    replace vc := vc h3 p1
    obtain ⟨t6, g7, hM, vc⟩ := vc
    refine go_iload 126 dX4_struck_124 rfl rfl ?_
    refine go_iconst (v := nI 1) 127 dX4_struck_126 rfl (by decide) ?_
    refine go_icmp_lt 130 134 dX4_struck_127 rfl (by decide) (fun e8 => ?_) (fun e8 => ?_)
    · replace vc := vc.1 e8
      refine go_iconst (v := nI 0) 135 dX4_struck_134 rfl (by decide) ?_
      exact go_zreturn dX4_struck_135 rfl (by decide) vc
    · replace vc := vc.2 e8
      refine go_iconst (v := nI 1) 131 dX4_struck_130 rfl (by decide) ?_
      refine go_goto 135 dX4_struck_131 (by decide) ?_
      exact go_zreturn dX4_struck_135 rfl (by decide) vc
  · replace vc := vc.2 e1
    refine go_aload_n 27 0 dX4_struck_26 rfl rfl rfl ?_
    refine go_getRe 30 dX4_struck_27 rfl (MO_k hM.1) gfX4_13_5 rfl (MO_f1403 hM.1) ?_
    refine go_bipush (v := nI 6) 32 dX4_struck_30 rfl (by decide) ?_
    refine go_iload_n 33 3 dX4_struck_32 rfl rfl rfl ?_
    refine go_imul 34 dX4_struck_33 rfl ?_
    refine go_iload 36 dX4_struck_34 rfl rfl ?_
    refine go_iadd 37 dX4_struck_36 rfl ?_
    refine go_iaload 38 dX4_struck_37 rfl (MO_k2 hM.1) vc.1 ?_
    replace vc := vc.2
    rw [hM.a2 vc.1]
    replace vc := vc.2
    refine go_iload_n 39 2 dX4_struck_38 rfl rfl rfl ?_
    refine go_isub 40 dX4_struck_39 rfl ?_
    refine go_istore 42 [vR (some o), vI x1, vI x2, vI (nI (ps t)), vI (nI (pa t (nt x1))), vI (pb t (nt x1)), vI ((hv t (nt (((nI 6) * (nI (ps t))) + (nI (pa t (nt x1)))))) - x2)] dX4_struck_40 rfl rfl rfl ?_
    refine go_aload_n 43 0 dX4_struck_42 rfl rfl rfl ?_
    refine go_getRe 46 dX4_struck_43 rfl (MO_k hM.1) gfX4_78_5 rfl (MO_f1431 hM.1) ?_
    refine go_iload 48 dX4_struck_46 rfl rfl ?_
    refine go_iload 50 dX4_struck_48 rfl rfl ?_
    refine go_aload_n 51 0 dX4_struck_50 rfl rfl rfl ?_
    refine go_getRe 54 dX4_struck_51 rfl (MO_k hM.1) gfX4_19_5 rfl (MO_f1405 hM.1) ?_
    refine go_bipush (v := nI 6) 56 dX4_struck_54 rfl (by decide) ?_
    refine go_iload_n 57 3 dX4_struck_56 rfl rfl rfl ?_
    refine go_imul 58 dX4_struck_57 rfl ?_
    refine go_iload 60 dX4_struck_58 rfl rfl ?_
    refine go_iadd 61 dX4_struck_60 rfl ?_
    refine go_iaload 62 dX4_struck_61 rfl (MO_k4 hM.1) vc.1 ?_
    replace vc := vc.2
    rw [hM.a4 vc.1]
    replace vc := vc.2
    refine go_callSI (M' := mX4_massOf) (as := [vI ((hv t (nt (((nI 6) * (nI (ps t))) + (nI (pa t (nt x1)))))) - x2), vI (wg t (nt (((nI 6) * (nI (ps t))) + (nI (pa t (nt x1))))))]) 65 dX4_struck_62 rfl q1839 okX4_massOf rfl rfl rfl rfl rfl (ctX4_massOf) ?_
    intro x0 h0 p0
    rw [p0.1, p0.2]
    refine go_iastore 66 dX4_struck_65 rfl (MO_k23 hM.1) vc.1 ?_
    replace vc := vc.2
    refine AWP.nm fun h9 eh9 => ?_
    replace vc := vc h9 eh9
    have hM : MS h9 o t g := by rw [eh9]; exact hM.fr (PE.A rfl)
    refine go_iload 68 dX4_struck_66 rfl rfl ?_
    refine go_iconst (v := nI 1) 69 dX4_struck_68 rfl (by decide) ?_
    refine go_icmp_lt 72 76 dX4_struck_69 rfl (by decide) (fun e10 => ?_) (fun e10 => ?_)
    · replace vc := vc.1 e10
      refine go_iconst (v := nI 0) 77 dX4_struck_76 rfl (by decide) ?_
      exact go_zreturn dX4_struck_77 rfl (by decide) vc
    · replace vc := vc.2 e10
      refine go_iconst (v := nI 1) 73 dX4_struck_72 rfl (by decide) ?_
      refine go_goto 77 dX4_struck_73 (by decide) ?_
      exact go_zreturn dX4_struck_77 rfl (by decide) vc

theorem bX4_moved_0 {h : Hp} {b : Nat × Nat} {Q : Rs → Hp → Prop} {o : Nat} {x1 : Int32} {x2 : Int32} {x3 : Int32} {t : St} {g : Nat} (hM : MS h o t g) (vc : ((¬ ((nI 0) ≤ x1 ∧ x1 ≤ ((nI (pm t)) - (nI 1))) → Q (rI (-1)) h) ∧ (((nI 0) ≤ x1 ∧ x1 ≤ ((nI (pm t)) - (nI 1))) → (isSh t (nI (ps t)) ∧ ((¬ ((nI 0) ≤ x2 ∧ x2 ≤ ((nI (tones t (nt (nI (ps t))))) - (nI 1))) → Q (rI (-1)) h) ∧ (((nI 0) ≤ x2 ∧ x2 ≤ ((nI (tones t (nt (nI (ps t))))) - (nI 1))) → (((bt x3 1 9) → (∃ (P6 : Hp → Prop), Ret mX4_take 2 [vR (some o), vI (nI (ps t))] h 0 0 (RV P6) ∧ ∀ h5, P6 h5 → (∃ t8 g9, MS h5 o t8 g9 ∧ (∃ (P12 : Int32 → Hp → Prop), Ret mX4_struck 1 [vR (some o), vI x1, vI (nI 1)] h5 0 0 (RI P12) ∧ ∀ z10 h11, P12 z10 h11 → (∃ t14 g15, MS h11 o t14 g15 ∧ ((z10 = 0 → Q (rI (-4)) h11) ∧ (¬ z10 = 0 → (∃ (P19 : Int32 → Hp → Prop), Ret mX4_shutNow 16 [vR (some o), vI x2, vI x3] h11 0 0 (RI P19) ∧ ∀ z17 h18, P19 z17 h18 → (∃ t21 g22, MS h18 o t21 g22 ∧ Q (rI z17) h18))))))))) ∧ (¬ (bt x3 1 9) → Q (rI (-1)) h)))))))) : AWP mX4_moved 17 0 [vR (some o), vI x1, vI x2, vI x3] [] h b Q := by
  refine go_iload_n 1 1 dX4_moved_0 rfl rfl rfl ?_
  refine go_iconst (v := nI 0) 2 dX4_moved_1 rfl (by decide) ?_
  refine go_aload_n 3 0 dX4_moved_2 rfl rfl rfl ?_
  refine go_getI 6 dX4_moved_3 rfl (MO_k hM.1) gfX4_403_5 rfl ?_
  rw [hM.f451]
  refine go_iconst (v := nI 1) 7 dX4_moved_6 rfl (by decide) ?_
  refine go_isub 8 dX4_moved_7 rfl ?_
  refine go_callSI (M' := mX4_in) (as := [vI x1, vI (nI 0), vI ((nI (pm t)) - (nI 1))]) 11 dX4_moved_8 rfl q1703 okX4_in rfl rfl rfl rfl rfl (ctX4_in) ?_
  intro x0 h0 p0
  rw [p0.1, p0.2]
  refine go_if_eq 14 42 dX4_moved_11 rfl (by decide) (fun e1 => ?_) (fun e1 => ?_)
  · replace vc := vc.1 (bI_0.mp e1)
    refine go_iconst (v := (-1)) 43 dX4_moved_42 rfl (by decide) ?_
    exact go_ireturn dX4_moved_43 rfl vc
  · replace vc := vc.2 (bI_n0.mp e1)
    refine go_iload_n 15 2 dX4_moved_14 rfl rfl rfl ?_
    refine go_iconst (v := nI 0) 16 dX4_moved_15 rfl (by decide) ?_
    refine go_aload_n 17 0 dX4_moved_16 rfl rfl rfl ?_
    refine go_aload_n 18 0 dX4_moved_17 rfl rfl rfl ?_
    refine go_getI 21 dX4_moved_18 rfl (MO_k hM.1) gfX4_406_5 rfl ?_
    rw [hM.f452]
    refine go_callVI (M' := mX4_tonesOf) (as := [vI (nI (ps t))]) 24 dX4_moved_21 rfl q1778 okX4_tonesOf (MO_k hM.1) ck_4 rfl rfl rfl rfl rfl (ctX4_tonesOf hM vc.1) ?_
    replace vc := vc.2
    intro x0 h0 p0
    rw [p0.1, p0.2]
    refine go_iconst (v := nI 1) 25 dX4_moved_24 rfl (by decide) ?_
    refine go_isub 26 dX4_moved_25 rfl ?_
    refine go_callSI (M' := mX4_in) (as := [vI x2, vI (nI 0), vI ((nI (tones t (nt (nI (ps t))))) - (nI 1))]) 29 dX4_moved_26 rfl q1703 okX4_in rfl rfl rfl rfl rfl (ctX4_in) ?_
    intro x0 h0 p0
    rw [p0.1, p0.2]
    refine go_if_eq 32 42 dX4_moved_29 rfl (by decide) (fun e2 => ?_) (fun e2 => ?_)
    · replace vc := vc.1 (bI_0.mp e2)
      refine go_iconst (v := (-1)) 43 dX4_moved_42 rfl (by decide) ?_
      exact go_ireturn dX4_moved_43 rfl vc
    · replace vc := vc.2 (bI_n0.mp e2)
      refine go_iload_n 33 3 dX4_moved_32 rfl rfl rfl ?_
      refine go_iconst (v := nI 1) 34 dX4_moved_33 rfl (by decide) ?_
      refine go_bipush (v := nI 9) 36 dX4_moved_34 rfl (by decide) ?_
      refine go_callSI (M' := mX4_in) (as := [vI x3, vI (nI 1), vI (nI 9)]) 39 dX4_moved_36 rfl q1703 okX4_in rfl rfl rfl rfl rfl (ctX4_inL rfl rfl) ?_
      intro x0 h0 p0
      rw [p0.1, p0.2]
      refine go_if_ne 42 44 dX4_moved_39 rfl (by decide) (fun e3 => ?_) (fun e3 => ?_)
      · replace vc := vc.1 (bI_n0.mp e3)
        refine go_aload_n 45 0 dX4_moved_44 rfl rfl rfl ?_
        refine go_aload_n 46 0 dX4_moved_45 rfl rfl rfl ?_
        refine go_getI 49 dX4_moved_46 rfl (MO_k hM.1) gfX4_406_5 rfl ?_
        rw [hM.f452]
        obtain ⟨P6, hR, vc⟩ := vc
        refine go_callVV (M' := mX4_take) (as := [vI (nI (ps t))]) 52 dX4_moved_49 rfl q1835 okX4_take (MO_k hM.1) ck_4 rfl rfl rfl rfl rfl hR ?_
        intro h5 p1
        replace vc := vc h5 p1
        obtain ⟨t8, g9, hM, vc⟩ := vc
        refine go_aload_n 53 0 dX4_moved_52 rfl rfl rfl ?_
        refine go_iload_n 54 1 dX4_moved_53 rfl rfl rfl ?_
        refine go_iconst (v := nI 1) 55 dX4_moved_54 rfl (by decide) ?_
        obtain ⟨P12, hR, vc⟩ := vc
        refine go_callVI (M' := mX4_struck) (as := [vI x1, vI (nI 1)]) 58 dX4_moved_55 rfl q1966 okX4_struck (MO_k hM.1) ck_4 rfl rfl rfl rfl rfl hR ?_
        intro z10 h11 p1
        replace vc := vc z10 h11 p1
        obtain ⟨t14, g15, hM, vc⟩ := vc
        refine go_if_eq 61 70 dX4_moved_58 rfl (by decide) (fun e16 => ?_) (fun e16 => ?_)
        · replace vc := vc.1 e16
          refine go_bipush (v := (-4)) 72 dX4_moved_70 rfl (by decide) ?_
          exact go_ireturn dX4_moved_72 rfl vc
        · replace vc := vc.2 e16
          refine go_aload_n 62 0 dX4_moved_61 rfl rfl rfl ?_
          refine go_iload_n 63 2 dX4_moved_62 rfl rfl rfl ?_
          refine go_iload_n 64 3 dX4_moved_63 rfl rfl rfl ?_
          obtain ⟨P19, hR, vc⟩ := vc
          refine go_callVI (M' := mX4_shutNow) (as := [vI x2, vI x3]) 67 dX4_moved_64 rfl q1874 okX4_shutNow (MO_k hM.1) ck_4 rfl rfl rfl rfl rfl hR ?_
          intro z17 h18 p1
          replace vc := vc z17 h18 p1
          obtain ⟨t21, g22, hM, vc⟩ := vc
          refine go_goto 72 dX4_moved_67 (by decide) ?_
          exact go_ireturn dX4_moved_72 rfl vc
      · replace vc := vc.2 (bI_0.mp e3)
        refine go_iconst (v := (-1)) 43 dX4_moved_42 rfl (by decide) ?_
        exact go_ireturn dX4_moved_43 rfl vc

theorem bX4_lacks_0 {h : Hp} {b : Nat × Nat} {Q : Rs → Hp → Prop} {o : Nat}  {t : St} {g : Nat} (hM : MS h o t g) (vc : (∃ (P3 : Hp → Prop), Ret mX4_take 2 [vR (some o), vI (nI (ps t))] h 0 0 (RV P3) ∧ ∀ h2, P3 h2 → (∃ t5 g6, MS h2 o t5 g6 ∧ AWP mX4_lacks 16 10 [vR (some o), vI (nI 0), vU, vU] [] h2 b Q))) : AWP mX4_lacks 16 0 [vR (some o), vU, vU, vU] [] h b Q := by
  refine go_aload_n 1 0 dX4_lacks_0 rfl rfl rfl ?_
  refine go_aload_n 2 0 dX4_lacks_1 rfl rfl rfl ?_
  refine go_getI 5 dX4_lacks_2 rfl (MO_k hM.1) gfX4_406_5 rfl ?_
  rw [hM.f452]
  obtain ⟨P3, hR, vc⟩ := vc
  refine go_callVV (M' := mX4_take) (as := [vI (nI (ps t))]) 8 dX4_lacks_5 rfl q1835 okX4_take (MO_k hM.1) ck_4 rfl rfl rfl rfl rfl hR ?_
  intro h2 p1
  replace vc := vc h2 p1
  obtain ⟨t5, g6, hM, vc⟩ := vc
  refine go_iconst (v := nI 0) 9 dX4_lacks_8 rfl (by decide) ?_
  refine go_istore_n 10 1 [vR (some o), vI (nI 0), vU, vU] dX4_lacks_9 rfl rfl rfl rfl ?_
  exact vc

theorem bX4_lacks_10 {h : Hp} {b : Nat × Nat} {Q : Rs → Hp → Prop} {o : Nat} {x1 : Int32} {t : St} {g : Nat} (hM : MS h o t g) (vc : (((nI (pm t)) ≤ x1 → AWP mX4_lacks 16 55 [vR (some o), vI (nI 0), vI (nI 0), vI (nI 0)] [] h b Q) ∧ (¬ (nI (pm t)) ≤ x1 → (vp_in x1 8 ∧ (((hAI h (o + 41) (nt x1)) ≤ 0 → AWP mX4_lacks 16 10 [vR (some o), vI (x1 + nI 1), vU, vU] [] h b Q) ∧ (¬ (hAI h (o + 41) (nt x1)) ≤ 0 → (vp_in x1 8 ∧ (∃ (P5 : Int32 → Hp → Prop), Ret mX4_struck 1 [vR (some o), vI x1, vI (hAI h (o + 41) (nt x1))] h 0 0 (RI P5) ∧ ∀ z3 h4, P5 z3 h4 → (∃ t7 g8, MS h4 o t7 g8 ∧ ((¬ z3 = 0 → AWP mX4_lacks 16 10 [vR (some o), vI (x1 + nI 1), vU, vU] [] h4 b Q) ∧ (z3 = 0 → Q (rI (-1)) h4))))))))))) : AWP mX4_lacks 16 10 [vR (some o), vI x1, vU, vU] [] h b Q := by
  refine go_iload_n 11 1 dX4_lacks_10 rfl rfl rfl ?_
  refine go_aload_n 12 0 dX4_lacks_11 rfl rfl rfl ?_
  refine go_getI 15 dX4_lacks_12 rfl (MO_k hM.1) gfX4_403_5 rfl ?_
  rw [hM.f451]
  refine go_icmp_ge 18 49 dX4_lacks_15 rfl (by decide) (fun e1 => ?_) (fun e1 => ?_)
  · replace vc := vc.1 e1
    refine go_iconst (v := nI 0) 50 dX4_lacks_49 rfl (by decide) ?_
    refine go_istore_n 51 1 [vR (some o), vI (nI 0), vU, vU] dX4_lacks_50 rfl rfl rfl rfl ?_
    refine go_iconst (v := nI 0) 52 dX4_lacks_51 rfl (by decide) ?_
    refine go_istore_n 53 2 [vR (some o), vI (nI 0), vI (nI 0), vU] dX4_lacks_52 rfl rfl rfl rfl ?_
    refine go_iconst (v := nI 0) 54 dX4_lacks_53 rfl (by decide) ?_
    refine go_istore_n 55 3 [vR (some o), vI (nI 0), vI (nI 0), vI (nI 0)] dX4_lacks_54 rfl rfl rfl rfl ?_
    exact vc
  · replace vc := vc.2 e1
    refine go_aload_n 19 0 dX4_lacks_18 rfl rfl rfl ?_
    refine go_getRe 22 dX4_lacks_19 rfl (MO_k hM.1) gfX4_133_5 rfl (MO_f1460 hM.1) ?_
    refine go_iload_n 23 1 dX4_lacks_22 rfl rfl rfl ?_
    refine go_iaload 24 dX4_lacks_23 rfl (MO_k41 hM.1) vc.1 ?_
    replace vc := vc.2
    refine go_if_le 27 43 dX4_lacks_24 rfl (by decide) (fun e2 => ?_) (fun e2 => ?_)
    · replace vc := vc.1 e2
      refine go_iinc 46 (x1 + nI 1) [vR (some o), vI (x1 + nI 1), vU, vU] dX4_lacks_43 rfl rfl (by rfl) rfl rfl ?_
      refine go_goto 10 dX4_lacks_46 (by decide) ?_
      exact vc
    · replace vc := vc.2 e2
      refine go_aload_n 28 0 dX4_lacks_27 rfl rfl rfl ?_
      refine go_iload_n 29 1 dX4_lacks_28 rfl rfl rfl ?_
      refine go_aload_n 30 0 dX4_lacks_29 rfl rfl rfl ?_
      refine go_getRe 33 dX4_lacks_30 rfl (MO_k hM.1) gfX4_133_5 rfl (MO_f1460 hM.1) ?_
      refine go_iload_n 34 1 dX4_lacks_33 rfl rfl rfl ?_
      refine go_iaload 35 dX4_lacks_34 rfl (MO_k41 hM.1) vc.1 ?_
      replace vc := vc.2
      obtain ⟨P5, hR, vc⟩ := vc
      refine go_callVI (M' := mX4_struck) (as := [vI x1, vI (hAI h (o + 41) (nt x1))]) 38 dX4_lacks_35 rfl q1966 okX4_struck (MO_k hM.1) ck_4 rfl rfl rfl rfl rfl hR ?_
      intro z3 h4 p1
      replace vc := vc z3 h4 p1
      obtain ⟨t7, g8, hM, vc⟩ := vc
      refine go_if_ne 41 43 dX4_lacks_38 rfl (by decide) (fun e9 => ?_) (fun e9 => ?_)
      · replace vc := vc.1 e9
        refine go_iinc 46 (x1 + nI 1) [vR (some o), vI (x1 + nI 1), vU, vU] dX4_lacks_43 rfl rfl (by rfl) rfl rfl ?_
        refine go_goto 10 dX4_lacks_46 (by decide) ?_
        exact vc
      · replace vc := vc.2 e9
        refine go_iconst (v := (-1)) 42 dX4_lacks_41 rfl (by decide) ?_
        exact go_ireturn dX4_lacks_42 rfl vc

theorem bX4_lacks_55 {h : Hp} {b : Nat × Nat} {Q : Rs → Hp → Prop} {o : Nat} {x1 : Int32} {x2 : Int32} {x3 : Int32} {t : St} {g : Nat} (hM : MS h o t g) (vc : (((nI (wm t)) ≤ x3 → Q (rI x1) h) ∧ (¬ (nI (wm t)) ≤ x3 → ((x3 = 0 → (∃ (P5 : Hp → Prop), Ret mX4_forgetChanges 0 [vR (some o)] h 0 0 (RV P5) ∧ ∀ h4, P5 h4 → (∃ t7 g8, MS h4 o t7 g8 ∧ AWP mX4_lacks 16 81 [vR (some o), vI x1, vI x2, vI x3] [] h4 b Q))) ∧ (¬ x3 = 0 → (vp_in x3 6 ∧ (nt x3) < wm t ∧ (((wb t (nt x3)) = x2 → AWP mX4_lacks 16 81 [vR (some o), vI x1, vI x2, vI x3] [] h b Q) ∧ (¬ (wb t (nt x3)) = x2 → (∃ (P12 : Hp → Prop), Ret mX4_forgetChanges 0 [vR (some o)] h 0 0 (RV P12) ∧ ∀ h11, P12 h11 → (∃ t14 g15, MS h11 o t14 g15 ∧ AWP mX4_lacks 16 81 [vR (some o), vI x1, vI x2, vI x3] [] h11 b Q)))))))))) : AWP mX4_lacks 16 55 [vR (some o), vI x1, vI x2, vI x3] [] h b Q := by
  refine go_iload_n 56 3 dX4_lacks_55 rfl rfl rfl ?_
  refine go_aload_n 57 0 dX4_lacks_56 rfl rfl rfl ?_
  refine go_getI 60 dX4_lacks_57 rfl (MO_k hM.1) gfX4_409_5 rfl ?_
  rw [hM.f456]
  refine go_icmp_ge 63 118 dX4_lacks_60 rfl (by decide) (fun e1 => ?_) (fun e1 => ?_)
  · replace vc := vc.1 e1
    refine go_iload_n 119 1 dX4_lacks_118 rfl rfl rfl ?_
    exact go_ireturn dX4_lacks_119 rfl vc
  · replace vc := vc.2 e1
    refine go_iload_n 64 3 dX4_lacks_63 rfl rfl rfl ?_
    refine go_if_eq 67 77 dX4_lacks_64 rfl (by decide) (fun e2 => ?_) (fun e2 => ?_)
    · replace vc := vc.1 e2
      refine go_aload_n 78 0 dX4_lacks_77 rfl rfl rfl ?_
      obtain ⟨P5, hR, vc⟩ := vc
      refine go_callVV (M' := mX4_forgetChanges) (as := []) 81 dX4_lacks_78 rfl q1878 okX4_forgetChanges (MO_k hM.1) ck_4 rfl rfl rfl rfl rfl hR ?_
      intro h4 p1
      replace vc := vc h4 p1
      obtain ⟨t7, g8, hM, vc⟩ := vc
      exact vc
    · replace vc := vc.2 e2
      refine go_aload_n 68 0 dX4_lacks_67 rfl rfl rfl ?_
      refine go_getRe 71 dX4_lacks_68 rfl (MO_k hM.1) gfX4_127_5 rfl (MO_f1458 hM.1) ?_
      refine go_iload_n 72 3 dX4_lacks_71 rfl rfl rfl ?_
      refine go_iaload 73 dX4_lacks_72 rfl (MO_k39 hM.1) vc.1 ?_
      replace vc := vc.2
      rw [hM.a39 vc.1]
      replace vc := vc.2
      refine go_iload_n 74 2 dX4_lacks_73 rfl rfl rfl ?_
      refine go_icmp_eq 77 81 dX4_lacks_74 rfl (by decide) (fun e9 => ?_) (fun e9 => ?_)
      · replace vc := vc.1 e9
        exact vc
      · replace vc := vc.2 e9
        refine go_aload_n 78 0 dX4_lacks_77 rfl rfl rfl ?_
        obtain ⟨P12, hR, vc⟩ := vc
        refine go_callVV (M' := mX4_forgetChanges) (as := []) 81 dX4_lacks_78 rfl q1878 okX4_forgetChanges (MO_k hM.1) ck_4 rfl rfl rfl rfl rfl hR ?_
        intro h11 p1
        replace vc := vc h11 p1
        obtain ⟨t14, g15, hM, vc⟩ := vc
        exact vc

theorem bX4_lacks_81 {h : Hp} {b : Nat × Nat} {Q : Rs → Hp → Prop} {o : Nat} {x1 : Int32} {x2 : Int32} {x3 : Int32} {t : St} {g : Nat} (hM : MS h o t g) (vc : (vp_in x3 6 ∧ (nt x3) < wm t ∧ (vp_in x3 6 ∧ (nt x3) < wm t ∧ (∃ (P3 : Int32 → Hp → Prop), Ret mX4_shutOf 15 [vR (some o), vI (nI (wt t (nt x3))), vI (wb t (nt x3))] h 0 0 (RI P3) ∧ ∀ z1 h2, P3 z1 h2 → (∃ t5 g6, MS h2 o t5 g6 ∧ (vp_in x3 6 ∧ (nt x3) < wm t5 ∧ AWP mX4_lacks 16 55 [vR (some o), vI (x1 + (abI (z1 - (wi t5 (nt x3))))), vI (wb t (nt x3)), vI (x3 + nI 1)] [] h2 b Q)))))) : AWP mX4_lacks 16 81 [vR (some o), vI x1, vI x2, vI x3] [] h b Q := by
  refine go_aload_n 82 0 dX4_lacks_81 rfl rfl rfl ?_
  refine go_getRe 85 dX4_lacks_82 rfl (MO_k hM.1) gfX4_127_5 rfl (MO_f1458 hM.1) ?_
  refine go_iload_n 86 3 dX4_lacks_85 rfl rfl rfl ?_
  refine go_iaload 87 dX4_lacks_86 rfl (MO_k39 hM.1) vc.1 ?_
  replace vc := vc.2
  rw [hM.a39 vc.1]
  replace vc := vc.2
  refine go_istore_n 88 2 [vR (some o), vI x1, vI (wb t (nt x3)), vI x3] dX4_lacks_87 rfl rfl rfl rfl ?_
  refine go_iload_n 89 1 dX4_lacks_88 rfl rfl rfl ?_
  refine go_aload_n 90 0 dX4_lacks_89 rfl rfl rfl ?_
  refine go_aload_n 91 0 dX4_lacks_90 rfl rfl rfl ?_
  refine go_getRe 94 dX4_lacks_91 rfl (MO_k hM.1) gfX4_124_5 rfl (MO_f1457 hM.1) ?_
  refine go_iload_n 95 3 dX4_lacks_94 rfl rfl rfl ?_
  refine go_iaload 96 dX4_lacks_95 rfl (MO_k38 hM.1) vc.1 ?_
  replace vc := vc.2
  rw [hM.a38 vc.1]
  replace vc := vc.2
  refine go_iload_n 97 2 dX4_lacks_96 rfl rfl rfl ?_
  obtain ⟨P3, hR, vc⟩ := vc
  refine go_callVI (M' := mX4_shutOf) (as := [vI (nI (wt t (nt x3))), vI (wb t (nt x3))]) 100 dX4_lacks_97 rfl q1882 okX4_shutOf (MO_k hM.1) ck_4 rfl rfl rfl rfl rfl hR ?_
  intro z1 h2 p1
  replace vc := vc z1 h2 p1
  obtain ⟨t5, g6, hM, vc⟩ := vc
  refine go_aload_n 101 0 dX4_lacks_100 rfl rfl rfl ?_
  refine go_getRe 104 dX4_lacks_101 rfl (MO_k hM.1) gfX4_130_5 rfl (MO_f1459 hM.1) ?_
  refine go_iload_n 105 3 dX4_lacks_104 rfl rfl rfl ?_
  refine go_iaload 106 dX4_lacks_105 rfl (MO_k40 hM.1) vc.1 ?_
  replace vc := vc.2
  rw [hM.a40 vc.1]
  replace vc := vc.2
  refine go_isub 107 dX4_lacks_106 rfl ?_
  refine go_callSI (M' := mX4_sizeOf) (as := [vI (z1 - (wi t5 (nt x3)))]) 110 dX4_lacks_107 rfl q1982 okX4_sizeOf rfl rfl rfl rfl rfl (ctX4_sizeOf) ?_
  intro x0 h0 p0
  rw [p0.1, p0.2]
  refine go_iadd 111 dX4_lacks_110 rfl ?_
  refine go_istore_n 112 1 [vR (some o), vI (x1 + (abI (z1 - (wi t5 (nt x3))))), vI (wb t (nt x3)), vI x3] dX4_lacks_111 rfl rfl rfl rfl ?_
  refine go_iinc 115 (x3 + nI 1) [vR (some o), vI (x1 + (abI (z1 - (wi t5 (nt x3))))), vI (wb t (nt x3)), vI (x3 + nI 1)] dX4_lacks_112 rfl rfl (by rfl) rfl rfl ?_
  refine go_goto 55 dX4_lacks_115 (by decide) ?_
  exact vc

theorem bX4_digitsOf_0 {h : Hp} {b : Nat × Nat} {Q : Rs → Hp → Prop} {o : Nat}  {t : St} {g : Nat} (hM : MS h o t g) (vc : AWP mX4_digitsOf 0 4 [vR (some o), vI (nI 0), vI (nI 0), vU] [] h b Q) : AWP mX4_digitsOf 0 0 [vR (some o), vU, vU, vU] [] h b Q := by
  refine go_iconst (v := nI 0) 1 dX4_digitsOf_0 rfl (by decide) ?_
  refine go_istore_n 2 1 [vR (some o), vI (nI 0), vU, vU] dX4_digitsOf_1 rfl rfl rfl rfl ?_
  refine go_iconst (v := nI 0) 3 dX4_digitsOf_2 rfl (by decide) ?_
  refine go_istore_n 4 2 [vR (some o), vI (nI 0), vI (nI 0), vU] dX4_digitsOf_3 rfl rfl rfl rfl ?_
  exact vc

theorem bX4_digitsOf_4 {h : Hp} {b : Nat × Nat} {Q : Rs → Hp → Prop} {o : Nat} {x1 : Int32} {x2 : Int32} {y3 : AV} {t : St} {g : Nat} (hM : MS h o t g) (vc : (((nI (pm t)) ≤ x2 → Q (rI x1) h) ∧ (¬ (nI (pm t)) ≤ x2 → AWP mX4_digitsOf 0 14 [vR (some o), vI x1, vI x2, vI (nI 0)] [] h b Q))) : AWP mX4_digitsOf 0 4 [vR (some o), vI x1, vI x2, y3] [] h b Q := by
  refine go_iload_n 5 2 dX4_digitsOf_4 rfl rfl rfl ?_
  refine go_aload_n 6 0 dX4_digitsOf_5 rfl rfl rfl ?_
  refine go_getI 9 dX4_digitsOf_6 rfl (MO_k hM.1) gfX4_403_5 rfl ?_
  rw [hM.f451]
  refine go_icmp_ge 12 45 dX4_digitsOf_9 rfl (by decide) (fun e1 => ?_) (fun e1 => ?_)
  · replace vc := vc.1 e1
    refine go_iload_n 46 1 dX4_digitsOf_45 rfl rfl rfl ?_
    exact go_ireturn dX4_digitsOf_46 rfl vc
  · replace vc := vc.2 e1
    refine go_iconst (v := nI 0) 13 dX4_digitsOf_12 rfl (by decide) ?_
    refine go_istore_n 14 3 [vR (some o), vI x1, vI x2, vI (nI 0)] dX4_digitsOf_13 rfl rfl rfl rfl ?_
    exact vc

theorem bX4_digitsOf_14 {h : Hp} {b : Nat × Nat} {Q : Rs → Hp → Prop} {o : Nat} {x1 : Int32} {x2 : Int32} {x3 : Int32} {t : St} {g : Nat} (hM : MS h o t g) (vc : (vp_in x2 8 ∧ (((hAI h (o + 41) (nt x2)) ≤ x3 → AWP mX4_digitsOf 0 4 [vR (some o), vI x1, vI (x2 + nI 1), vI x3] [] h b Q) ∧ (¬ (hAI h (o + 41) (nt x2)) ≤ x3 → AWP mX4_digitsOf 0 14 [vR (some o), vI ((((nI 10) * x1) + x2) + (nI 1)), vI x2, vI (x3 + nI 1)] [] h b Q)))) : AWP mX4_digitsOf 0 14 [vR (some o), vI x1, vI x2, vI x3] [] h b Q := by
  refine go_iload_n 15 3 dX4_digitsOf_14 rfl rfl rfl ?_
  refine go_aload_n 16 0 dX4_digitsOf_15 rfl rfl rfl ?_
  refine go_getRe 19 dX4_digitsOf_16 rfl (MO_k hM.1) gfX4_133_5 rfl (MO_f1460 hM.1) ?_
  refine go_iload_n 20 2 dX4_digitsOf_19 rfl rfl rfl ?_
  refine go_iaload 21 dX4_digitsOf_20 rfl (MO_k41 hM.1) vc.1 ?_
  replace vc := vc.2
  refine go_icmp_ge 24 39 dX4_digitsOf_21 rfl (by decide) (fun e1 => ?_) (fun e1 => ?_)
  · replace vc := vc.1 e1
    refine go_iinc 42 (x2 + nI 1) [vR (some o), vI x1, vI (x2 + nI 1), vI x3] dX4_digitsOf_39 rfl rfl (by rfl) rfl rfl ?_
    refine go_goto 4 dX4_digitsOf_42 (by decide) ?_
    exact vc
  · replace vc := vc.2 e1
    refine go_bipush (v := nI 10) 26 dX4_digitsOf_24 rfl (by decide) ?_
    refine go_iload_n 27 1 dX4_digitsOf_26 rfl rfl rfl ?_
    refine go_imul 28 dX4_digitsOf_27 rfl ?_
    refine go_iload_n 29 2 dX4_digitsOf_28 rfl rfl rfl ?_
    refine go_iadd 30 dX4_digitsOf_29 rfl ?_
    refine go_iconst (v := nI 1) 31 dX4_digitsOf_30 rfl (by decide) ?_
    refine go_iadd 32 dX4_digitsOf_31 rfl ?_
    refine go_istore_n 33 1 [vR (some o), vI ((((nI 10) * x1) + x2) + (nI 1)), vI x2, vI x3] dX4_digitsOf_32 rfl rfl rfl rfl ?_
    refine go_iinc 36 (x3 + nI 1) [vR (some o), vI ((((nI 10) * x1) + x2) + (nI 1)), vI x2, vI (x3 + nI 1)] dX4_digitsOf_33 rfl rfl (by rfl) rfl rfl ?_
    refine go_goto 14 dX4_digitsOf_36 (by decide) ?_
    exact vc

theorem bX4_tuneOn_0 {d : Nat} {h : Hp} {b : Nat × Nat} {Q : Rs → Hp → Prop} {o : Nat} {x1 : Int32} {x2 : Int32} (hdp : 17 ≤ d) {t : St} {g : Nat} (hM : MS h o t g) (vc : ((¬ x1 = (nI (pm t)) → AWP mX4_tuneOn d 114 [vR (some o), vI x1, vI x2, vI (nI 0)] [] h b Q) ∧ (x1 = (nI (pm t)) → (∃ (P4 : Int32 → Hp → Prop), Ret mX4_lacks 16 [vR (some o)] h 0 0 (RI P4) ∧ ∀ z2 h3, P4 z2 h3 → (∃ t6 g7, MS h3 o t6 g7 ∧ ((0 ≤ z2 → (((hFI h3 463 o) < 0 → (∀ h10, h10 = sFI h3 463 o z2 → (∀ h11, h11 = sFI h10 464 o x2 → AWP mX4_tuneOn d 59 [vR (some o), vI x1, vI x2, vI z2] [] h11 b Q))) ∧ (¬ (hFI h3 463 o) < 0 → ((z2 < (hFI h3 463 o) → (∀ h13, h13 = sFI h3 463 o z2 → (∀ h14, h14 = sFI h13 464 o x2 → AWP mX4_tuneOn d 59 [vR (some o), vI x1, vI x2, vI z2] [] h14 b Q))) ∧ (¬ z2 < (hFI h3 463 o) → ((¬ z2 = (hFI h3 463 o) → AWP mX4_tuneOn d 59 [vR (some o), vI x1, vI x2, vI z2] [] h3 b Q) ∧ (z2 = (hFI h3 463 o) → (((hFI h3 464 o) ≤ x2 → AWP mX4_tuneOn d 59 [vR (some o), vI x1, vI x2, vI z2] [] h3 b Q) ∧ (¬ (hFI h3 464 o) ≤ x2 → (∀ h17, h17 = sFI h3 463 o z2 → (∀ h18, h18 = sFI h17 464 o x2 → AWP mX4_tuneOn d 59 [vR (some o), vI x1, vI x2, vI z2] [] h18 b Q))))))))))) ∧ (¬ 0 ≤ z2 → Q rV h3))))))) : AWP mX4_tuneOn d 0 [vR (some o), vI x1, vI x2, vU] [] h b Q := by
  refine go_iload_n 1 1 dX4_tuneOn_0 rfl rfl rfl ?_
  refine go_aload_n 2 0 dX4_tuneOn_1 rfl rfl rfl ?_
  refine go_getI 5 dX4_tuneOn_2 rfl (MO_k hM.1) gfX4_403_5 rfl ?_
  rw [hM.f451]
  refine go_icmp_ne 8 112 dX4_tuneOn_5 rfl (by decide) (fun e1 => ?_) (fun e1 => ?_)
  · replace vc := vc.1 e1
    refine go_iconst (v := nI 0) 113 dX4_tuneOn_112 rfl (by decide) ?_
    refine go_istore_n 114 3 [vR (some o), vI x1, vI x2, vI (nI 0)] dX4_tuneOn_113 rfl rfl rfl rfl ?_
    exact vc
  · replace vc := vc.2 e1
    refine go_aload_n 9 0 dX4_tuneOn_8 rfl rfl rfl ?_
    obtain ⟨P4, hR, vc⟩ := vc
    refine go_callVI (M' := mX4_lacks) (as := []) 12 dX4_tuneOn_9 rfl q1978 okX4_lacks (MO_k hM.1) ck_4 rfl rfl rfl (ble_le (Nat.le_trans (by decide) hdp)) rfl hR ?_
    intro z2 h3 p1
    replace vc := vc z2 h3 p1
    obtain ⟨t6, g7, hM, vc⟩ := vc
    refine go_istore_n 13 3 [vR (some o), vI x1, vI x2, vI z2] dX4_tuneOn_12 rfl rfl rfl rfl ?_
    refine go_iload_n 14 3 dX4_tuneOn_13 rfl rfl rfl ?_
    refine go_if_ge 17 18 dX4_tuneOn_14 rfl (by decide) (fun e8 => ?_) (fun e8 => ?_)
    · replace vc := vc.1 e8
      refine go_aload_n 19 0 dX4_tuneOn_18 rfl rfl rfl ?_
      refine go_getI 22 dX4_tuneOn_19 rfl (MO_k hM.1) gfX4_421_5 rfl ?_
      refine go_if_lt 25 49 dX4_tuneOn_22 rfl (by decide) (fun e9 => ?_) (fun e9 => ?_)
      · replace vc := vc.1 e9
        refine go_aload_n 50 0 dX4_tuneOn_49 rfl rfl rfl ?_
        refine go_iload_n 51 3 dX4_tuneOn_50 rfl rfl rfl ?_
        refine go_putI 54 dX4_tuneOn_51 rfl (MO_k hM.1) (gpX4_421_5 _) rfl ?_
        refine AWP.nm fun h10 eh10 => ?_
        replace vc := vc h10 eh10
        have hM : MS h10 o t6 g7 := by rw [eh10]; exact hM.fr (PE.F rfl)
        refine go_aload_n 55 0 dX4_tuneOn_54 rfl rfl rfl ?_
        refine go_iload_n 56 2 dX4_tuneOn_55 rfl rfl rfl ?_
        refine go_putI 59 dX4_tuneOn_56 rfl (MO_k hM.1) (gpX4_424_5 _) rfl ?_
        refine AWP.nm fun h11 eh11 => ?_
        replace vc := vc h11 eh11
        have hM : MS h11 o t6 g7 := by rw [eh11]; exact hM.fr (PE.F rfl)
        exact vc
      · replace vc := vc.2 e9
        refine go_iload_n 26 3 dX4_tuneOn_25 rfl rfl rfl ?_
        refine go_aload_n 27 0 dX4_tuneOn_26 rfl rfl rfl ?_
        refine go_getI 30 dX4_tuneOn_27 rfl (MO_k hM.1) gfX4_421_5 rfl ?_
        refine go_icmp_lt 33 49 dX4_tuneOn_30 rfl (by decide) (fun e12 => ?_) (fun e12 => ?_)
        · replace vc := vc.1 e12
          refine go_aload_n 50 0 dX4_tuneOn_49 rfl rfl rfl ?_
          refine go_iload_n 51 3 dX4_tuneOn_50 rfl rfl rfl ?_
          refine go_putI 54 dX4_tuneOn_51 rfl (MO_k hM.1) (gpX4_421_5 _) rfl ?_
          refine AWP.nm fun h13 eh13 => ?_
          replace vc := vc h13 eh13
          have hM : MS h13 o t6 g7 := by rw [eh13]; exact hM.fr (PE.F rfl)
          refine go_aload_n 55 0 dX4_tuneOn_54 rfl rfl rfl ?_
          refine go_iload_n 56 2 dX4_tuneOn_55 rfl rfl rfl ?_
          refine go_putI 59 dX4_tuneOn_56 rfl (MO_k hM.1) (gpX4_424_5 _) rfl ?_
          refine AWP.nm fun h14 eh14 => ?_
          replace vc := vc h14 eh14
          have hM : MS h14 o t6 g7 := by rw [eh14]; exact hM.fr (PE.F rfl)
          exact vc
        · replace vc := vc.2 e12
          refine go_iload_n 34 3 dX4_tuneOn_33 rfl rfl rfl ?_
          refine go_aload_n 35 0 dX4_tuneOn_34 rfl rfl rfl ?_
          refine go_getI 38 dX4_tuneOn_35 rfl (MO_k hM.1) gfX4_421_5 rfl ?_
          refine go_icmp_ne 41 59 dX4_tuneOn_38 rfl (by decide) (fun e15 => ?_) (fun e15 => ?_)
          · replace vc := vc.1 e15
            exact vc
          · replace vc := vc.2 e15
            refine go_iload_n 42 2 dX4_tuneOn_41 rfl rfl rfl ?_
            refine go_aload_n 43 0 dX4_tuneOn_42 rfl rfl rfl ?_
            refine go_getI 46 dX4_tuneOn_43 rfl (MO_k hM.1) gfX4_424_5 rfl ?_
            refine go_icmp_ge 49 59 dX4_tuneOn_46 rfl (by decide) (fun e16 => ?_) (fun e16 => ?_)
            · replace vc := vc.1 e16
              exact vc
            · replace vc := vc.2 e16
              refine go_aload_n 50 0 dX4_tuneOn_49 rfl rfl rfl ?_
              refine go_iload_n 51 3 dX4_tuneOn_50 rfl rfl rfl ?_
              refine go_putI 54 dX4_tuneOn_51 rfl (MO_k hM.1) (gpX4_421_5 _) rfl ?_
              refine AWP.nm fun h17 eh17 => ?_
              replace vc := vc h17 eh17
              have hM : MS h17 o t6 g7 := by rw [eh17]; exact hM.fr (PE.F rfl)
              refine go_aload_n 55 0 dX4_tuneOn_54 rfl rfl rfl ?_
              refine go_iload_n 56 2 dX4_tuneOn_55 rfl rfl rfl ?_
              refine go_putI 59 dX4_tuneOn_56 rfl (MO_k hM.1) (gpX4_424_5 _) rfl ?_
              refine AWP.nm fun h18 eh18 => ?_
              replace vc := vc h18 eh18
              have hM : MS h18 o t6 g7 := by rw [eh18]; exact hM.fr (PE.F rfl)
              exact vc
    · replace vc := vc.2 e8
      exact go_return dX4_tuneOn_17 rfl vc

theorem bX4_tuneOn_59 {d : Nat} {h : Hp} {b : Nat × Nat} {Q : Rs → Hp → Prop} {o : Nat} {x1 : Int32} {x2 : Int32} {x3 : Int32} (hdp : 17 ≤ d) {t : St} {g : Nat} (hM : MS h o t g) (vc : ((0 < x3 → Q rV h) ∧ (¬ 0 < x3 → (((hFI h 461 o) < 0 → (∀ h3, h3 = sFI h 461 o x2 → (∃ (P6 : Int32 → Hp → Prop), Ret mX4_digitsOf 0 [vR (some o)] h3 0 0 (RI P6) ∧ ∀ z4 h5, P6 z4 h5 → (∃ t8 g9, MS h5 o t8 g9 ∧ (∀ h10, h10 = sFI h5 462 o z4 → Q rV h10))))) ∧ (¬ (hFI h 461 o) < 0 → (((hFI h 461 o) < x2 → Q rV h) ∧ (¬ (hFI h 461 o) < x2 → ((¬ x2 = (hFI h 461 o) → (∀ h13, h13 = sFI h 461 o x2 → (∃ (P16 : Int32 → Hp → Prop), Ret mX4_digitsOf 0 [vR (some o)] h13 0 0 (RI P16) ∧ ∀ z14 h15, P16 z14 h15 → (∃ t18 g19, MS h15 o t18 g19 ∧ (∀ h20, h20 = sFI h15 462 o z14 → Q rV h20))))) ∧ (x2 = (hFI h 461 o) → (∃ (P23 : Int32 → Hp → Prop), Ret mX4_digitsOf 0 [vR (some o)] h 0 0 (RI P23) ∧ ∀ z21 h22, P23 z21 h22 → (∃ t25 g26, MS h22 o t25 g26 ∧ ((z21 < (hFI h22 462 o) → (∀ h28, h28 = sFI h22 461 o x2 → (∃ (P31 : Int32 → Hp → Prop), Ret mX4_digitsOf 0 [vR (some o)] h28 0 0 (RI P31) ∧ ∀ z29 h30, P31 z29 h30 → (∃ t33 g34, MS h30 o t33 g34 ∧ (∀ h35, h35 = sFI h30 462 o z29 → Q rV h35))))) ∧ (¬ z21 < (hFI h22 462 o) → Q rV h22))))))))))))) : AWP mX4_tuneOn d 59 [vR (some o), vI x1, vI x2, vI x3] [] h b Q := by
  refine go_iload_n 60 3 dX4_tuneOn_59 rfl rfl rfl ?_
  refine go_if_gt 63 97 dX4_tuneOn_60 rfl (by decide) (fun e1 => ?_) (fun e1 => ?_)
  · replace vc := vc.1 e1
    exact go_return dX4_tuneOn_97 rfl vc
  · replace vc := vc.2 e1
    refine go_aload_n 64 0 dX4_tuneOn_63 rfl rfl rfl ?_
    refine go_getI 67 dX4_tuneOn_64 rfl (MO_k hM.1) gfX4_427_5 rfl ?_
    refine go_if_lt 70 98 dX4_tuneOn_67 rfl (by decide) (fun e2 => ?_) (fun e2 => ?_)
    · replace vc := vc.1 e2
      refine go_aload_n 99 0 dX4_tuneOn_98 rfl rfl rfl ?_
      refine go_iload_n 100 2 dX4_tuneOn_99 rfl rfl rfl ?_
      refine go_putI 103 dX4_tuneOn_100 rfl (MO_k hM.1) (gpX4_427_5 _) rfl ?_
      refine AWP.nm fun h3 eh3 => ?_
      replace vc := vc h3 eh3
      have hM : MS h3 o t g := by rw [eh3]; exact hM.fr (PE.F rfl)
      refine go_aload_n 104 0 dX4_tuneOn_103 rfl rfl rfl ?_
      refine go_aload_n 105 0 dX4_tuneOn_104 rfl rfl rfl ?_
      obtain ⟨P6, hR, vc⟩ := vc
      refine go_callVI (M' := mX4_digitsOf) (as := []) 108 dX4_tuneOn_105 rfl q1985 okX4_digitsOf (MO_k hM.1) ck_4 rfl rfl rfl (ble_le (Nat.le_trans (by decide) hdp)) rfl hR ?_
      intro z4 h5 p1
      replace vc := vc z4 h5 p1
      obtain ⟨t8, g9, hM, vc⟩ := vc
      refine go_putI 111 dX4_tuneOn_108 rfl (MO_k hM.1) (gpX4_433_5 _) rfl ?_
      refine AWP.nm fun h10 eh10 => ?_
      replace vc := vc h10 eh10
      have hM : MS h10 o t8 g9 := by rw [eh10]; exact hM.fr (PE.F rfl)
      exact go_return dX4_tuneOn_111 rfl vc
    · replace vc := vc.2 e2
      refine go_iload_n 71 2 dX4_tuneOn_70 rfl rfl rfl ?_
      refine go_aload_n 72 0 dX4_tuneOn_71 rfl rfl rfl ?_
      refine go_getI 75 dX4_tuneOn_72 rfl (MO_k hM.1) gfX4_427_5 rfl ?_
      refine go_icmp_gt 78 97 dX4_tuneOn_75 rfl (by decide) (fun e11 => ?_) (fun e11 => ?_)
      · replace vc := vc.1 e11
        exact go_return dX4_tuneOn_97 rfl vc
      · replace vc := vc.2 e11
        refine go_iload_n 79 2 dX4_tuneOn_78 rfl rfl rfl ?_
        refine go_aload_n 80 0 dX4_tuneOn_79 rfl rfl rfl ?_
        refine go_getI 83 dX4_tuneOn_80 rfl (MO_k hM.1) gfX4_427_5 rfl ?_
        refine go_icmp_ne 86 98 dX4_tuneOn_83 rfl (by decide) (fun e12 => ?_) (fun e12 => ?_)
        · replace vc := vc.1 e12
          refine go_aload_n 99 0 dX4_tuneOn_98 rfl rfl rfl ?_
          refine go_iload_n 100 2 dX4_tuneOn_99 rfl rfl rfl ?_
          refine go_putI 103 dX4_tuneOn_100 rfl (MO_k hM.1) (gpX4_427_5 _) rfl ?_
          refine AWP.nm fun h13 eh13 => ?_
          replace vc := vc h13 eh13
          have hM : MS h13 o t g := by rw [eh13]; exact hM.fr (PE.F rfl)
          refine go_aload_n 104 0 dX4_tuneOn_103 rfl rfl rfl ?_
          refine go_aload_n 105 0 dX4_tuneOn_104 rfl rfl rfl ?_
          obtain ⟨P16, hR, vc⟩ := vc
          refine go_callVI (M' := mX4_digitsOf) (as := []) 108 dX4_tuneOn_105 rfl q1985 okX4_digitsOf (MO_k hM.1) ck_4 rfl rfl rfl (ble_le (Nat.le_trans (by decide) hdp)) rfl hR ?_
          intro z14 h15 p1
          replace vc := vc z14 h15 p1
          obtain ⟨t18, g19, hM, vc⟩ := vc
          refine go_putI 111 dX4_tuneOn_108 rfl (MO_k hM.1) (gpX4_433_5 _) rfl ?_
          refine AWP.nm fun h20 eh20 => ?_
          replace vc := vc h20 eh20
          have hM : MS h20 o t18 g19 := by rw [eh20]; exact hM.fr (PE.F rfl)
          exact go_return dX4_tuneOn_111 rfl vc
        · replace vc := vc.2 e12
          refine go_aload_n 87 0 dX4_tuneOn_86 rfl rfl rfl ?_
          obtain ⟨P23, hR, vc⟩ := vc
          refine go_callVI (M' := mX4_digitsOf) (as := []) 90 dX4_tuneOn_87 rfl q1985 okX4_digitsOf (MO_k hM.1) ck_4 rfl rfl rfl (ble_le (Nat.le_trans (by decide) hdp)) rfl hR ?_
          intro z21 h22 p1
          replace vc := vc z21 h22 p1
          obtain ⟨t25, g26, hM, vc⟩ := vc
          refine go_aload_n 91 0 dX4_tuneOn_90 rfl rfl rfl ?_
          refine go_getI 94 dX4_tuneOn_91 rfl (MO_k hM.1) gfX4_433_5 rfl ?_
          refine go_icmp_lt 97 98 dX4_tuneOn_94 rfl (by decide) (fun e27 => ?_) (fun e27 => ?_)
          · replace vc := vc.1 e27
            refine go_aload_n 99 0 dX4_tuneOn_98 rfl rfl rfl ?_
            refine go_iload_n 100 2 dX4_tuneOn_99 rfl rfl rfl ?_
            refine go_putI 103 dX4_tuneOn_100 rfl (MO_k hM.1) (gpX4_427_5 _) rfl ?_
            refine AWP.nm fun h28 eh28 => ?_
            replace vc := vc h28 eh28
            have hM : MS h28 o t25 g26 := by rw [eh28]; exact hM.fr (PE.F rfl)
            refine go_aload_n 104 0 dX4_tuneOn_103 rfl rfl rfl ?_
            refine go_aload_n 105 0 dX4_tuneOn_104 rfl rfl rfl ?_
            obtain ⟨P31, hR, vc⟩ := vc
            refine go_callVI (M' := mX4_digitsOf) (as := []) 108 dX4_tuneOn_105 rfl q1985 okX4_digitsOf (MO_k hM.1) ck_4 rfl rfl rfl (ble_le (Nat.le_trans (by decide) hdp)) rfl hR ?_
            intro z29 h30 p1
            replace vc := vc z29 h30 p1
            obtain ⟨t33, g34, hM, vc⟩ := vc
            refine go_putI 111 dX4_tuneOn_108 rfl (MO_k hM.1) (gpX4_433_5 _) rfl ?_
            refine AWP.nm fun h35 eh35 => ?_
            replace vc := vc h35 eh35
            have hM : MS h35 o t33 g34 := by rw [eh35]; exact hM.fr (PE.F rfl)
            exact go_return dX4_tuneOn_111 rfl vc
          · replace vc := vc.2 e27
            exact go_return dX4_tuneOn_97 rfl vc

theorem bX4_tuneOn_114 {d : Nat} {h : Hp} {b : Nat × Nat} {Q : Rs → Hp → Prop} {o : Nat} {x1 : Int32} {x2 : Int32} {x3 : Int32} (hdp : 17 ≤ d) {t : St} {g : Nat} (hM : MS h o t g) (vc : (vp_in x1 8 ∧ (nt x1) < pm t ∧ (((nI (po t (nt x1))) < x3 → (vp_in x1 8 ∧ (∀ h2, h2 = w1 h (o + 41) (nt x1) (nI 0) → Q rV h2))) ∧ (¬ (nI (po t (nt x1))) < x3 → (((nI 4) < (x2 + x3) → (vp_in x1 8 ∧ (∀ h4, h4 = w1 h (o + 41) (nt x1) (nI 0) → Q rV h4))) ∧ (¬ (nI 4) < (x2 + x3) → (vp_in x1 8 ∧ (∀ h5, h5 = w1 h (o + 41) (nt x1) x3 → (∃ (P8 : Hp → Prop) (d9 : Nat), Nat.ble (d9 + 1) d = true ∧ Ret mX4_tuneOn d9 [vR (some o), vI (x1 + (nI 1)), vI (x2 + x3)] h5 0 0 (RV P8) ∧ ∀ h7, P8 h7 → (∃ t10 g11, MS h7 o t10 g11 ∧ AWP mX4_tuneOn d 114 [vR (some o), vI x1, vI x2, vI (x3 + nI 1)] [] h7 b Q)))))))))) : AWP mX4_tuneOn d 114 [vR (some o), vI x1, vI x2, vI x3] [] h b Q := by
  refine go_iload_n 115 3 dX4_tuneOn_114 rfl rfl rfl ?_
  refine go_aload_n 116 0 dX4_tuneOn_115 rfl rfl rfl ?_
  refine go_getRe 119 dX4_tuneOn_116 rfl (MO_k hM.1) gfX4_121_5 rfl (MO_f1455 hM.1) ?_
  refine go_iload_n 120 1 dX4_tuneOn_119 rfl rfl rfl ?_
  refine go_iaload 121 dX4_tuneOn_120 rfl (MO_k37 hM.1) vc.1 ?_
  replace vc := vc.2
  rw [hM.a37 vc.1]
  replace vc := vc.2
  refine go_icmp_gt 124 154 dX4_tuneOn_121 rfl (by decide) (fun e1 => ?_) (fun e1 => ?_)
  · replace vc := vc.1 e1
    refine go_aload_n 155 0 dX4_tuneOn_154 rfl rfl rfl ?_
    refine go_getRe 158 dX4_tuneOn_155 rfl (MO_k hM.1) gfX4_133_5 rfl (MO_f1460 hM.1) ?_
    refine go_iload_n 159 1 dX4_tuneOn_158 rfl rfl rfl ?_
    refine go_iconst (v := nI 0) 160 dX4_tuneOn_159 rfl (by decide) ?_
    refine go_iastore 161 dX4_tuneOn_160 rfl (MO_k41 hM.1) vc.1 ?_
    replace vc := vc.2
    refine AWP.nm fun h2 eh2 => ?_
    replace vc := vc h2 eh2
    have hM : MS h2 o t g := by rw [eh2]; exact hM.fr (PE.A rfl)
    exact go_return dX4_tuneOn_161 rfl vc
  · replace vc := vc.2 e1
    refine go_iload_n 125 2 dX4_tuneOn_124 rfl rfl rfl ?_
    refine go_iload_n 126 3 dX4_tuneOn_125 rfl rfl rfl ?_
    refine go_iadd 127 dX4_tuneOn_126 rfl ?_
    refine go_iconst (v := nI 4) 128 dX4_tuneOn_127 rfl (by decide) ?_
    refine go_icmp_gt 131 154 dX4_tuneOn_128 rfl (by decide) (fun e3 => ?_) (fun e3 => ?_)
    · replace vc := vc.1 e3
      refine go_aload_n 155 0 dX4_tuneOn_154 rfl rfl rfl ?_
      refine go_getRe 158 dX4_tuneOn_155 rfl (MO_k hM.1) gfX4_133_5 rfl (MO_f1460 hM.1) ?_
      refine go_iload_n 159 1 dX4_tuneOn_158 rfl rfl rfl ?_
      refine go_iconst (v := nI 0) 160 dX4_tuneOn_159 rfl (by decide) ?_
      refine go_iastore 161 dX4_tuneOn_160 rfl (MO_k41 hM.1) vc.1 ?_
      replace vc := vc.2
      refine AWP.nm fun h4 eh4 => ?_
      replace vc := vc h4 eh4
      have hM : MS h4 o t g := by rw [eh4]; exact hM.fr (PE.A rfl)
      exact go_return dX4_tuneOn_161 rfl vc
    · replace vc := vc.2 e3
      refine go_aload_n 132 0 dX4_tuneOn_131 rfl rfl rfl ?_
      refine go_getRe 135 dX4_tuneOn_132 rfl (MO_k hM.1) gfX4_133_5 rfl (MO_f1460 hM.1) ?_
      refine go_iload_n 136 1 dX4_tuneOn_135 rfl rfl rfl ?_
      refine go_iload_n 137 3 dX4_tuneOn_136 rfl rfl rfl ?_
      refine go_iastore 138 dX4_tuneOn_137 rfl (MO_k41 hM.1) vc.1 ?_
      replace vc := vc.2
      refine AWP.nm fun h5 eh5 => ?_
      replace vc := vc h5 eh5
      have hM : MS h5 o t g := by rw [eh5]; exact hM.fr (PE.A rfl)
      refine go_aload_n 139 0 dX4_tuneOn_138 rfl rfl rfl ?_
      refine go_iload_n 140 1 dX4_tuneOn_139 rfl rfl rfl ?_
      refine go_iconst (v := nI 1) 141 dX4_tuneOn_140 rfl (by decide) ?_
      refine go_iadd 142 dX4_tuneOn_141 rfl ?_
      refine go_iload_n 143 2 dX4_tuneOn_142 rfl rfl rfl ?_
      refine go_iload_n 144 3 dX4_tuneOn_143 rfl rfl rfl ?_
      refine go_iadd 145 dX4_tuneOn_144 rfl ?_
      obtain ⟨P8, d9, hD, hR, vc⟩ := vc
      refine go_callVV (M' := mX4_tuneOn) (as := [vI (x1 + (nI 1)), vI (x2 + x3)]) 148 dX4_tuneOn_145 rfl q1974 okX4_tuneOn (MO_k hM.1) ck_4 rfl rfl rfl hD rfl hR ?_
      intro h7 p1
      replace vc := vc h7 p1
      obtain ⟨t10, g11, hM, vc⟩ := vc
      refine go_iinc 151 (x3 + nI 1) [vR (some o), vI x1, vI x2, vI (x3 + nI 1)] dX4_tuneOn_148 rfl rfl (by rfl) rfl rfl ?_
      refine go_goto 114 dX4_tuneOn_151 (by decide) ?_
      exact vc

theorem bX4_tune_0 {h : Hp} {b : Nat × Nat} {Q : Rs → Hp → Prop} {o : Nat} {x1 : Int32} {t : St} {g : Nat} (hM : MS h o t g) (vc : (((bt x1 0 3) → (((nI (pm t)) = 0 → Q (rI (-4)) h) ∧ (¬ (nI (pm t)) = 0 → ((¬ (nI (wm t)) = 0 → AWP mX4_tune 30 30 [vR (some o), vI x1, vI (nI 0)] [] h b Q) ∧ ((nI (wm t)) = 0 → Q (rI (-4)) h))))) ∧ (¬ (bt x1 0 3) → Q (rI (-1)) h))) : AWP mX4_tune 30 0 [vR (some o), vI x1, vU] [] h b Q := by
  refine go_iload_n 1 1 dX4_tune_0 rfl rfl rfl ?_
  refine go_iconst (v := nI 0) 2 dX4_tune_1 rfl (by decide) ?_
  refine go_iconst (v := nI 3) 3 dX4_tune_2 rfl (by decide) ?_
  refine go_callSI (M' := mX4_in) (as := [vI x1, vI (nI 0), vI (nI 3)]) 6 dX4_tune_3 rfl q1703 okX4_in rfl rfl rfl rfl rfl (ctX4_inL rfl rfl) ?_
  intro x0 h0 p0
  rw [p0.1, p0.2]
  refine go_if_ne 9 11 dX4_tune_6 rfl (by decide) (fun e1 => ?_) (fun e1 => ?_)
  · replace vc := vc.1 (bI_n0.mp e1)
    refine go_aload_n 12 0 dX4_tune_11 rfl rfl rfl ?_
    refine go_getI 15 dX4_tune_12 rfl (MO_k hM.1) gfX4_403_5 rfl ?_
    rw [hM.f451]
    refine go_if_eq 18 25 dX4_tune_15 rfl (by decide) (fun e2 => ?_) (fun e2 => ?_)
    · replace vc := vc.1 e2
      refine go_bipush (v := (-4)) 27 dX4_tune_25 rfl (by decide) ?_
      exact go_ireturn dX4_tune_27 rfl vc
    · replace vc := vc.2 e2
      refine go_aload_n 19 0 dX4_tune_18 rfl rfl rfl ?_
      refine go_getI 22 dX4_tune_19 rfl (MO_k hM.1) gfX4_409_5 rfl ?_
      rw [hM.f456]
      refine go_if_ne 25 28 dX4_tune_22 rfl (by decide) (fun e3 => ?_) (fun e3 => ?_)
      · replace vc := vc.1 e3
        refine go_iconst (v := nI 0) 29 dX4_tune_28 rfl (by decide) ?_
        refine go_istore_n 30 2 [vR (some o), vI x1, vI (nI 0)] dX4_tune_29 rfl rfl rfl rfl ?_
        exact vc
      · replace vc := vc.2 e3
        refine go_bipush (v := (-4)) 27 dX4_tune_25 rfl (by decide) ?_
        exact go_ireturn dX4_tune_27 rfl vc
  · replace vc := vc.2 (bI_0.mp e1)
    refine go_iconst (v := (-1)) 10 dX4_tune_9 rfl (by decide) ?_
    exact go_ireturn dX4_tune_10 rfl vc

theorem bX4_tune_30 {h : Hp} {b : Nat × Nat} {Q : Rs → Hp → Prop} {o : Nat} {x1 : Int32} {x2 : Int32} {t : St} {g : Nat} (hM : MS h o t g) (vc : (((nI (wm t)) ≤ x2 → (∀ h2, h2 = sFI h 461 o (-1) → (∀ h3, h3 = sFI h2 462 o (nI 0) → (∀ h4, h4 = sFI h3 463 o (-1) → (∀ h5, h5 = sFI h4 464 o (nI 0) → (∃ (P8 : Hp → Prop) (d9 : Nat), Nat.ble (d9 + 1) 30 = true ∧ Ret mX4_tuneOn d9 [vR (some o), vI (nI 0), vI (nI 0)] h5 0 0 (RV P8) ∧ ∀ h7, P8 h7 → (∃ t10 g11, MS h7 o t10 g11 ∧ ((x1 ≤ (nI 1) → ((0 ≤ (hFI h7 461 o) → ((¬ x1 = 0 → Q (rI (hFI h7 462 o)) h7) ∧ (x1 = 0 → Q (rI (hFI h7 461 o)) h7))) ∧ (¬ 0 ≤ (hFI h7 461 o) → Q (rI (-2)) h7))) ∧ (¬ x1 ≤ (nI 1) → ((¬ x1 = (nI 2) → Q (rI (hFI h7 464 o)) h7) ∧ (x1 = (nI 2) → Q (rI (hFI h7 463 o)) h7))))))))))) ∧ (¬ (nI (wm t)) ≤ x2 → (vp_in x2 6 ∧ (nt x2) < wm t ∧ (isSh t (nI (ps t)) ∧ (((nI (wt t (nt x2))) < (nI (tones t (nt (nI (ps t))))) → AWP mX4_tune 30 30 [vR (some o), vI x1, vI (x2 + nI 1)] [] h b Q) ∧ (¬ (nI (wt t (nt x2))) < (nI (tones t (nt (nI (ps t))))) → Q (rI (-4)) h))))))) : AWP mX4_tune 30 30 [vR (some o), vI x1, vI x2] [] h b Q := by
  refine go_iload_n 31 2 dX4_tune_30 rfl rfl rfl ?_
  refine go_aload_n 32 0 dX4_tune_31 rfl rfl rfl ?_
  refine go_getI 35 dX4_tune_32 rfl (MO_k hM.1) gfX4_409_5 rfl ?_
  rw [hM.f456]
  refine go_icmp_ge 38 64 dX4_tune_35 rfl (by decide) (fun e1 => ?_) (fun e1 => ?_)
  · replace vc := vc.1 e1
    refine go_aload_n 65 0 dX4_tune_64 rfl rfl rfl ?_
    refine go_iconst (v := (-1)) 66 dX4_tune_65 rfl (by decide) ?_
    refine go_putI 69 dX4_tune_66 rfl (MO_k hM.1) (gpX4_427_5 _) rfl ?_
    refine AWP.nm fun h2 eh2 => ?_
    replace vc := vc h2 eh2
    have hM : MS h2 o t g := by rw [eh2]; exact hM.fr (PE.F rfl)
    refine go_aload_n 70 0 dX4_tune_69 rfl rfl rfl ?_
    refine go_iconst (v := nI 0) 71 dX4_tune_70 rfl (by decide) ?_
    refine go_putI 74 dX4_tune_71 rfl (MO_k hM.1) (gpX4_433_5 _) rfl ?_
    refine AWP.nm fun h3 eh3 => ?_
    replace vc := vc h3 eh3
    have hM : MS h3 o t g := by rw [eh3]; exact hM.fr (PE.F rfl)
    refine go_aload_n 75 0 dX4_tune_74 rfl rfl rfl ?_
    refine go_iconst (v := (-1)) 76 dX4_tune_75 rfl (by decide) ?_
    refine go_putI 79 dX4_tune_76 rfl (MO_k hM.1) (gpX4_421_5 _) rfl ?_
    refine AWP.nm fun h4 eh4 => ?_
    replace vc := vc h4 eh4
    have hM : MS h4 o t g := by rw [eh4]; exact hM.fr (PE.F rfl)
    refine go_aload_n 80 0 dX4_tune_79 rfl rfl rfl ?_
    refine go_iconst (v := nI 0) 81 dX4_tune_80 rfl (by decide) ?_
    refine go_putI 84 dX4_tune_81 rfl (MO_k hM.1) (gpX4_424_5 _) rfl ?_
    refine AWP.nm fun h5 eh5 => ?_
    replace vc := vc h5 eh5
    have hM : MS h5 o t g := by rw [eh5]; exact hM.fr (PE.F rfl)
    refine go_aload_n 85 0 dX4_tune_84 rfl rfl rfl ?_
    refine go_iconst (v := nI 0) 86 dX4_tune_85 rfl (by decide) ?_
    refine go_iconst (v := nI 0) 87 dX4_tune_86 rfl (by decide) ?_
    obtain ⟨P8, d9, hD, hR, vc⟩ := vc
    refine go_callVV (M' := mX4_tuneOn) (as := [vI (nI 0), vI (nI 0)]) 90 dX4_tune_87 rfl q1974 okX4_tuneOn (MO_k hM.1) ck_4 rfl rfl rfl hD rfl hR ?_
    intro h7 p1
    replace vc := vc h7 p1
    obtain ⟨t10, g11, hM, vc⟩ := vc
    refine go_iload_n 91 1 dX4_tune_90 rfl rfl rfl ?_
    refine go_iconst (v := nI 1) 92 dX4_tune_91 rfl (by decide) ?_
    refine go_icmp_le 95 112 dX4_tune_92 rfl (by decide) (fun e12 => ?_) (fun e12 => ?_)
    · replace vc := vc.1 e12
      refine go_aload_n 113 0 dX4_tune_112 rfl rfl rfl ?_
      refine go_getI 116 dX4_tune_113 rfl (MO_k hM.1) gfX4_427_5 rfl ?_
      refine go_if_ge 119 124 dX4_tune_116 rfl (by decide) (fun e13 => ?_) (fun e13 => ?_)
      · replace vc := vc.1 e13
        refine go_iload_n 125 1 dX4_tune_124 rfl rfl rfl ?_
        refine go_if_ne 128 135 dX4_tune_125 rfl (by decide) (fun e14 => ?_) (fun e14 => ?_)
        · replace vc := vc.1 e14
          refine go_aload_n 136 0 dX4_tune_135 rfl rfl rfl ?_
          refine go_getI 139 dX4_tune_136 rfl (MO_k hM.1) gfX4_433_5 rfl ?_
          exact go_ireturn dX4_tune_139 rfl vc
        · replace vc := vc.2 e14
          refine go_aload_n 129 0 dX4_tune_128 rfl rfl rfl ?_
          refine go_getI 132 dX4_tune_129 rfl (MO_k hM.1) gfX4_427_5 rfl ?_
          refine go_goto 139 dX4_tune_132 (by decide) ?_
          exact go_ireturn dX4_tune_139 rfl vc
      · replace vc := vc.2 e13
        refine go_bipush (v := (-2)) 121 dX4_tune_119 rfl (by decide) ?_
        refine go_goto 139 dX4_tune_121 (by decide) ?_
        exact go_ireturn dX4_tune_139 rfl vc
    · replace vc := vc.2 e12
      refine go_iload_n 96 1 dX4_tune_95 rfl rfl rfl ?_
      refine go_iconst (v := nI 2) 97 dX4_tune_96 rfl (by decide) ?_
      refine go_icmp_ne 100 107 dX4_tune_97 rfl (by decide) (fun e15 => ?_) (fun e15 => ?_)
      · replace vc := vc.1 e15
        refine go_aload_n 108 0 dX4_tune_107 rfl rfl rfl ?_
        refine go_getI 111 dX4_tune_108 rfl (MO_k hM.1) gfX4_424_5 rfl ?_
        exact go_ireturn dX4_tune_111 rfl vc
      · replace vc := vc.2 e15
        refine go_aload_n 101 0 dX4_tune_100 rfl rfl rfl ?_
        refine go_getI 104 dX4_tune_101 rfl (MO_k hM.1) gfX4_421_5 rfl ?_
        refine go_goto 111 dX4_tune_104 (by decide) ?_
        exact go_ireturn dX4_tune_111 rfl vc
  · replace vc := vc.2 e1
    refine go_aload_n 39 0 dX4_tune_38 rfl rfl rfl ?_
    refine go_getRe 42 dX4_tune_39 rfl (MO_k hM.1) gfX4_124_5 rfl (MO_f1457 hM.1) ?_
    refine go_iload_n 43 2 dX4_tune_42 rfl rfl rfl ?_
    refine go_iaload 44 dX4_tune_43 rfl (MO_k38 hM.1) vc.1 ?_
    replace vc := vc.2
    rw [hM.a38 vc.1]
    replace vc := vc.2
    refine go_aload_n 45 0 dX4_tune_44 rfl rfl rfl ?_
    refine go_aload_n 46 0 dX4_tune_45 rfl rfl rfl ?_
    refine go_getI 49 dX4_tune_46 rfl (MO_k hM.1) gfX4_406_5 rfl ?_
    rw [hM.f452]
    refine go_callVI (M' := mX4_tonesOf) (as := [vI (nI (ps t))]) 52 dX4_tune_49 rfl q1778 okX4_tonesOf (MO_k hM.1) ck_4 rfl rfl rfl rfl rfl (ctX4_tonesOf hM vc.1) ?_
    replace vc := vc.2
    intro x0 h0 p0
    rw [p0.1, p0.2]
    refine go_icmp_lt 55 58 dX4_tune_52 rfl (by decide) (fun e16 => ?_) (fun e16 => ?_)
    · replace vc := vc.1 e16
      refine go_iinc 61 (x2 + nI 1) [vR (some o), vI x1, vI (x2 + nI 1)] dX4_tune_58 rfl rfl (by rfl) rfl rfl ?_
      refine go_goto 30 dX4_tune_61 (by decide) ?_
      exact vc
    · replace vc := vc.2 e16
      refine go_bipush (v := (-4)) 57 dX4_tune_55 rfl (by decide) ?_
      exact go_ireturn dX4_tune_57 rfl vc

theorem bX4_tryFit_0 {h : Hp} {b : Nat × Nat} {Q : Rs → Hp → Prop} {o : Nat} {x1 : Int32} {x2 : Int32} {x3 : Int32} {x4 : Int32} {t : St} {g : Nat} (hM : MS h o t g) (vc : (∃ (P3 : Hp → Prop), Ret mX4_forgetChanges 0 [vR (some o)] h 0 0 (RV P3) ∧ ∀ h2, P3 h2 → (∃ t5 g6, MS h2 o t5 g6 ∧ AWP mX4_tryFit 16 7 [vR (some o), vI x1, vI x2, vI x3, vI x4, vI (nI 0)] [] h2 b Q))) : AWP mX4_tryFit 16 0 [vR (some o), vI x1, vI x2, vI x3, vI x4, vU] [] h b Q := by
  refine go_aload_n 1 0 dX4_tryFit_0 rfl rfl rfl ?_
  obtain ⟨P3, hR, vc⟩ := vc
  refine go_callVV (M' := mX4_forgetChanges) (as := []) 4 dX4_tryFit_1 rfl q1878 okX4_forgetChanges (MO_k hM.1) ck_4 rfl rfl rfl rfl rfl hR ?_
  intro h2 p1
  replace vc := vc h2 p1
  obtain ⟨t5, g6, hM, vc⟩ := vc
  refine go_iconst (v := nI 0) 5 dX4_tryFit_4 rfl (by decide) ?_
  refine go_istore 7 [vR (some o), vI x1, vI x2, vI x3, vI x4, vI (nI 0)] dX4_tryFit_5 rfl rfl rfl ?_
  exact vc

theorem bX4_tryFit_7 {h : Hp} {b : Nat × Nat} {Q : Rs → Hp → Prop} {o : Nat} {x1 : Int32} {x2 : Int32} {x3 : Int32} {x4 : Int32} {x5 : Int32} {t : St} {g : Nat} (hM : MS h o t g) (vc : (((nI (hm t)) ≤ x5 → (∀ h2, h2 = sFI h 467 o ((hFI h 467 o) + (nI 1)) → ((¬ (hFI h2 467 o) = (nI 1) → AWP mX4_tryFit 16 75 [vR (some o), vI x1, vI x2, vI x3, vI x4, vI (nI (hm t))] [] h2 b Q) ∧ ((hFI h2 467 o) = (nI 1) → (∀ h4, h4 = sFI h2 468 o x3 → (∀ h5, h5 = sFI h4 469 o x4 → AWP mX4_tryFit 16 75 [vR (some o), vI x1, vI x2, vI x3, vI x4, vI (nI (hm t))] [] h5 b Q)))))) ∧ (¬ (nI (hm t)) ≤ x5 → (∃ (P8 : Int32 → Hp → Prop), Ret mX4_shutOf 15 [vR (some o), vI x5, vI x2] h 0 0 (RI P8) ∧ ∀ z6 h7, P8 z6 h7 → (∃ t10 g11, MS h7 o t10 g11 ∧ (vp_in x5 6 ∧ (nt x5) < hm t10 ∧ ((z6 = (hi t10 (nt x5)) → AWP mX4_tryFit 16 7 [vR (some o), vI x1, vI x2, vI x3, vI x4, vI (x5 + nI 1)] [] h7 b Q) ∧ (¬ z6 = (hi t10 (nt x5)) → Q rV h7)))))))) : AWP mX4_tryFit 16 7 [vR (some o), vI x1, vI x2, vI x3, vI x4, vI x5] [] h b Q := by
  refine go_iload 9 dX4_tryFit_7 rfl rfl ?_
  refine go_aload_n 10 0 dX4_tryFit_9 rfl rfl rfl ?_
  refine go_getI 13 dX4_tryFit_10 rfl (MO_k hM.1) gfX4_439_5 rfl ?_
  rw [hM.f465]
  refine go_icmp_ge 16 40 dX4_tryFit_13 rfl (by decide) (fun e1 => ?_) (fun e1 => ?_)
  · replace vc := vc.1 e1
    refine go_aload_n 41 0 dX4_tryFit_40 rfl rfl rfl ?_
    refine go_dup 42 dX4_tryFit_41 rfl rfl ?_
    refine go_getI 45 dX4_tryFit_42 rfl (MO_k hM.1) gfX4_442_5 rfl ?_
    refine go_iconst (v := nI 1) 46 dX4_tryFit_45 rfl (by decide) ?_
    refine go_iadd 47 dX4_tryFit_46 rfl ?_
    refine go_putI 50 dX4_tryFit_47 rfl (MO_k hM.1) (gpX4_442_5 _) rfl ?_
    refine AWP.nm fun h2 eh2 => ?_
    replace vc := vc h2 eh2
    have hM : MS h2 o t g := by rw [eh2]; exact hM.fr (PE.F rfl)
    refine go_aload_n 51 0 dX4_tryFit_50 rfl rfl rfl ?_
    refine go_getI 54 dX4_tryFit_51 rfl (MO_k hM.1) gfX4_442_5 rfl ?_
    refine go_iconst (v := nI 1) 55 dX4_tryFit_54 rfl (by decide) ?_
    refine go_icmp_ne 58 69 dX4_tryFit_55 rfl (by decide) (fun e3 => ?_) (fun e3 => ?_)
    · replace vc := vc.1 e3
      refine go_aload_n 70 0 dX4_tryFit_69 rfl rfl rfl ?_
      refine go_getI 73 dX4_tryFit_70 rfl (MO_k hM.1) gfX4_439_5 rfl ?_
      rw [hM.f465]
      refine go_istore 75 [vR (some o), vI x1, vI x2, vI x3, vI x4, vI (nI (hm t))] dX4_tryFit_73 rfl rfl rfl ?_
      exact vc
    · replace vc := vc.2 e3
      refine go_aload_n 59 0 dX4_tryFit_58 rfl rfl rfl ?_
      refine go_iload_n 60 3 dX4_tryFit_59 rfl rfl rfl ?_
      refine go_putI 63 dX4_tryFit_60 rfl (MO_k hM.1) (gpX4_445_5 _) rfl ?_
      refine AWP.nm fun h4 eh4 => ?_
      replace vc := vc h4 eh4
      have hM : MS h4 o t g := by rw [eh4]; exact hM.fr (PE.F rfl)
      refine go_aload_n 64 0 dX4_tryFit_63 rfl rfl rfl ?_
      refine go_iload 66 dX4_tryFit_64 rfl rfl ?_
      refine go_putI 69 dX4_tryFit_66 rfl (MO_k hM.1) (gpX4_448_5 _) rfl ?_
      refine AWP.nm fun h5 eh5 => ?_
      replace vc := vc h5 eh5
      have hM : MS h5 o t g := by rw [eh5]; exact hM.fr (PE.F rfl)
      refine go_aload_n 70 0 dX4_tryFit_69 rfl rfl rfl ?_
      refine go_getI 73 dX4_tryFit_70 rfl (MO_k hM.1) gfX4_439_5 rfl ?_
      rw [hM.f465]
      refine go_istore 75 [vR (some o), vI x1, vI x2, vI x3, vI x4, vI (nI (hm t))] dX4_tryFit_73 rfl rfl rfl ?_
      exact vc
  · replace vc := vc.2 e1
    refine go_aload_n 17 0 dX4_tryFit_16 rfl rfl rfl ?_
    refine go_iload 19 dX4_tryFit_17 rfl rfl ?_
    refine go_iload_n 20 2 dX4_tryFit_19 rfl rfl rfl ?_
    obtain ⟨P8, hR, vc⟩ := vc
    refine go_callVI (M' := mX4_shutOf) (as := [vI x5, vI x2]) 23 dX4_tryFit_20 rfl q1882 okX4_shutOf (MO_k hM.1) ck_4 rfl rfl rfl rfl rfl hR ?_
    intro z6 h7 p1
    replace vc := vc z6 h7 p1
    obtain ⟨t10, g11, hM, vc⟩ := vc
    refine go_aload_n 24 0 dX4_tryFit_23 rfl rfl rfl ?_
    refine go_getRe 27 dX4_tryFit_24 rfl (MO_k hM.1) gfX4_136_5 rfl (MO_f1466 hM.1) ?_
    refine go_iload 29 dX4_tryFit_27 rfl rfl ?_
    refine go_iaload 30 dX4_tryFit_29 rfl (MO_k42 hM.1) vc.1 ?_
    replace vc := vc.2
    rw [hM.a42 vc.1]
    replace vc := vc.2
    refine go_icmp_eq 33 34 dX4_tryFit_30 rfl (by decide) (fun e12 => ?_) (fun e12 => ?_)
    · replace vc := vc.1 e12
      refine go_iinc 37 (x5 + nI 1) [vR (some o), vI x1, vI x2, vI x3, vI x4, vI (x5 + nI 1)] dX4_tryFit_34 rfl rfl (by rfl) rfl rfl ?_
      refine go_goto 7 dX4_tryFit_37 (by decide) ?_
      exact vc
    · replace vc := vc.2 e12
      exact go_return dX4_tryFit_33 rfl vc

theorem bX4_tryFit_75 {h : Hp} {b : Nat × Nat} {Q : Rs → Hp → Prop} {o : Nat} {x1 : Int32} {x2 : Int32} {x3 : Int32} {x4 : Int32} {x5 : Int32} {t : St} {g : Nat} (hM : MS h o t g) (vc : (isSh t x1 ∧ (((nI (tones t (nt x1))) ≤ x5 → Q rV h) ∧ (¬ (nI (tones t (nt x1))) ≤ x5 → (∃ (P4 : Int32 → Hp → Prop), Ret mX4_shutOf 15 [vR (some o), vI x5, vI x2] h 0 0 (RI P4) ∧ ∀ z2 h3, P4 z2 h3 → (∃ t6 g7, MS h3 o t6 g7 ∧ (vp_in (((nI 100) * x5) + z2) 600 ∧ (vp_in (((nI 100) * x5) + z2) 600 ∧ (∀ h8, h8 = w1 h3 (o + 43) (nt (((nI 100) * x5) + z2)) ((hAI h3 (o + 43) (nt (((nI 100) * x5) + z2))) + (nI 1)) → AWP mX4_tryFit 16 75 [vR (some o), vI x1, vI x2, vI x3, vI x4, vI (x5 + nI 1)] [] h8 b Q))))))))) : AWP mX4_tryFit 16 75 [vR (some o), vI x1, vI x2, vI x3, vI x4, vI x5] [] h b Q := by
  refine go_iload 77 dX4_tryFit_75 rfl rfl ?_
  refine go_aload_n 78 0 dX4_tryFit_77 rfl rfl rfl ?_
  refine go_iload_n 79 1 dX4_tryFit_78 rfl rfl rfl ?_
  refine go_callVI (M' := mX4_tonesOf) (as := [vI x1]) 82 dX4_tryFit_79 rfl q1778 okX4_tonesOf (MO_k hM.1) ck_4 rfl rfl rfl rfl rfl (ctX4_tonesOf hM vc.1) ?_
  replace vc := vc.2
  intro x0 h0 p0
  rw [p0.1, p0.2]
  refine go_icmp_ge 85 113 dX4_tryFit_82 rfl (by decide) (fun e1 => ?_) (fun e1 => ?_)
  · replace vc := vc.1 e1
    exact go_return dX4_tryFit_113 rfl vc
  · replace vc := vc.2 e1
    refine go_aload_n 86 0 dX4_tryFit_85 rfl rfl rfl ?_
    refine go_getRe 89 dX4_tryFit_86 rfl (MO_k hM.1) gfX4_139_5 rfl (MO_f1470 hM.1) ?_
    refine go_bipush (v := nI 100) 91 dX4_tryFit_89 rfl (by decide) ?_
    refine go_iload 93 dX4_tryFit_91 rfl rfl ?_
    refine go_imul 94 dX4_tryFit_93 rfl ?_
    refine go_aload_n 95 0 dX4_tryFit_94 rfl rfl rfl ?_
    refine go_iload 97 dX4_tryFit_95 rfl rfl ?_
    refine go_iload_n 98 2 dX4_tryFit_97 rfl rfl rfl ?_
    obtain ⟨P4, hR, vc⟩ := vc
    refine go_callVI (M' := mX4_shutOf) (as := [vI x5, vI x2]) 101 dX4_tryFit_98 rfl q1882 okX4_shutOf (MO_k hM.1) ck_4 rfl rfl rfl rfl rfl hR ?_
    intro z2 h3 p1
    replace vc := vc z2 h3 p1
    obtain ⟨t6, g7, hM, vc⟩ := vc
    refine go_iadd 102 dX4_tryFit_101 rfl ?_
    refine go_dup2 103 dX4_tryFit_102 rfl rfl rfl ?_
    refine go_iaload 104 dX4_tryFit_103 rfl (MO_k43 hM.1) vc.1 ?_
    replace vc := vc.2
    refine go_iconst (v := nI 1) 105 dX4_tryFit_104 rfl (by decide) ?_
    refine go_iadd 106 dX4_tryFit_105 rfl ?_
    refine go_iastore 107 dX4_tryFit_106 rfl (MO_k43 hM.1) vc.1 ?_
    replace vc := vc.2
    refine AWP.nm fun h8 eh8 => ?_
    replace vc := vc h8 eh8
    have hM : MS h8 o t6 g7 := by rw [eh8]; exact hM.fr (PE.A rfl)
    refine go_iinc 110 (x5 + nI 1) [vR (some o), vI x1, vI x2, vI x3, vI x4, vI (x5 + nI 1)] dX4_tryFit_107 rfl rfl (by rfl) rfl rfl ?_
    refine go_goto 75 dX4_tryFit_110 (by decide) ?_
    exact vc

theorem bX4_findFits_0 {h : Hp} {b : Nat × Nat} {Q : Rs → Hp → Prop} {o : Nat} {x1 : Int32} {x2 : Int32} {t : St} {g : Nat} (hM : MS h o t g) (vc : (∀ h1, h1 = sFI h 467 o (nI 0) → AWP mX4_findFits 17 7 [vR (some o), vI x1, vI x2, vI (nI 0), vU, vU] [] h1 b Q)) : AWP mX4_findFits 17 0 [vR (some o), vI x1, vI x2, vU, vU, vU] [] h b Q := by
  refine go_aload_n 1 0 dX4_findFits_0 rfl rfl rfl ?_
  refine go_iconst (v := nI 0) 2 dX4_findFits_1 rfl (by decide) ?_
  refine go_putI 5 dX4_findFits_2 rfl (MO_k hM.1) (gpX4_442_5 _) rfl ?_
  refine AWP.nm fun h1 eh1 => ?_
  replace vc := vc h1 eh1
  have hM : MS h1 o t g := by rw [eh1]; exact hM.fr (PE.F rfl)
  refine go_iconst (v := nI 0) 6 dX4_findFits_5 rfl (by decide) ?_
  refine go_istore_n 7 3 [vR (some o), vI x1, vI x2, vI (nI 0), vU, vU] dX4_findFits_6 rfl rfl rfl rfl ?_
  exact vc

theorem bX4_findFits_7 {h : Hp} {b : Nat × Nat} {Q : Rs → Hp → Prop} {o : Nat} {x1 : Int32} {x2 : Int32} {x3 : Int32} {t : St} {g : Nat} (hM : MS h o t g) (vc : (((nI 600) ≤ x3 → (∃ (P4 : Hp → Prop), Ret mX4_take 2 [vR (some o), vI x1] h 0 0 (RV P4) ∧ ∀ h3, P4 h3 → (∃ t6 g7, MS h3 o t6 g7 ∧ AWP mX4_findFits 17 34 [vR (some o), vI x1, vI x2, vI (nI 0), vU, vU] [] h3 b Q))) ∧ (¬ (nI 600) ≤ x3 → (vp_in x3 600 ∧ (∀ h8, h8 = w1 h (o + 43) (nt x3) (nI 0) → AWP mX4_findFits 17 7 [vR (some o), vI x1, vI x2, vI (x3 + nI 1), vU, vU] [] h8 b Q))))) : AWP mX4_findFits 17 7 [vR (some o), vI x1, vI x2, vI x3, vU, vU] [] h b Q := by
  refine go_iload_n 8 3 dX4_findFits_7 rfl rfl rfl ?_
  refine go_sipush (v := nI 600) 11 dX4_findFits_8 rfl (by decide) ?_
  refine go_icmp_ge 14 27 dX4_findFits_11 rfl (by decide) (fun e1 => ?_) (fun e1 => ?_)
  · replace vc := vc.1 e1
    refine go_aload_n 28 0 dX4_findFits_27 rfl rfl rfl ?_
    refine go_iload_n 29 1 dX4_findFits_28 rfl rfl rfl ?_
    obtain ⟨P4, hR, vc⟩ := vc
    refine go_callVV (M' := mX4_take) (as := [vI x1]) 32 dX4_findFits_29 rfl q1835 okX4_take (MO_k hM.1) ck_4 rfl rfl rfl rfl rfl hR ?_
    intro h3 p1
    replace vc := vc h3 p1
    obtain ⟨t6, g7, hM, vc⟩ := vc
    refine go_iconst (v := nI 0) 33 dX4_findFits_32 rfl (by decide) ?_
    refine go_istore_n 34 3 [vR (some o), vI x1, vI x2, vI (nI 0), vU, vU] dX4_findFits_33 rfl rfl rfl rfl ?_
    exact vc
  · replace vc := vc.2 e1
    refine go_aload_n 15 0 dX4_findFits_14 rfl rfl rfl ?_
    refine go_getRe 18 dX4_findFits_15 rfl (MO_k hM.1) gfX4_139_5 rfl (MO_f1470 hM.1) ?_
    refine go_iload_n 19 3 dX4_findFits_18 rfl rfl rfl ?_
    refine go_iconst (v := nI 0) 20 dX4_findFits_19 rfl (by decide) ?_
    refine go_iastore 21 dX4_findFits_20 rfl (MO_k43 hM.1) vc.1 ?_
    replace vc := vc.2
    refine AWP.nm fun h8 eh8 => ?_
    replace vc := vc h8 eh8
    have hM : MS h8 o t g := by rw [eh8]; exact hM.fr (PE.A rfl)
    refine go_iinc 24 (x3 + nI 1) [vR (some o), vI x1, vI x2, vI (x3 + nI 1), vU, vU] dX4_findFits_21 rfl rfl (by rfl) rfl rfl ?_
    refine go_goto 7 dX4_findFits_24 (by decide) ?_
    exact vc

theorem bX4_findFits_34 {h : Hp} {b : Nat × Nat} {Q : Rs → Hp → Prop} {o : Nat} {x1 : Int32} {x2 : Int32} {x3 : Int32} {y4 : AV} {t : St} {g : Nat} (hM : MS h o t g) (vc : (((hFI h 435 o) ≤ x3 → (∃ (P4 : Hp → Prop), Ret mX4_tryFit 16 [vR (some o), vI x1, vI x2, vI (-1), vI (nI 0)] h 0 0 (RV P4) ∧ ∀ h3, P4 h3 → (∃ t6 g7, MS h3 o t6 g7 ∧ AWP mX4_findFits 17 115 [vR (some o), vI x1, vI x2, vI (nI 0), y4, vU] [] h3 b Q))) ∧ (¬ (hFI h 435 o) ≤ x3 → AWP mX4_findFits 17 45 [vR (some o), vI x1, vI x2, vI x3, vI (nI 0), vU] [] h b Q))) : AWP mX4_findFits 17 34 [vR (some o), vI x1, vI x2, vI x3, y4, vU] [] h b Q := by
  refine go_iload_n 35 3 dX4_findFits_34 rfl rfl rfl ?_
  refine go_aload_n 36 0 dX4_findFits_35 rfl rfl rfl ?_
  refine go_getI 39 dX4_findFits_36 rfl (MO_k hM.1) gfX4_307_5 rfl ?_
  refine go_icmp_ge 42 105 dX4_findFits_39 rfl (by decide) (fun e1 => ?_) (fun e1 => ?_)
  · replace vc := vc.1 e1
    refine go_aload_n 106 0 dX4_findFits_105 rfl rfl rfl ?_
    refine go_iload_n 107 1 dX4_findFits_106 rfl rfl rfl ?_
    refine go_iload_n 108 2 dX4_findFits_107 rfl rfl rfl ?_
    refine go_iconst (v := (-1)) 109 dX4_findFits_108 rfl (by decide) ?_
    refine go_iconst (v := nI 0) 110 dX4_findFits_109 rfl (by decide) ?_
    obtain ⟨P4, hR, vc⟩ := vc
    refine go_callVV (M' := mX4_tryFit) (as := [vI x1, vI x2, vI (-1), vI (nI 0)]) 113 dX4_findFits_110 rfl q2009 okX4_tryFit (MO_k hM.1) ck_4 rfl rfl rfl rfl rfl hR ?_
    intro h3 p1
    replace vc := vc h3 p1
    obtain ⟨t6, g7, hM, vc⟩ := vc
    refine go_iconst (v := nI 0) 114 dX4_findFits_113 rfl (by decide) ?_
    refine go_istore_n 115 3 [vR (some o), vI x1, vI x2, vI (nI 0), y4, vU] dX4_findFits_114 rfl rfl rfl rfl ?_
    exact vc
  · replace vc := vc.2 e1
    refine go_iconst (v := nI 0) 43 dX4_findFits_42 rfl (by decide) ?_
    refine go_istore 45 [vR (some o), vI x1, vI x2, vI x3, vI (nI 0), vU] dX4_findFits_43 rfl rfl rfl ?_
    exact vc

theorem bX4_findFits_45 {h : Hp} {b : Nat × Nat} {Q : Rs → Hp → Prop} {o : Nat} {x1 : Int32} {x2 : Int32} {x3 : Int32} {x4 : Int32} {t : St} {g : Nat} (hM : MS h o t g) (vc : (((hFI h 435 o) ≤ x4 → AWP mX4_findFits 17 34 [vR (some o), vI x1, vI x2, vI (x3 + nI 1), vI x4, vU] [] h b Q) ∧ (¬ (hFI h 435 o) ≤ x4 → ((isSh t x1 ∧ bt x3 0 5 ∧ bt x4 0 5) ∧ ((¬ (has t (nt x1) (nt x3) (nt x4) = true) → (vp_in (((nI 6) * x3) + x4) 36 ∧ (∀ h3, h3 = w1 h (o + 26) (nt (((nI 6) * x3) + x4)) (nI 0) → AWP mX4_findFits 17 45 [vR (some o), vI x1, vI x2, vI x3, vI (x4 + nI 1), vU] [] h3 b Q))) ∧ ((has t (nt x1) (nt x3) (nt x4) = true) → (vp_in (nI 36 * x1 + nI 6 * x3 + x4) 468 ∧ (nt (nI 36 * x1 + nI 6 * x3 + x4)) < 36 * ns t ∧ (vp_in (((nI 6) * x3) + x4) 36 ∧ (∀ h4, h4 = w1 h (o + 26) (nt (((nI 6) * x3) + x4)) (sf t (nt (nI 36 * x1 + nI 6 * x3 + x4))) → AWP mX4_findFits 17 45 [vR (some o), vI x1, vI x2, vI x3, vI (x4 + nI 1), vU] [] h4 b Q))))))))) : AWP mX4_findFits 17 45 [vR (some o), vI x1, vI x2, vI x3, vI x4, vU] [] h b Q := by
  refine go_iload 47 dX4_findFits_45 rfl rfl ?_
  refine go_aload_n 48 0 dX4_findFits_47 rfl rfl rfl ?_
  refine go_getI 51 dX4_findFits_48 rfl (MO_k hM.1) gfX4_307_5 rfl ?_
  refine go_icmp_ge 54 99 dX4_findFits_51 rfl (by decide) (fun e1 => ?_) (fun e1 => ?_)
  · replace vc := vc.1 e1
    refine go_iinc 102 (x3 + nI 1) [vR (some o), vI x1, vI x2, vI (x3 + nI 1), vI x4, vU] dX4_findFits_99 rfl rfl (by rfl) rfl rfl ?_
    refine go_goto 34 dX4_findFits_102 (by decide) ?_
    exact vc
  · replace vc := vc.2 e1
    refine go_aload_n 55 0 dX4_findFits_54 rfl rfl rfl ?_
    refine go_getRe 58 dX4_findFits_55 rfl (MO_k hM.1) gfX4_87_5 rfl (MO_f1434 hM.1) ?_
    refine go_bipush (v := nI 6) 60 dX4_findFits_58 rfl (by decide) ?_
    refine go_iload_n 61 3 dX4_findFits_60 rfl rfl rfl ?_
    refine go_imul 62 dX4_findFits_61 rfl ?_
    refine go_iload 64 dX4_findFits_62 rfl rfl ?_
    refine go_iadd 65 dX4_findFits_64 rfl ?_
    refine go_aload_n 66 0 dX4_findFits_65 rfl rfl rfl ?_
    refine go_iload_n 67 1 dX4_findFits_66 rfl rfl rfl ?_
    refine go_iload_n 68 3 dX4_findFits_67 rfl rfl rfl ?_
    refine go_iload 70 dX4_findFits_68 rfl rfl ?_
    refine go_callVI (M' := mX4_hasPiece) (as := [vI x1, vI x3, vI x4]) 73 dX4_findFits_70 rfl q1750 okX4_hasPiece (MO_k hM.1) ck_4 rfl rfl rfl rfl rfl (ctX4_hasPiece hM vc.1) ?_
    replace vc := vc.2
    intro x0 h0 p0
    rw [p0.1, p0.2]
    refine go_if_eq 76 91 dX4_findFits_73 rfl (by decide) (fun e2 => ?_) (fun e2 => ?_)
    · replace vc := vc.1 (bI_0.mp e2)
      refine go_iconst (v := nI 0) 92 dX4_findFits_91 rfl (by decide) ?_
      refine go_iastore 93 dX4_findFits_92 rfl (MO_k26 hM.1) vc.1 ?_
      replace vc := vc.2
      refine AWP.nm fun h3 eh3 => ?_
      replace vc := vc h3 eh3
      have hM : MS h3 o t g := by rw [eh3]; exact hM.fr (PE.A rfl)
      refine go_iinc 96 (x4 + nI 1) [vR (some o), vI x1, vI x2, vI x3, vI (x4 + nI 1), vU] dX4_findFits_93 rfl rfl (by rfl) rfl rfl ?_
      refine go_goto 45 dX4_findFits_96 (by decide) ?_
      exact vc
    · replace vc := vc.2 (bI_n0.mp e2)
      refine go_aload_n 77 0 dX4_findFits_76 rfl rfl rfl ?_
      refine go_getRe 80 dX4_findFits_77 rfl (MO_k hM.1) gfX4_26_5 rfl (MO_f1407 hM.1) ?_
      refine go_iload_n 81 1 dX4_findFits_80 rfl rfl rfl ?_
      refine go_iload_n 82 3 dX4_findFits_81 rfl rfl rfl ?_
      refine go_iload 84 dX4_findFits_82 rfl rfl ?_
      refine go_callSI (M' := mX4_at) (as := [vI x1, vI x3, vI x4]) 87 dX4_findFits_84 rfl q1754 okX4_at rfl rfl rfl rfl rfl (ctX4_at) ?_
      intro x0 h0 p0
      rw [p0.1, p0.2]
      refine go_iaload 88 dX4_findFits_87 rfl (MO_k6 hM.1) vc.1 ?_
      replace vc := vc.2
      rw [hM.a6 vc.1]
      replace vc := vc.2
      refine go_goto 92 dX4_findFits_88 (by decide) ?_
      refine go_iastore 93 dX4_findFits_92 rfl (MO_k26 hM.1) vc.1 ?_
      replace vc := vc.2
      refine AWP.nm fun h4 eh4 => ?_
      replace vc := vc h4 eh4
      have hM : MS h4 o t g := by rw [eh4]; exact hM.fr (PE.A rfl)
      refine go_iinc 96 (x4 + nI 1) [vR (some o), vI x1, vI x2, vI x3, vI (x4 + nI 1), vU] dX4_findFits_93 rfl rfl (by rfl) rfl rfl ?_
      refine go_goto 45 dX4_findFits_96 (by decide) ?_
      exact vc

theorem bX4_findFits_115 {h : Hp} {b : Nat × Nat} {Q : Rs → Hp → Prop} {o : Nat} {x1 : Int32} {x2 : Int32} {x3 : Int32} {y4 : AV} {y5 : AV} {t : St} {g : Nat} (hM : MS h o t g) (vc : (((nI (nb t)) ≤ x3 → Q rV h) ∧ (¬ (nI (nb t)) ≤ x3 → (vp_in x3 200 ∧ (nt x3) < nb t ∧ ((((nI (li t (nt x3))) - (nI 1)) < 0 → AWP mX4_findFits 17 115 [vR (some o), vI x1, vI x2, vI (x3 + nI 1), vI ((nI (li t (nt x3))) - (nI 1)), y5] [] h b Q) ∧ (¬ ((nI (li t (nt x3))) - (nI 1)) < 0 → (((((nI (li t (nt x3))) - (nI 1)) / (nI 36)) = x1 → AWP mX4_findFits 17 150 [vR (some o), vI x1, vI x2, vI x3, vI ((nI (li t (nt x3))) - (nI 1)), y5] [] h b Q) ∧ (¬ (((nI (li t (nt x3))) - (nI 1)) / (nI 36)) = x1 → AWP mX4_findFits 17 115 [vR (some o), vI x1, vI x2, vI (x3 + nI 1), vI ((nI (li t (nt x3))) - (nI 1)), y5] [] h b Q)))))))) : AWP mX4_findFits 17 115 [vR (some o), vI x1, vI x2, vI x3, y4, y5] [] h b Q := by
  refine go_iload_n 116 3 dX4_findFits_115 rfl rfl rfl ?_
  refine go_aload_n 117 0 dX4_findFits_116 rfl rfl rfl ?_
  refine go_getI 120 dX4_findFits_117 rfl (MO_k hM.1) gfX4_261_5 rfl ?_
  rw [hM.f412]
  refine go_icmp_ge 123 237 dX4_findFits_120 rfl (by decide) (fun e1 => ?_) (fun e1 => ?_)
  · replace vc := vc.1 e1
    exact go_return dX4_findFits_237 rfl vc
  · replace vc := vc.2 e1
    refine go_aload_n 124 0 dX4_findFits_123 rfl rfl rfl ?_
    refine go_getRe 127 dX4_findFits_124 rfl (MO_k hM.1) gfX4_44_5 rfl (MO_f1414 hM.1) ?_
    refine go_iload_n 128 3 dX4_findFits_127 rfl rfl rfl ?_
    refine go_iaload 129 dX4_findFits_128 rfl (MO_k12 hM.1) vc.1 ?_
    replace vc := vc.2
    rw [hM.a12 vc.1]
    replace vc := vc.2
    refine go_iconst (v := nI 1) 130 dX4_findFits_129 rfl (by decide) ?_
    refine go_isub 131 dX4_findFits_130 rfl ?_
    refine go_istore 133 [vR (some o), vI x1, vI x2, vI x3, vI ((nI (li t (nt x3))) - (nI 1)), y5] dX4_findFits_131 rfl rfl rfl ?_
    refine go_iload 135 dX4_findFits_133 rfl rfl ?_
    refine go_if_lt 138 231 dX4_findFits_135 rfl (by decide) (fun e2 => ?_) (fun e2 => ?_)
    · replace vc := vc.1 e2
      refine go_iinc 234 (x3 + nI 1) [vR (some o), vI x1, vI x2, vI (x3 + nI 1), vI ((nI (li t (nt x3))) - (nI 1)), y5] dX4_findFits_231 rfl rfl (by rfl) rfl rfl ?_
      refine go_goto 115 dX4_findFits_234 (by decide) ?_
      exact vc
    · replace vc := vc.2 e2
      refine go_iload 140 dX4_findFits_138 rfl rfl ?_
      refine go_bipush (v := nI 36) 142 dX4_findFits_140 rfl (by decide) ?_
      refine go_idiv 143 dX4_findFits_142 rfl (by decide) ?_
      refine go_iload_n 144 1 dX4_findFits_143 rfl rfl rfl ?_
      refine go_icmp_eq 147 150 dX4_findFits_144 rfl (by decide) (fun e3 => ?_) (fun e3 => ?_)
      · replace vc := vc.1 e3
        exact vc
      · replace vc := vc.2 e3
        refine go_goto 231 dX4_findFits_147 (by decide) ?_
        refine go_iinc 234 (x3 + nI 1) [vR (some o), vI x1, vI x2, vI (x3 + nI 1), vI ((nI (li t (nt x3))) - (nI 1)), y5] dX4_findFits_231 rfl rfl (by rfl) rfl rfl ?_
        refine go_goto 115 dX4_findFits_234 (by decide) ?_
        exact vc

theorem bX4_findFits_150 {h : Hp} {b : Nat × Nat} {Q : Rs → Hp → Prop} {o : Nat} {x1 : Int32} {x2 : Int32} {x3 : Int32} {x4 : Int32} {y5 : AV} {t : St} {g : Nat} (hM : MS h o t g) (vc : AWP mX4_findFits 17 153 [vR (some o), vI x1, vI x2, vI x3, vI x4, vI (nI 1)] [] h b Q) : AWP mX4_findFits 17 150 [vR (some o), vI x1, vI x2, vI x3, vI x4, y5] [] h b Q := by
  refine go_iconst (v := nI 1) 151 dX4_findFits_150 rfl (by decide) ?_
  refine go_istore 153 [vR (some o), vI x1, vI x2, vI x3, vI x4, vI (nI 1)] dX4_findFits_151 rfl rfl rfl ?_
  exact vc

theorem bX4_findFits_153 {h : Hp} {b : Nat × Nat} {Q : Rs → Hp → Prop} {o : Nat} {x1 : Int32} {x2 : Int32} {x3 : Int32} {x4 : Int32} {x5 : Int32} {t : St} {g : Nat} (hM : MS h o t g) (vc : (vp_in x4 468 ∧ (nt x4) < 36 * ns t ∧ (((sf t (nt x4)) < x5 → (vp_in x4 468 ∧ (nt x4) < 36 * ns t ∧ (∃ (P4 : Hp → Prop), Ret mX4_setCount 0 [vR (some o), vI ((x4 / (nI 6)) - (x4 / (nI 6)) / (nI 6) * (nI 6)), vI (x4 - x4 / (nI 6) * (nI 6)), vI (sf t (nt x4))] h 0 0 (RV P4) ∧ ∀ h3, P4 h3 → (∃ t6 g7, MS h3 o t6 g7 ∧ AWP mX4_findFits 17 115 [vR (some o), vI x1, vI x2, vI (x3 + nI 1), vI x4, vI x5] [] h3 b Q)))) ∧ (¬ (sf t (nt x4)) < x5 → (vp_in x4 468 ∧ (nt x4) < 36 * ns t ∧ (∃ (P10 : Hp → Prop), Ret mX4_setCount 0 [vR (some o), vI ((x4 / (nI 6)) - (x4 / (nI 6)) / (nI 6) * (nI 6)), vI (x4 - x4 / (nI 6) * (nI 6)), vI ((sf t (nt x4)) - x5)] h 0 0 (RV P10) ∧ ∀ h9, P10 h9 → (∃ t12 g13, MS h9 o t12 g13 ∧ (∃ (P16 : Hp → Prop), Ret mX4_tryFit 16 [vR (some o), vI x1, vI x2, vI x3, vI x5] h9 0 0 (RV P16) ∧ ∀ h15, P16 h15 → (∃ t18 g19, MS h15 o t18 g19 ∧ AWP mX4_findFits 17 153 [vR (some o), vI x1, vI x2, vI x3, vI x4, vI (x5 + nI 1)] [] h15 b Q))))))))) : AWP mX4_findFits 17 153 [vR (some o), vI x1, vI x2, vI x3, vI x4, vI x5] [] h b Q := by
  refine go_iload 155 dX4_findFits_153 rfl rfl ?_
  refine go_aload_n 156 0 dX4_findFits_155 rfl rfl rfl ?_
  refine go_getRe 159 dX4_findFits_156 rfl (MO_k hM.1) gfX4_26_5 rfl (MO_f1407 hM.1) ?_
  refine go_iload 161 dX4_findFits_159 rfl rfl ?_
  refine go_iaload 162 dX4_findFits_161 rfl (MO_k6 hM.1) vc.1 ?_
  replace vc := vc.2
  rw [hM.a6 vc.1]
  replace vc := vc.2
  refine go_icmp_gt 165 207 dX4_findFits_162 rfl (by decide) (fun e1 => ?_) (fun e1 => ?_)
  · replace vc := vc.1 e1
    refine go_aload_n 208 0 dX4_findFits_207 rfl rfl rfl ?_
    refine go_iload 210 dX4_findFits_208 rfl rfl ?_
    refine go_bipush (v := nI 6) 212 dX4_findFits_210 rfl (by decide) ?_
    refine go_idiv 213 dX4_findFits_212 rfl (by decide) ?_
    refine go_bipush (v := nI 6) 215 dX4_findFits_213 rfl (by decide) ?_
    refine go_irem 216 dX4_findFits_215 rfl (by decide) ?_
    refine go_iload 218 dX4_findFits_216 rfl rfl ?_
    refine go_bipush (v := nI 6) 220 dX4_findFits_218 rfl (by decide) ?_
    refine go_irem 221 dX4_findFits_220 rfl (by decide) ?_
    refine go_aload_n 222 0 dX4_findFits_221 rfl rfl rfl ?_
    refine go_getRe 225 dX4_findFits_222 rfl (MO_k hM.1) gfX4_26_5 rfl (MO_f1407 hM.1) ?_
    refine go_iload 227 dX4_findFits_225 rfl rfl ?_
    refine go_iaload 228 dX4_findFits_227 rfl (MO_k6 hM.1) vc.1 ?_
    replace vc := vc.2
    rw [hM.a6 vc.1]
    replace vc := vc.2
    obtain ⟨P4, hR, vc⟩ := vc
    refine go_callVV (M' := mX4_setCount) (as := [vI ((x4 / (nI 6)) - (x4 / (nI 6)) / (nI 6) * (nI 6)), vI (x4 - x4 / (nI 6) * (nI 6)), vI (sf t (nt x4))]) 231 dX4_findFits_228 rfl q1902 okX4_setCount (MO_k hM.1) ck_4 rfl rfl rfl rfl rfl hR ?_
    intro h3 p1
    replace vc := vc h3 p1
    obtain ⟨t6, g7, hM, vc⟩ := vc
    refine go_iinc 234 (x3 + nI 1) [vR (some o), vI x1, vI x2, vI (x3 + nI 1), vI x4, vI x5] dX4_findFits_231 rfl rfl (by rfl) rfl rfl ?_
    refine go_goto 115 dX4_findFits_234 (by decide) ?_
    exact vc
  · replace vc := vc.2 e1
    refine go_aload_n 166 0 dX4_findFits_165 rfl rfl rfl ?_
    refine go_iload 168 dX4_findFits_166 rfl rfl ?_
    refine go_bipush (v := nI 6) 170 dX4_findFits_168 rfl (by decide) ?_
    refine go_idiv 171 dX4_findFits_170 rfl (by decide) ?_
    refine go_bipush (v := nI 6) 173 dX4_findFits_171 rfl (by decide) ?_
    refine go_irem 174 dX4_findFits_173 rfl (by decide) ?_
    refine go_iload 176 dX4_findFits_174 rfl rfl ?_
    refine go_bipush (v := nI 6) 178 dX4_findFits_176 rfl (by decide) ?_
    refine go_irem 179 dX4_findFits_178 rfl (by decide) ?_
    refine go_aload_n 180 0 dX4_findFits_179 rfl rfl rfl ?_
    refine go_getRe 183 dX4_findFits_180 rfl (MO_k hM.1) gfX4_26_5 rfl (MO_f1407 hM.1) ?_
    refine go_iload 185 dX4_findFits_183 rfl rfl ?_
    refine go_iaload 186 dX4_findFits_185 rfl (MO_k6 hM.1) vc.1 ?_
    replace vc := vc.2
    rw [hM.a6 vc.1]
    replace vc := vc.2
    refine go_iload 188 dX4_findFits_186 rfl rfl ?_
    refine go_isub 189 dX4_findFits_188 rfl ?_
    obtain ⟨P10, hR, vc⟩ := vc
    refine go_callVV (M' := mX4_setCount) (as := [vI ((x4 / (nI 6)) - (x4 / (nI 6)) / (nI 6) * (nI 6)), vI (x4 - x4 / (nI 6) * (nI 6)), vI ((sf t (nt x4)) - x5)]) 192 dX4_findFits_189 rfl q1902 okX4_setCount (MO_k hM.1) ck_4 rfl rfl rfl rfl rfl hR ?_
    intro h9 p1
    replace vc := vc h9 p1
    obtain ⟨t12, g13, hM, vc⟩ := vc
    refine go_aload_n 193 0 dX4_findFits_192 rfl rfl rfl ?_
    refine go_iload_n 194 1 dX4_findFits_193 rfl rfl rfl ?_
    refine go_iload_n 195 2 dX4_findFits_194 rfl rfl rfl ?_
    refine go_iload_n 196 3 dX4_findFits_195 rfl rfl rfl ?_
    refine go_iload 198 dX4_findFits_196 rfl rfl ?_
    obtain ⟨P16, hR, vc⟩ := vc
    refine go_callVV (M' := mX4_tryFit) (as := [vI x1, vI x2, vI x3, vI x5]) 201 dX4_findFits_198 rfl q2009 okX4_tryFit (MO_k hM.1) ck_4 rfl rfl rfl rfl rfl hR ?_
    intro h15 p1
    replace vc := vc h15 p1
    obtain ⟨t18, g19, hM, vc⟩ := vc
    refine go_iinc 204 (x5 + nI 1) [vR (some o), vI x1, vI x2, vI x3, vI x4, vI (x5 + nI 1)] dX4_findFits_201 rfl rfl (by rfl) rfl rfl ?_
    refine go_goto 153 dX4_findFits_204 (by decide) ?_
    exact vc

theorem bX4_fits_0 {h : Hp} {b : Nat × Nat} {Q : Rs → Hp → Prop} {o : Nat} {x1 : Int32} {x2 : Int32} {x3 : Int32} {t : St} {g : Nat} (hM : MS h o t g) (vc : ((¬ (isSh t x1) → Q (rI (-1)) h) ∧ ((isSh t x1) → ((¬ (bt x2 1 9) → Q (rI (-1)) h) ∧ ((bt x2 1 9) → ((¬ (bt x3 0 2) → Q (rI (-1)) h) ∧ ((bt x3 0 2) → (isSh t x1 ∧ (((nI (hm t)) ≤ (nI (tones t (nt x1))) → (∃ (P7 : Hp → Prop), Ret mX4_findFits 17 [vR (some o), vI x1, vI x2] h 0 0 (RV P7) ∧ ∀ h6, P7 h6 → (∃ t9 g10, MS h6 o t9 g10 ∧ ((¬ x3 = 0 → ((¬ (hFI h6 467 o) = 0 → ((¬ x3 = (nI 1) → Q (rI (hFI h6 469 o)) h6) ∧ (x3 = (nI 1) → Q (rI (hFI h6 468 o)) h6))) ∧ ((hFI h6 467 o) = 0 → Q (rI (-2)) h6))) ∧ (x3 = 0 → Q (rI (hFI h6 467 o)) h6))))) ∧ (¬ (nI (hm t)) ≤ (nI (tones t (nt x1))) → Q (rI (-1)) h)))))))))) : AWP mX4_fits 18 0 [vR (some o), vI x1, vI x2, vI x3] [] h b Q := by
  refine go_aload_n 1 0 dX4_fits_0 rfl rfl rfl ?_
  refine go_iload_n 2 1 dX4_fits_1 rfl rfl rfl ?_
  refine go_callVI (M' := mX4_isShape) (as := [vI x1]) 5 dX4_fits_2 rfl q1769 okX4_isShape (MO_k hM.1) ck_4 rfl rfl rfl rfl rfl (ctX4_isShape hM) ?_
  intro x0 h0 p0
  rw [p0.1, p0.2]
  refine go_if_eq 8 39 dX4_fits_5 rfl (by decide) (fun e1 => ?_) (fun e1 => ?_)
  · replace vc := vc.1 (bI_0.mp e1)
    refine go_iconst (v := (-1)) 40 dX4_fits_39 rfl (by decide) ?_
    exact go_ireturn dX4_fits_40 rfl vc
  · replace vc := vc.2 (bI_n0.mp e1)
    refine go_iload_n 9 2 dX4_fits_8 rfl rfl rfl ?_
    refine go_iconst (v := nI 1) 10 dX4_fits_9 rfl (by decide) ?_
    refine go_bipush (v := nI 9) 12 dX4_fits_10 rfl (by decide) ?_
    refine go_callSI (M' := mX4_in) (as := [vI x2, vI (nI 1), vI (nI 9)]) 15 dX4_fits_12 rfl q1703 okX4_in rfl rfl rfl rfl rfl (ctX4_inL rfl rfl) ?_
    intro x0 h0 p0
    rw [p0.1, p0.2]
    refine go_if_eq 18 39 dX4_fits_15 rfl (by decide) (fun e2 => ?_) (fun e2 => ?_)
    · replace vc := vc.1 (bI_0.mp e2)
      refine go_iconst (v := (-1)) 40 dX4_fits_39 rfl (by decide) ?_
      exact go_ireturn dX4_fits_40 rfl vc
    · replace vc := vc.2 (bI_n0.mp e2)
      refine go_iload_n 19 3 dX4_fits_18 rfl rfl rfl ?_
      refine go_iconst (v := nI 0) 20 dX4_fits_19 rfl (by decide) ?_
      refine go_iconst (v := nI 2) 21 dX4_fits_20 rfl (by decide) ?_
      refine go_callSI (M' := mX4_in) (as := [vI x3, vI (nI 0), vI (nI 2)]) 24 dX4_fits_21 rfl q1703 okX4_in rfl rfl rfl rfl rfl (ctX4_inL rfl rfl) ?_
      intro x0 h0 p0
      rw [p0.1, p0.2]
      refine go_if_eq 27 39 dX4_fits_24 rfl (by decide) (fun e3 => ?_) (fun e3 => ?_)
      · replace vc := vc.1 (bI_0.mp e3)
        refine go_iconst (v := (-1)) 40 dX4_fits_39 rfl (by decide) ?_
        exact go_ireturn dX4_fits_40 rfl vc
      · replace vc := vc.2 (bI_n0.mp e3)
        refine go_aload_n 28 0 dX4_fits_27 rfl rfl rfl ?_
        refine go_getI 31 dX4_fits_28 rfl (MO_k hM.1) gfX4_439_5 rfl ?_
        rw [hM.f465]
        refine go_aload_n 32 0 dX4_fits_31 rfl rfl rfl ?_
        refine go_iload_n 33 1 dX4_fits_32 rfl rfl rfl ?_
        refine go_callVI (M' := mX4_tonesOf) (as := [vI x1]) 36 dX4_fits_33 rfl q1778 okX4_tonesOf (MO_k hM.1) ck_4 rfl rfl rfl rfl rfl (ctX4_tonesOf hM vc.1) ?_
        replace vc := vc.2
        intro x0 h0 p0
        rw [p0.1, p0.2]
        refine go_icmp_le 39 41 dX4_fits_36 rfl (by decide) (fun e4 => ?_) (fun e4 => ?_)
        · replace vc := vc.1 e4
          refine go_aload_n 42 0 dX4_fits_41 rfl rfl rfl ?_
          refine go_iload_n 43 1 dX4_fits_42 rfl rfl rfl ?_
          refine go_iload_n 44 2 dX4_fits_43 rfl rfl rfl ?_
          obtain ⟨P7, hR, vc⟩ := vc
          refine go_callVV (M' := mX4_findFits) (as := [vI x1, vI x2]) 47 dX4_fits_44 rfl q2005 okX4_findFits (MO_k hM.1) ck_4 rfl rfl rfl rfl rfl hR ?_
          intro h6 p1
          replace vc := vc h6 p1
          obtain ⟨t9, g10, hM, vc⟩ := vc
          refine go_iload_n 48 3 dX4_fits_47 rfl rfl rfl ?_
          refine go_if_ne 51 56 dX4_fits_48 rfl (by decide) (fun e11 => ?_) (fun e11 => ?_)
          · replace vc := vc.1 e11
            refine go_aload_n 57 0 dX4_fits_56 rfl rfl rfl ?_
            refine go_getI 60 dX4_fits_57 rfl (MO_k hM.1) gfX4_442_5 rfl ?_
            refine go_if_ne 63 68 dX4_fits_60 rfl (by decide) (fun e12 => ?_) (fun e12 => ?_)
            · replace vc := vc.1 e12
              refine go_iload_n 69 3 dX4_fits_68 rfl rfl rfl ?_
              refine go_iconst (v := nI 1) 70 dX4_fits_69 rfl (by decide) ?_
              refine go_icmp_ne 73 80 dX4_fits_70 rfl (by decide) (fun e13 => ?_) (fun e13 => ?_)
              · replace vc := vc.1 e13
                refine go_aload_n 81 0 dX4_fits_80 rfl rfl rfl ?_
                refine go_getI 84 dX4_fits_81 rfl (MO_k hM.1) gfX4_448_5 rfl ?_
                exact go_ireturn dX4_fits_84 rfl vc
              · replace vc := vc.2 e13
                refine go_aload_n 74 0 dX4_fits_73 rfl rfl rfl ?_
                refine go_getI 77 dX4_fits_74 rfl (MO_k hM.1) gfX4_445_5 rfl ?_
                refine go_goto 84 dX4_fits_77 (by decide) ?_
                exact go_ireturn dX4_fits_84 rfl vc
            · replace vc := vc.2 e12
              refine go_bipush (v := (-2)) 65 dX4_fits_63 rfl (by decide) ?_
              refine go_goto 84 dX4_fits_65 (by decide) ?_
              exact go_ireturn dX4_fits_84 rfl vc
          · replace vc := vc.2 e11
            refine go_aload_n 52 0 dX4_fits_51 rfl rfl rfl ?_
            refine go_getI 55 dX4_fits_52 rfl (MO_k hM.1) gfX4_442_5 rfl ?_
            exact go_ireturn dX4_fits_55 rfl vc
        · replace vc := vc.2 e4
          refine go_iconst (v := (-1)) 40 dX4_fits_39 rfl (by decide) ?_
          exact go_ireturn dX4_fits_40 rfl vc

theorem bX4_next_0 {h : Hp} {b : Nat × Nat} {Q : Rs → Hp → Prop} {o : Nat} {x1 : Int32} {x2 : Int32} {t : St} {g : Nat} (hM : MS h o t g) (vc : ((¬ (isSh t x1) → Q (rI (-1)) h) ∧ ((isSh t x1) → ((¬ (bt x2 1 9) → Q (rI (-1)) h) ∧ ((bt x2 1 9) → (isSh t x1 ∧ (((nI (hm t)) ≤ (nI (tones t (nt x1))) → (∃ (P6 : Hp → Prop), Ret mX4_findFits 17 [vR (some o), vI x1, vI x2] h 0 0 (RV P6) ∧ ∀ h5, P6 h5 → (∃ t8 g9, MS h5 o t8 g9 ∧ ((¬ (hFI h5 467 o) = 0 → AWP mX4_next 18 60 [vR (some o), vI x1, vI x2, vI (-2), vI (nI 0), vI (nI (hm t8)), vU, vU] [] h5 b Q) ∧ ((hFI h5 467 o) = 0 → Q (rI (-2)) h5))))) ∧ (¬ (nI (hm t)) ≤ (nI (tones t (nt x1))) → Q (rI (-1)) h)))))))) : AWP mX4_next 18 0 [vR (some o), vI x1, vI x2, vU, vU, vU, vU, vU] [] h b Q := by
  refine go_aload_n 1 0 dX4_next_0 rfl rfl rfl ?_
  refine go_iload_n 2 1 dX4_next_1 rfl rfl rfl ?_
  refine go_callVI (M' := mX4_isShape) (as := [vI x1]) 5 dX4_next_2 rfl q1769 okX4_isShape (MO_k hM.1) ck_4 rfl rfl rfl rfl rfl (ctX4_isShape hM) ?_
  intro x0 h0 p0
  rw [p0.1, p0.2]
  refine go_if_eq 8 30 dX4_next_5 rfl (by decide) (fun e1 => ?_) (fun e1 => ?_)
  · replace vc := vc.1 (bI_0.mp e1)
    refine go_iconst (v := (-1)) 31 dX4_next_30 rfl (by decide) ?_
    exact go_ireturn dX4_next_31 rfl vc
  · replace vc := vc.2 (bI_n0.mp e1)
    refine go_iload_n 9 2 dX4_next_8 rfl rfl rfl ?_
    refine go_iconst (v := nI 1) 10 dX4_next_9 rfl (by decide) ?_
    refine go_bipush (v := nI 9) 12 dX4_next_10 rfl (by decide) ?_
    refine go_callSI (M' := mX4_in) (as := [vI x2, vI (nI 1), vI (nI 9)]) 15 dX4_next_12 rfl q1703 okX4_in rfl rfl rfl rfl rfl (ctX4_inL rfl rfl) ?_
    intro x0 h0 p0
    rw [p0.1, p0.2]
    refine go_if_eq 18 30 dX4_next_15 rfl (by decide) (fun e2 => ?_) (fun e2 => ?_)
    · replace vc := vc.1 (bI_0.mp e2)
      refine go_iconst (v := (-1)) 31 dX4_next_30 rfl (by decide) ?_
      exact go_ireturn dX4_next_31 rfl vc
    · replace vc := vc.2 (bI_n0.mp e2)
      refine go_aload_n 19 0 dX4_next_18 rfl rfl rfl ?_
      refine go_getI 22 dX4_next_19 rfl (MO_k hM.1) gfX4_439_5 rfl ?_
      rw [hM.f465]
      refine go_aload_n 23 0 dX4_next_22 rfl rfl rfl ?_
      refine go_iload_n 24 1 dX4_next_23 rfl rfl rfl ?_
      refine go_callVI (M' := mX4_tonesOf) (as := [vI x1]) 27 dX4_next_24 rfl q1778 okX4_tonesOf (MO_k hM.1) ck_4 rfl rfl rfl rfl rfl (ctX4_tonesOf hM vc.1) ?_
      replace vc := vc.2
      intro x0 h0 p0
      rw [p0.1, p0.2]
      refine go_icmp_le 30 32 dX4_next_27 rfl (by decide) (fun e3 => ?_) (fun e3 => ?_)
      · replace vc := vc.1 e3
        refine go_aload_n 33 0 dX4_next_32 rfl rfl rfl ?_
        refine go_iload_n 34 1 dX4_next_33 rfl rfl rfl ?_
        refine go_iload_n 35 2 dX4_next_34 rfl rfl rfl ?_
        obtain ⟨P6, hR, vc⟩ := vc
        refine go_callVV (M' := mX4_findFits) (as := [vI x1, vI x2]) 38 dX4_next_35 rfl q2005 okX4_findFits (MO_k hM.1) ck_4 rfl rfl rfl rfl rfl hR ?_
        intro h5 p1
        replace vc := vc h5 p1
        obtain ⟨t8, g9, hM, vc⟩ := vc
        refine go_aload_n 39 0 dX4_next_38 rfl rfl rfl ?_
        refine go_getI 42 dX4_next_39 rfl (MO_k hM.1) gfX4_442_5 rfl ?_
        refine go_if_ne 45 48 dX4_next_42 rfl (by decide) (fun e10 => ?_) (fun e10 => ?_)
        · replace vc := vc.1 e10
          refine go_bipush (v := (-2)) 50 dX4_next_48 rfl (by decide) ?_
          refine go_istore_n 51 3 [vR (some o), vI x1, vI x2, vI (-2), vU, vU, vU, vU] dX4_next_50 rfl rfl rfl rfl ?_
          refine go_iconst (v := nI 0) 52 dX4_next_51 rfl (by decide) ?_
          refine go_istore 54 [vR (some o), vI x1, vI x2, vI (-2), vI (nI 0), vU, vU, vU] dX4_next_52 rfl rfl rfl ?_
          refine go_aload_n 55 0 dX4_next_54 rfl rfl rfl ?_
          refine go_getI 58 dX4_next_55 rfl (MO_k hM.1) gfX4_439_5 rfl ?_
          rw [hM.f465]
          refine go_istore 60 [vR (some o), vI x1, vI x2, vI (-2), vI (nI 0), vI (nI (hm t8)), vU, vU] dX4_next_58 rfl rfl rfl ?_
          exact vc
        · replace vc := vc.2 e10
          refine go_bipush (v := (-2)) 47 dX4_next_45 rfl (by decide) ?_
          exact go_ireturn dX4_next_47 rfl vc
      · replace vc := vc.2 e3
        refine go_iconst (v := (-1)) 31 dX4_next_30 rfl (by decide) ?_
        exact go_ireturn dX4_next_31 rfl vc

theorem bX4_next_60 {h : Hp} {b : Nat × Nat} {Q : Rs → Hp → Prop} {o : Nat} {x1 : Int32} {x2 : Int32} {x3 : Int32} {x4 : Int32} {x5 : Int32} {y6 : AV} {y7 : AV} {t : St} {g : Nat} (hM : MS h o t g) (vc : (isSh t x1 ∧ (((nI (tones t (nt x1))) ≤ x5 → Q (rI x3) h) ∧ (¬ (nI (tones t (nt x1))) ≤ x5 → AWP mX4_next 18 76 [vR (some o), vI x1, vI x2, vI x3, vI x4, vI x5, vI (nI 0), vI (nI 0)] [] h b Q)))) : AWP mX4_next 18 60 [vR (some o), vI x1, vI x2, vI x3, vI x4, vI x5, y6, y7] [] h b Q := by
  refine go_iload 62 dX4_next_60 rfl rfl ?_
  refine go_aload_n 63 0 dX4_next_62 rfl rfl rfl ?_
  refine go_iload_n 64 1 dX4_next_63 rfl rfl rfl ?_
  refine go_callVI (M' := mX4_tonesOf) (as := [vI x1]) 67 dX4_next_64 rfl q1778 okX4_tonesOf (MO_k hM.1) ck_4 rfl rfl rfl rfl rfl (ctX4_tonesOf hM vc.1) ?_
  replace vc := vc.2
  intro x0 h0 p0
  rw [p0.1, p0.2]
  refine go_icmp_ge 70 136 dX4_next_67 rfl (by decide) (fun e1 => ?_) (fun e1 => ?_)
  · replace vc := vc.1 e1
    refine go_iload_n 137 3 dX4_next_136 rfl rfl rfl ?_
    exact go_ireturn dX4_next_137 rfl vc
  · replace vc := vc.2 e1
    refine go_iconst (v := nI 0) 71 dX4_next_70 rfl (by decide) ?_
    refine go_istore 73 [vR (some o), vI x1, vI x2, vI x3, vI x4, vI x5, vI (nI 0), y7] dX4_next_71 rfl rfl rfl ?_
    refine go_iconst (v := nI 0) 74 dX4_next_73 rfl (by decide) ?_
    refine go_istore 76 [vR (some o), vI x1, vI x2, vI x3, vI x4, vI x5, vI (nI 0), vI (nI 0)] dX4_next_74 rfl rfl rfl ?_
    exact vc

theorem bX4_next_76 {h : Hp} {b : Nat × Nat} {Q : Rs → Hp → Prop} {o : Nat} {x1 : Int32} {x2 : Int32} {x3 : Int32} {x4 : Int32} {x5 : Int32} {x6 : Int32} {x7 : Int32} {t : St} {g : Nat} (hM : MS h o t g) (vc : (((nI 100) ≤ x7 → ((x3 < 0 → AWP mX4_next 18 60 [vR (some o), vI x1, vI x2, vI x5, vI x6, vI (x5 + nI 1), vI x6, vI x7] [] h b Q) ∧ (¬ x3 < 0 → ((x6 < x4 → AWP mX4_next 18 60 [vR (some o), vI x1, vI x2, vI x5, vI x6, vI (x5 + nI 1), vI x6, vI x7] [] h b Q) ∧ (¬ x6 < x4 → AWP mX4_next 18 60 [vR (some o), vI x1, vI x2, vI x3, vI x4, vI (x5 + nI 1), vI x6, vI x7] [] h b Q))))) ∧ (¬ (nI 100) ≤ x7 → (vp_in (((nI 100) * x5) + x7) 600 ∧ AWP mX4_next 18 76 [vR (some o), vI x1, vI x2, vI x3, vI x4, vI x5, vI (mxI x6 (hAI h (o + 43) (nt (((nI 100) * x5) + x7)))), vI (x7 + nI 1)] [] h b Q)))) : AWP mX4_next 18 76 [vR (some o), vI x1, vI x2, vI x3, vI x4, vI x5, vI x6, vI x7] [] h b Q := by
  refine go_iload 78 dX4_next_76 rfl rfl ?_
  refine go_bipush (v := nI 100) 80 dX4_next_78 rfl (by decide) ?_
  refine go_icmp_ge 83 109 dX4_next_80 rfl (by decide) (fun e1 => ?_) (fun e1 => ?_)
  · replace vc := vc.1 e1
    refine go_iload_n 110 3 dX4_next_109 rfl rfl rfl ?_
    refine go_if_lt 113 123 dX4_next_110 rfl (by decide) (fun e2 => ?_) (fun e2 => ?_)
    · replace vc := vc.1 e2
      refine go_iload 125 dX4_next_123 rfl rfl ?_
      refine go_istore_n 126 3 [vR (some o), vI x1, vI x2, vI x5, vI x4, vI x5, vI x6, vI x7] dX4_next_125 rfl rfl rfl rfl ?_
      refine go_iload 128 dX4_next_126 rfl rfl ?_
      refine go_istore 130 [vR (some o), vI x1, vI x2, vI x5, vI x6, vI x5, vI x6, vI x7] dX4_next_128 rfl rfl rfl ?_
      refine go_iinc 133 (x5 + nI 1) [vR (some o), vI x1, vI x2, vI x5, vI x6, vI (x5 + nI 1), vI x6, vI x7] dX4_next_130 rfl rfl (by rfl) rfl rfl ?_
      refine go_goto 60 dX4_next_133 (by decide) ?_
      exact vc
    · replace vc := vc.2 e2
      refine go_iload 115 dX4_next_113 rfl rfl ?_
      refine go_iload 117 dX4_next_115 rfl rfl ?_
      refine go_icmp_lt 120 123 dX4_next_117 rfl (by decide) (fun e3 => ?_) (fun e3 => ?_)
      · replace vc := vc.1 e3
        refine go_iload 125 dX4_next_123 rfl rfl ?_
        refine go_istore_n 126 3 [vR (some o), vI x1, vI x2, vI x5, vI x4, vI x5, vI x6, vI x7] dX4_next_125 rfl rfl rfl rfl ?_
        refine go_iload 128 dX4_next_126 rfl rfl ?_
        refine go_istore 130 [vR (some o), vI x1, vI x2, vI x5, vI x6, vI x5, vI x6, vI x7] dX4_next_128 rfl rfl rfl ?_
        refine go_iinc 133 (x5 + nI 1) [vR (some o), vI x1, vI x2, vI x5, vI x6, vI (x5 + nI 1), vI x6, vI x7] dX4_next_130 rfl rfl (by rfl) rfl rfl ?_
        refine go_goto 60 dX4_next_133 (by decide) ?_
        exact vc
      · replace vc := vc.2 e3
        refine go_goto 130 dX4_next_120 (by decide) ?_
        refine go_iinc 133 (x5 + nI 1) [vR (some o), vI x1, vI x2, vI x3, vI x4, vI (x5 + nI 1), vI x6, vI x7] dX4_next_130 rfl rfl (by rfl) rfl rfl ?_
        refine go_goto 60 dX4_next_133 (by decide) ?_
        exact vc
  · replace vc := vc.2 e1
    refine go_iload 85 dX4_next_83 rfl rfl ?_
    refine go_aload_n 86 0 dX4_next_85 rfl rfl rfl ?_
    refine go_getRe 89 dX4_next_86 rfl (MO_k hM.1) gfX4_139_5 rfl (MO_f1470 hM.1) ?_
    refine go_bipush (v := nI 100) 91 dX4_next_89 rfl (by decide) ?_
    refine go_iload 93 dX4_next_91 rfl rfl ?_
    refine go_imul 94 dX4_next_93 rfl ?_
    refine go_iload 96 dX4_next_94 rfl rfl ?_
    refine go_iadd 97 dX4_next_96 rfl ?_
    refine go_iaload 98 dX4_next_97 rfl (MO_k43 hM.1) vc.1 ?_
    replace vc := vc.2
    refine go_callSI (M' := mX4_greater) (as := [vI x6, vI (hAI h (o + 43) (nt (((nI 100) * x5) + x7)))]) 101 dX4_next_98 rfl q1825 okX4_greater rfl rfl rfl rfl rfl (ctX4_greater) ?_
    intro x0 h0 p0
    rw [p0.1, p0.2]
    refine go_istore 103 [vR (some o), vI x1, vI x2, vI x3, vI x4, vI x5, vI (mxI x6 (hAI h (o + 43) (nt (((nI 100) * x5) + x7)))), vI x7] dX4_next_101 rfl rfl rfl ?_
    refine go_iinc 106 (x7 + nI 1) [vR (some o), vI x1, vI x2, vI x3, vI x4, vI x5, vI (mxI x6 (hAI h (o + 43) (nt (((nI 100) * x5) + x7)))), vI (x7 + nI 1)] dX4_next_103 rfl rfl (by rfl) rfl rfl ?_
    refine go_goto 76 dX4_next_106 (by decide) ?_
    exact vc

theorem bX4_begin_0 {h : Hp} {b : Nat × Nat} {Q : Rs → Hp → Prop} {o : Nat} {x1 : Int32} {t : St} {g : Nat} (hM : MS h o t g) (vc : (∃ (P3 : Hp → Prop), Ret mX4_take 2 [vR (some o), vI x1] h 0 0 (RV P3) ∧ ∀ h2, P3 h2 → (∃ t5 g6, MS h2 o t5 g6 ∧ AWP mX4_begin 3 7 [vR (some o), vI x1, vI (nI 0)] [] h2 b Q))) : AWP mX4_begin 3 0 [vR (some o), vI x1, vU] [] h b Q := by
  refine go_aload_n 1 0 dX4_begin_0 rfl rfl rfl ?_
  refine go_iload_n 2 1 dX4_begin_1 rfl rfl rfl ?_
  obtain ⟨P3, hR, vc⟩ := vc
  refine go_callVV (M' := mX4_take) (as := [vI x1]) 5 dX4_begin_2 rfl q1835 okX4_take (MO_k hM.1) ck_4 rfl rfl rfl rfl rfl hR ?_
  intro h2 p1
  replace vc := vc h2 p1
  obtain ⟨t5, g6, hM, vc⟩ := vc
  refine go_iconst (v := nI 0) 6 dX4_begin_5 rfl (by decide) ?_
  refine go_istore_n 7 2 [vR (some o), vI x1, vI (nI 0)] dX4_begin_6 rfl rfl rfl rfl ?_
  exact vc

theorem bX4_begin_7 {h : Hp} {b : Nat × Nat} {Q : Rs → Hp → Prop} {o : Nat} {x1 : Int32} {x2 : Int32} {t : St} {g : Nat} (hM : MS h o t g) (vc : (((nI 6) ≤ x2 → AWP mX4_begin 3 35 [vR (some o), vI x1, vI (nI 0)] [] h b Q) ∧ (¬ (nI 6) ≤ x2 → (vp_in x2 6 ∧ (∀ h2, h2 = w1 h (o + 46) (nt x2) (nI 0) → (vp_in x2 6 ∧ (∀ h3, h3 = w1 h2 (o + 47) (nt x2) (nI 0) → AWP mX4_begin 3 7 [vR (some o), vI x1, vI (x2 + nI 1)] [] h3 b Q))))))) : AWP mX4_begin 3 7 [vR (some o), vI x1, vI x2] [] h b Q := by
  refine go_iload_n 8 2 dX4_begin_7 rfl rfl rfl ?_
  refine go_bipush (v := nI 6) 10 dX4_begin_8 rfl (by decide) ?_
  refine go_icmp_ge 13 33 dX4_begin_10 rfl (by decide) (fun e1 => ?_) (fun e1 => ?_)
  · replace vc := vc.1 e1
    refine go_iconst (v := nI 0) 34 dX4_begin_33 rfl (by decide) ?_
    refine go_istore_n 35 2 [vR (some o), vI x1, vI (nI 0)] dX4_begin_34 rfl rfl rfl rfl ?_
    exact vc
  · replace vc := vc.2 e1
    refine go_aload_n 14 0 dX4_begin_13 rfl rfl rfl ?_
    refine go_getRe 17 dX4_begin_14 rfl (MO_k hM.1) gfX4_148_5 rfl (MO_f1475 hM.1) ?_
    refine go_iload_n 18 2 dX4_begin_17 rfl rfl rfl ?_
    refine go_iconst (v := nI 0) 19 dX4_begin_18 rfl (by decide) ?_
    refine go_iastore 20 dX4_begin_19 rfl (MO_k46 hM.1) vc.1 ?_
    replace vc := vc.2
    refine AWP.nm fun h2 eh2 => ?_
    replace vc := vc h2 eh2
    have hM : MS h2 o t g := by rw [eh2]; exact hM.fr (PE.A rfl)
    refine go_aload_n 21 0 dX4_begin_20 rfl rfl rfl ?_
    refine go_getRe 24 dX4_begin_21 rfl (MO_k hM.1) gfX4_151_5 rfl (MO_f1476 hM.1) ?_
    refine go_iload_n 25 2 dX4_begin_24 rfl rfl rfl ?_
    refine go_iconst (v := nI 0) 26 dX4_begin_25 rfl (by decide) ?_
    refine go_iastore 27 dX4_begin_26 rfl (MO_k47 hM.1) vc.1 ?_
    replace vc := vc.2
    refine AWP.nm fun h3 eh3 => ?_
    replace vc := vc h3 eh3
    have hM : MS h3 o t g := by rw [eh3]; exact hM.fr (PE.A rfl)
    refine go_iinc 30 (x2 + nI 1) [vR (some o), vI x1, vI (x2 + nI 1)] dX4_begin_27 rfl rfl (by rfl) rfl rfl ?_
    refine go_goto 7 dX4_begin_30 (by decide) ?_
    exact vc

theorem bX4_begin_35 {h : Hp} {b : Nat × Nat} {Q : Rs → Hp → Prop} {o : Nat} {x1 : Int32} {x2 : Int32} {t : St} {g : Nat} (hM : MS h o t g) (vc : (((nI 4) ≤ x2 → (∀ h2, h2 = sFI h 474 o (nI 0) → Q rV h2)) ∧ (¬ (nI 4) ≤ x2 → (vp_in x2 4 ∧ (nt x2) < 4 ∧ (isSh t x1 ∧ ((¬ (isCo t x1 (ea t (nt x2))) → (vp_in x2 4 ∧ (∀ h4, h4 = w1 h (o + 45) (nt x2) (-1) → AWP mX4_begin 3 35 [vR (some o), vI x1, vI (x2 + nI 1)] [] h4 b Q))) ∧ ((isCo t x1 (ea t (nt x2))) → (vp_in x2 4 ∧ (nt x2) < 4 ∧ (vp_in x2 4 ∧ (∀ h5, h5 = w1 h (o + 45) (nt x2) (ea t (nt x2)) → AWP mX4_begin 3 35 [vR (some o), vI x1, vI (x2 + nI 1)] [] h5 b Q)))))))))) : AWP mX4_begin 3 35 [vR (some o), vI x1, vI x2] [] h b Q := by
  refine go_iload_n 36 2 dX4_begin_35 rfl rfl rfl ?_
  refine go_iconst (v := nI 4) 37 dX4_begin_36 rfl (by decide) ?_
  refine go_icmp_ge 40 76 dX4_begin_37 rfl (by decide) (fun e1 => ?_) (fun e1 => ?_)
  · replace vc := vc.1 e1
    refine go_aload_n 77 0 dX4_begin_76 rfl rfl rfl ?_
    refine go_iconst (v := nI 0) 78 dX4_begin_77 rfl (by decide) ?_
    refine go_putI 81 dX4_begin_78 rfl (MO_k hM.1) (gpX4_463_5 _) rfl ?_
    refine AWP.nm fun h2 eh2 => ?_
    replace vc := vc h2 eh2
    have hM : MO h2 o := by rw [eh2]; exact hM.1
    exact go_return dX4_begin_81 rfl vc
  · replace vc := vc.2 e1
    refine go_aload_n 41 0 dX4_begin_40 rfl rfl rfl ?_
    refine go_getRe 44 dX4_begin_41 rfl (MO_k hM.1) gfX4_145_5 rfl (MO_f1473 hM.1) ?_
    refine go_iload_n 45 2 dX4_begin_44 rfl rfl rfl ?_
    refine go_aload_n 46 0 dX4_begin_45 rfl rfl rfl ?_
    refine go_iload_n 47 1 dX4_begin_46 rfl rfl rfl ?_
    refine go_aload_n 48 0 dX4_begin_47 rfl rfl rfl ?_
    refine go_getRe 51 dX4_begin_48 rfl (MO_k hM.1) gfX4_142_5 rfl (MO_f1472 hM.1) ?_
    refine go_iload_n 52 2 dX4_begin_51 rfl rfl rfl ?_
    refine go_iaload 53 dX4_begin_52 rfl (MO_k44 hM.1) vc.1 ?_
    replace vc := vc.2
    rw [hM.a44 vc.1]
    replace vc := vc.2
    refine go_callVI (M' := mX4_isCorner) (as := [vI x1, vI (ea t (nt x2))]) 56 dX4_begin_53 rfl q1746 okX4_isCorner (MO_k hM.1) ck_4 rfl rfl rfl rfl rfl (ctX4_isCorner hM vc.1) ?_
    replace vc := vc.2
    intro x0 h0 p0
    rw [p0.1, p0.2]
    refine go_if_eq 59 68 dX4_begin_56 rfl (by decide) (fun e3 => ?_) (fun e3 => ?_)
    · replace vc := vc.1 (bI_0.mp e3)
      refine go_iconst (v := (-1)) 69 dX4_begin_68 rfl (by decide) ?_
      refine go_iastore 70 dX4_begin_69 rfl (MO_k45 hM.1) vc.1 ?_
      replace vc := vc.2
      refine AWP.nm fun h4 eh4 => ?_
      replace vc := vc h4 eh4
      have hM : MO h4 o := by rw [eh4]; exact hM.1
      refine go_iinc 73 (x2 + nI 1) [vR (some o), vI x1, vI (x2 + nI 1)] dX4_begin_70 rfl rfl (by rfl) rfl rfl ?_
      refine go_goto 35 dX4_begin_73 (by decide) ?_
      exact vc
    · replace vc := vc.2 (bI_n0.mp e3)
      refine go_aload_n 60 0 dX4_begin_59 rfl rfl rfl ?_
      refine go_getRe 63 dX4_begin_60 rfl (MO_k hM.1) gfX4_142_5 rfl (MO_f1472 hM.1) ?_
      refine go_iload_n 64 2 dX4_begin_63 rfl rfl rfl ?_
      refine go_iaload 65 dX4_begin_64 rfl (MO_k44 hM.1) vc.1 ?_
      replace vc := vc.2
      rw [hM.a44 vc.1]
      replace vc := vc.2
      refine go_goto 69 dX4_begin_65 (by decide) ?_
      refine go_iastore 70 dX4_begin_69 rfl (MO_k45 hM.1) vc.1 ?_
      replace vc := vc.2
      refine AWP.nm fun h5 eh5 => ?_
      replace vc := vc h5 eh5
      have hM : MO h5 o := by rw [eh5]; exact hM.1
      refine go_iinc 73 (x2 + nI 1) [vR (some o), vI x1, vI (x2 + nI 1)] dX4_begin_70 rfl rfl (by rfl) rfl rfl ?_
      refine go_goto 35 dX4_begin_73 (by decide) ?_
      exact vc

theorem bX4_step_0 {h : Hp} {b : Nat × Nat} {Q : Rs → Hp → Prop} {o : Nat}  {t : St} {g : Nat} (hM : MS h o t g) (vc : AWP mX4_step 1 2 [vR (some o), vI (nI 0), vU, vU] [] h b Q) : AWP mX4_step 1 0 [vR (some o), vU, vU, vU] [] h b Q := by
  refine go_iconst (v := nI 0) 1 dX4_step_0 rfl (by decide) ?_
  refine go_istore_n 2 1 [vR (some o), vI (nI 0), vU, vU] dX4_step_1 rfl rfl rfl rfl ?_
  exact vc

theorem bX4_step_2 {h : Hp} {b : Nat × Nat} {Q : Rs → Hp → Prop} {o : Nat} {x1 : Int32} {y2 : AV} {y3 : AV} {t : St} {g : Nat} (hM : MS h o t g) (vc : (((hFI h 435 o) ≤ x1 → AWP mX4_step 1 95 [vR (some o), vI (nI 0), vI (nI 0), y3] [] h b Q) ∧ (¬ (hFI h 435 o) ≤ x1 → (vp_in x1 6 ∧ (vp_in x1 6 ∧ AWP mX4_step 1 26 [vR (some o), vI x1, vI ((hAI h (o + 24) (nt x1)) * (hAI h (o + 46) (nt x1))), vI (nI 0)] [] h b Q))))) : AWP mX4_step 1 2 [vR (some o), vI x1, y2, y3] [] h b Q := by
  refine go_iload_n 3 1 dX4_step_2 rfl rfl rfl ?_
  refine go_aload_n 4 0 dX4_step_3 rfl rfl rfl ?_
  refine go_getI 7 dX4_step_4 rfl (MO_k hM.1) gfX4_307_5 rfl ?_
  refine go_icmp_ge 10 91 dX4_step_7 rfl (by decide) (fun e1 => ?_) (fun e1 => ?_)
  · replace vc := vc.1 e1
    refine go_iconst (v := nI 0) 92 dX4_step_91 rfl (by decide) ?_
    refine go_istore_n 93 1 [vR (some o), vI (nI 0), y2, y3] dX4_step_92 rfl rfl rfl rfl ?_
    refine go_iconst (v := nI 0) 94 dX4_step_93 rfl (by decide) ?_
    refine go_istore_n 95 2 [vR (some o), vI (nI 0), vI (nI 0), y3] dX4_step_94 rfl rfl rfl rfl ?_
    exact vc
  · replace vc := vc.2 e1
    refine go_aload_n 11 0 dX4_step_10 rfl rfl rfl ?_
    refine go_getRe 14 dX4_step_11 rfl (MO_k hM.1) gfX4_81_5 rfl (MO_f1432 hM.1) ?_
    refine go_iload_n 15 1 dX4_step_14 rfl rfl rfl ?_
    refine go_iaload 16 dX4_step_15 rfl (MO_k24 hM.1) vc.1 ?_
    replace vc := vc.2
    refine go_aload_n 17 0 dX4_step_16 rfl rfl rfl ?_
    refine go_getRe 20 dX4_step_17 rfl (MO_k hM.1) gfX4_148_5 rfl (MO_f1475 hM.1) ?_
    refine go_iload_n 21 1 dX4_step_20 rfl rfl rfl ?_
    refine go_iaload 22 dX4_step_21 rfl (MO_k46 hM.1) vc.1 ?_
    replace vc := vc.2
    refine go_imul 23 dX4_step_22 rfl ?_
    refine go_istore_n 24 2 [vR (some o), vI x1, vI ((hAI h (o + 24) (nt x1)) * (hAI h (o + 46) (nt x1))), y3] dX4_step_23 rfl rfl rfl rfl ?_
    refine go_iconst (v := nI 0) 25 dX4_step_24 rfl (by decide) ?_
    refine go_istore_n 26 3 [vR (some o), vI x1, vI ((hAI h (o + 24) (nt x1)) * (hAI h (o + 46) (nt x1))), vI (nI 0)] dX4_step_25 rfl rfl rfl rfl ?_
    exact vc

theorem bX4_step_26 {h : Hp} {b : Nat × Nat} {Q : Rs → Hp → Prop} {o : Nat} {x1 : Int32} {x2 : Int32} {x3 : Int32} {t : St} {g : Nat} (hM : MS h o t g) (vc : (((hFI h 435 o) ≤ x3 → (vp_in x1 6 ∧ (¬ (hAI h (o + 23) (nt x1)) = 0 ∧ (vp_in x1 6 ∧ (∀ h2, h2 = w1 h (o + 48) (nt x1) ((x2 / (hAI h (o + 23) (nt x1))) / (nI 8)) → AWP mX4_step 1 2 [vR (some o), vI (x1 + nI 1), vI x2, vI x3] [] h2 b Q))))) ∧ (¬ (hFI h 435 o) ≤ x3 → (vp_in (((nI 6) * x1) + x3) 36 ∧ (vp_in x1 6 ∧ (vp_in x3 6 ∧ AWP mX4_step 1 26 [vR (some o), vI x1, vI (x2 + ((hAI h (o + 26) (nt (((nI 6) * x1) + x3))) * ((hAI h (o + 46) (nt x1)) - (hAI h (o + 46) (nt x3))))), vI (x3 + nI 1)] [] h b Q)))))) : AWP mX4_step 1 26 [vR (some o), vI x1, vI x2, vI x3] [] h b Q := by
  refine go_iload_n 27 3 dX4_step_26 rfl rfl rfl ?_
  refine go_aload_n 28 0 dX4_step_27 rfl rfl rfl ?_
  refine go_getI 31 dX4_step_28 rfl (MO_k hM.1) gfX4_307_5 rfl ?_
  refine go_icmp_ge 34 68 dX4_step_31 rfl (by decide) (fun e1 => ?_) (fun e1 => ?_)
  · replace vc := vc.1 e1
    refine go_aload_n 69 0 dX4_step_68 rfl rfl rfl ?_
    refine go_getRe 72 dX4_step_69 rfl (MO_k hM.1) gfX4_154_5 rfl (MO_f1477 hM.1) ?_
    refine go_iload_n 73 1 dX4_step_72 rfl rfl rfl ?_
    refine go_iload_n 74 2 dX4_step_73 rfl rfl rfl ?_
    refine go_aload_n 75 0 dX4_step_74 rfl rfl rfl ?_
    refine go_getRe 78 dX4_step_75 rfl (MO_k hM.1) gfX4_78_5 rfl (MO_f1431 hM.1) ?_
    refine go_iload_n 79 1 dX4_step_78 rfl rfl rfl ?_
    refine go_iaload 80 dX4_step_79 rfl (MO_k23 hM.1) vc.1 ?_
    replace vc := vc.2
    refine go_idiv 81 dX4_step_80 rfl vc.1 ?_
    replace vc := vc.2
    refine go_bipush (v := nI 8) 83 dX4_step_81 rfl (by decide) ?_
    refine go_idiv 84 dX4_step_83 rfl (by decide) ?_
    refine go_iastore 85 dX4_step_84 rfl (MO_k48 hM.1) vc.1 ?_
    replace vc := vc.2
    refine AWP.nm fun h2 eh2 => ?_
    replace vc := vc h2 eh2
    have hM : MS h2 o t g := by rw [eh2]; exact hM.fr (PE.A rfl)
    refine go_iinc 88 (x1 + nI 1) [vR (some o), vI (x1 + nI 1), vI x2, vI x3] dX4_step_85 rfl rfl (by rfl) rfl rfl ?_
    refine go_goto 2 dX4_step_88 (by decide) ?_
    exact vc
  · replace vc := vc.2 e1
    refine go_iload_n 35 2 dX4_step_34 rfl rfl rfl ?_
    refine go_aload_n 36 0 dX4_step_35 rfl rfl rfl ?_
    refine go_getRe 39 dX4_step_36 rfl (MO_k hM.1) gfX4_87_5 rfl (MO_f1434 hM.1) ?_
    refine go_bipush (v := nI 6) 41 dX4_step_39 rfl (by decide) ?_
    refine go_iload_n 42 1 dX4_step_41 rfl rfl rfl ?_
    refine go_imul 43 dX4_step_42 rfl ?_
    refine go_iload_n 44 3 dX4_step_43 rfl rfl rfl ?_
    refine go_iadd 45 dX4_step_44 rfl ?_
    refine go_iaload 46 dX4_step_45 rfl (MO_k26 hM.1) vc.1 ?_
    replace vc := vc.2
    refine go_aload_n 47 0 dX4_step_46 rfl rfl rfl ?_
    refine go_getRe 50 dX4_step_47 rfl (MO_k hM.1) gfX4_148_5 rfl (MO_f1475 hM.1) ?_
    refine go_iload_n 51 1 dX4_step_50 rfl rfl rfl ?_
    refine go_iaload 52 dX4_step_51 rfl (MO_k46 hM.1) vc.1 ?_
    replace vc := vc.2
    refine go_aload_n 53 0 dX4_step_52 rfl rfl rfl ?_
    refine go_getRe 56 dX4_step_53 rfl (MO_k hM.1) gfX4_148_5 rfl (MO_f1475 hM.1) ?_
    refine go_iload_n 57 3 dX4_step_56 rfl rfl rfl ?_
    refine go_iaload 58 dX4_step_57 rfl (MO_k46 hM.1) vc.1 ?_
    replace vc := vc.2
    refine go_isub 59 dX4_step_58 rfl ?_
    refine go_imul 60 dX4_step_59 rfl ?_
    refine go_iadd 61 dX4_step_60 rfl ?_
    refine go_istore_n 62 2 [vR (some o), vI x1, vI (x2 + ((hAI h (o + 26) (nt (((nI 6) * x1) + x3))) * ((hAI h (o + 46) (nt x1)) - (hAI h (o + 46) (nt x3))))), vI x3] dX4_step_61 rfl rfl rfl rfl ?_
    refine go_iinc 65 (x3 + nI 1) [vR (some o), vI x1, vI (x2 + ((hAI h (o + 26) (nt (((nI 6) * x1) + x3))) * ((hAI h (o + 46) (nt x1)) - (hAI h (o + 46) (nt x3))))), vI (x3 + nI 1)] dX4_step_62 rfl rfl (by rfl) rfl rfl ?_
    refine go_goto 26 dX4_step_65 (by decide) ?_
    exact vc

theorem bX4_step_95 {h : Hp} {b : Nat × Nat} {Q : Rs → Hp → Prop} {o : Nat} {x1 : Int32} {x2 : Int32} {y3 : AV} {t : St} {g : Nat} (hM : MS h o t g) (vc : (((hFI h 435 o) ≤ x2 → AWP mX4_step 1 194 [vR (some o), vI x1, vI (nI 0), y3] [] h b Q) ∧ (¬ (hFI h 435 o) ≤ x2 → (vp_in x2 6 ∧ (((hAI h (o + 25) (nt x2)) = 0 → (vp_in x2 6 ∧ (vp_in x2 6 ∧ (vp_in x2 6 ∧ (∀ h3, h3 = w1 h (o + 47) (nt x2) ((hAI h (o + 47) (nt x2)) - (hAI h (o + 48) (nt x2))) → (vp_in x2 6 ∧ (vp_in x2 6 ∧ (vp_in x2 6 ∧ (∀ h4, h4 = w1 h3 (o + 47) (nt x2) ((hAI h3 (o + 47) (nt x2)) - (((hAI h3 (o + 47) (nt x2)) * (nI (dp t))) / (nI 1000))) → (vp_in x2 6 ∧ (vp_in x2 6 ∧ (vp_in x2 6 ∧ (∀ h5, h5 = w1 h4 (o + 46) (nt x2) ((hAI h4 (o + 46) (nt x2)) + ((hAI h4 (o + 47) (nt x2)) / (nI 8))) → (vp_in x2 6 ∧ AWP mX4_step 1 95 [vR (some o), vI (mxI x1 (abI (hAI h5 (o + 46) (nt x2)))), vI (x2 + nI 1), y3] [] h5 b Q)))))))))))))) ∧ (¬ (hAI h (o + 25) (nt x2)) = 0 → AWP mX4_step 1 95 [vR (some o), vI x1, vI (x2 + nI 1), y3] [] h b Q)))))) : AWP mX4_step 1 95 [vR (some o), vI x1, vI x2, y3] [] h b Q := by
  refine go_iload_n 96 2 dX4_step_95 rfl rfl rfl ?_
  refine go_aload_n 97 0 dX4_step_96 rfl rfl rfl ?_
  refine go_getI 100 dX4_step_97 rfl (MO_k hM.1) gfX4_307_5 rfl ?_
  refine go_icmp_ge 103 192 dX4_step_100 rfl (by decide) (fun e1 => ?_) (fun e1 => ?_)
  · replace vc := vc.1 e1
    refine go_iconst (v := nI 0) 193 dX4_step_192 rfl (by decide) ?_
    refine go_istore_n 194 2 [vR (some o), vI x1, vI (nI 0), y3] dX4_step_193 rfl rfl rfl rfl ?_
    exact vc
  · replace vc := vc.2 e1
    refine go_aload_n 104 0 dX4_step_103 rfl rfl rfl ?_
    refine go_getRe 107 dX4_step_104 rfl (MO_k hM.1) gfX4_84_5 rfl (MO_f1433 hM.1) ?_
    refine go_iload_n 108 2 dX4_step_107 rfl rfl rfl ?_
    refine go_baloadZ 109 dX4_step_108 rfl (MO_k25 hM.1) vc.1 ?_
    replace vc := vc.2
    refine go_if_eq 112 115 dX4_step_109 rfl (by decide) (fun e2 => ?_) (fun e2 => ?_)
    · replace vc := vc.1 e2
      refine go_aload_n 116 0 dX4_step_115 rfl rfl rfl ?_
      refine go_getRe 119 dX4_step_116 rfl (MO_k hM.1) gfX4_151_5 rfl (MO_f1476 hM.1) ?_
      refine go_iload_n 120 2 dX4_step_119 rfl rfl rfl ?_
      refine go_dup2 121 dX4_step_120 rfl rfl rfl ?_
      refine go_iaload 122 dX4_step_121 rfl (MO_k47 hM.1) vc.1 ?_
      replace vc := vc.2
      refine go_aload_n 123 0 dX4_step_122 rfl rfl rfl ?_
      refine go_getRe 126 dX4_step_123 rfl (MO_k hM.1) gfX4_154_5 rfl (MO_f1477 hM.1) ?_
      refine go_iload_n 127 2 dX4_step_126 rfl rfl rfl ?_
      refine go_iaload 128 dX4_step_127 rfl (MO_k48 hM.1) vc.1 ?_
      replace vc := vc.2
      refine go_isub 129 dX4_step_128 rfl ?_
      refine go_iastore 130 dX4_step_129 rfl (MO_k47 hM.1) vc.1 ?_
      replace vc := vc.2
      refine AWP.nm fun h3 eh3 => ?_
      replace vc := vc h3 eh3
      have hM : MS h3 o t g := by rw [eh3]; exact hM.fr (PE.A rfl)
      refine go_aload_n 131 0 dX4_step_130 rfl rfl rfl ?_
      refine go_getRe 134 dX4_step_131 rfl (MO_k hM.1) gfX4_151_5 rfl (MO_f1476 hM.1) ?_
      refine go_iload_n 135 2 dX4_step_134 rfl rfl rfl ?_
      refine go_dup2 136 dX4_step_135 rfl rfl rfl ?_
      refine go_iaload 137 dX4_step_136 rfl (MO_k47 hM.1) vc.1 ?_
      replace vc := vc.2
      refine go_aload_n 138 0 dX4_step_137 rfl rfl rfl ?_
      refine go_getRe 141 dX4_step_138 rfl (MO_k hM.1) gfX4_151_5 rfl (MO_f1476 hM.1) ?_
      refine go_iload_n 142 2 dX4_step_141 rfl rfl rfl ?_
      refine go_iaload 143 dX4_step_142 rfl (MO_k47 hM.1) vc.1 ?_
      replace vc := vc.2
      refine go_aload_n 144 0 dX4_step_143 rfl rfl rfl ?_
      refine go_getI 147 dX4_step_144 rfl (MO_k hM.1) gfX4_457_5 rfl ?_
      rw [hM.f471]
      refine go_imul 148 dX4_step_147 rfl ?_
      refine go_sipush (v := nI 1000) 151 dX4_step_148 rfl (by decide) ?_
      refine go_idiv 152 dX4_step_151 rfl (by decide) ?_
      refine go_isub 153 dX4_step_152 rfl ?_
      refine go_iastore 154 dX4_step_153 rfl (MO_k47 hM.1) vc.1 ?_
      replace vc := vc.2
      refine AWP.nm fun h4 eh4 => ?_
      replace vc := vc h4 eh4
      have hM : MS h4 o t g := by rw [eh4]; exact hM.fr (PE.A rfl)
      refine go_aload_n 155 0 dX4_step_154 rfl rfl rfl ?_
      refine go_getRe 158 dX4_step_155 rfl (MO_k hM.1) gfX4_148_5 rfl (MO_f1475 hM.1) ?_
      refine go_iload_n 159 2 dX4_step_158 rfl rfl rfl ?_
      refine go_dup2 160 dX4_step_159 rfl rfl rfl ?_
      refine go_iaload 161 dX4_step_160 rfl (MO_k46 hM.1) vc.1 ?_
      replace vc := vc.2
      refine go_aload_n 162 0 dX4_step_161 rfl rfl rfl ?_
      refine go_getRe 165 dX4_step_162 rfl (MO_k hM.1) gfX4_151_5 rfl (MO_f1476 hM.1) ?_
      refine go_iload_n 166 2 dX4_step_165 rfl rfl rfl ?_
      refine go_iaload 167 dX4_step_166 rfl (MO_k47 hM.1) vc.1 ?_
      replace vc := vc.2
      refine go_bipush (v := nI 8) 169 dX4_step_167 rfl (by decide) ?_
      refine go_idiv 170 dX4_step_169 rfl (by decide) ?_
      refine go_iadd 171 dX4_step_170 rfl ?_
      refine go_iastore 172 dX4_step_171 rfl (MO_k46 hM.1) vc.1 ?_
      replace vc := vc.2
      refine AWP.nm fun h5 eh5 => ?_
      replace vc := vc h5 eh5
      have hM : MS h5 o t g := by rw [eh5]; exact hM.fr (PE.A rfl)
      refine go_iload_n 173 1 dX4_step_172 rfl rfl rfl ?_
      refine go_aload_n 174 0 dX4_step_173 rfl rfl rfl ?_
      refine go_getRe 177 dX4_step_174 rfl (MO_k hM.1) gfX4_148_5 rfl (MO_f1475 hM.1) ?_
      refine go_iload_n 178 2 dX4_step_177 rfl rfl rfl ?_
      refine go_iaload 179 dX4_step_178 rfl (MO_k46 hM.1) vc.1 ?_
      replace vc := vc.2
      refine go_callSI (M' := mX4_sizeOf) (as := [vI (hAI h5 (o + 46) (nt x2))]) 182 dX4_step_179 rfl q1982 okX4_sizeOf rfl rfl rfl rfl rfl (ctX4_sizeOf) ?_
      intro x0 h0 p0
      rw [p0.1, p0.2]
      refine go_callSI (M' := mX4_greater) (as := [vI x1, vI (abI (hAI h5 (o + 46) (nt x2)))]) 185 dX4_step_182 rfl q1825 okX4_greater rfl rfl rfl rfl rfl (ctX4_greater) ?_
      intro x0 h0 p0
      rw [p0.1, p0.2]
      refine go_istore_n 186 1 [vR (some o), vI (mxI x1 (abI (hAI h5 (o + 46) (nt x2)))), vI x2, y3] dX4_step_185 rfl rfl rfl rfl ?_
      refine go_iinc 189 (x2 + nI 1) [vR (some o), vI (mxI x1 (abI (hAI h5 (o + 46) (nt x2)))), vI (x2 + nI 1), y3] dX4_step_186 rfl rfl (by rfl) rfl rfl ?_
      refine go_goto 95 dX4_step_189 (by decide) ?_
      exact vc
    · replace vc := vc.2 e2
      refine go_goto 186 dX4_step_112 (by decide) ?_
      refine go_iinc 189 (x2 + nI 1) [vR (some o), vI x1, vI (x2 + nI 1), y3] dX4_step_186 rfl rfl (by rfl) rfl rfl ?_
      refine go_goto 95 dX4_step_189 (by decide) ?_
      exact vc

theorem bX4_step_194 {h : Hp} {b : Nat × Nat} {Q : Rs → Hp → Prop} {o : Nat} {x1 : Int32} {x2 : Int32} {y3 : AV} {t : St} {g : Nat} (hM : MS h o t g) (vc : (((nI 4) ≤ x2 → (∀ h2, h2 = sFI h 474 o ((nI (sp t)) + (nI 1)) → Q (rI x1) h2)) ∧ (¬ (nI 4) ≤ x2 → (vp_in x2 4 ∧ (nt x2) < 4 ∧ (((ew t (nt x2)) < 0 → AWP mX4_step 1 194 [vR (some o), vI x1, vI (x2 + nI 1), y3] [] h b Q) ∧ (¬ (ew t (nt x2)) < 0 → (vp_in x2 4 ∧ (nt x2) < 4 ∧ (vp_in (ew t (nt x2)) 6 ∧ (vp_in (((nI 200) * x2) + (nI (sp t))) 800 ∧ (∀ h4, h4 = w1 h (o + 49) (nt (((nI 200) * x2) + (nI (sp t)))) (hAI h (o + 46) (nt (ew t (nt x2)))) → AWP mX4_step 1 194 [vR (some o), vI x1, vI (x2 + nI 1), y3] [] h4 b Q)))))))))) : AWP mX4_step 1 194 [vR (some o), vI x1, vI x2, y3] [] h b Q := by
  refine go_iload_n 195 2 dX4_step_194 rfl rfl rfl ?_
  refine go_iconst (v := nI 4) 196 dX4_step_195 rfl (by decide) ?_
  refine go_icmp_ge 199 240 dX4_step_196 rfl (by decide) (fun e1 => ?_) (fun e1 => ?_)
  · replace vc := vc.1 e1
    refine go_aload_n 241 0 dX4_step_240 rfl rfl rfl ?_
    refine go_dup 242 dX4_step_241 rfl rfl ?_
    refine go_getI 245 dX4_step_242 rfl (MO_k hM.1) gfX4_463_5 rfl ?_
    rw [hM.f474]
    refine go_iconst (v := nI 1) 246 dX4_step_245 rfl (by decide) ?_
    refine go_iadd 247 dX4_step_246 rfl ?_
    refine go_putI 250 dX4_step_247 rfl (MO_k hM.1) (gpX4_463_5 _) rfl ?_
    refine AWP.nm fun h2 eh2 => ?_
    replace vc := vc h2 eh2
    have hM : MO h2 o := by rw [eh2]; exact hM.1
    refine go_iload_n 251 1 dX4_step_250 rfl rfl rfl ?_
    exact go_ireturn dX4_step_251 rfl vc
  · replace vc := vc.2 e1
    refine go_aload_n 200 0 dX4_step_199 rfl rfl rfl ?_
    refine go_getRe 203 dX4_step_200 rfl (MO_k hM.1) gfX4_145_5 rfl (MO_f1473 hM.1) ?_
    refine go_iload_n 204 2 dX4_step_203 rfl rfl rfl ?_
    refine go_iaload 205 dX4_step_204 rfl (MO_k45 hM.1) vc.1 ?_
    replace vc := vc.2
    rw [hM.a45 vc.1]
    replace vc := vc.2
    refine go_if_lt 208 234 dX4_step_205 rfl (by decide) (fun e3 => ?_) (fun e3 => ?_)
    · replace vc := vc.1 e3
      refine go_iinc 237 (x2 + nI 1) [vR (some o), vI x1, vI (x2 + nI 1), y3] dX4_step_234 rfl rfl (by rfl) rfl rfl ?_
      refine go_goto 194 dX4_step_237 (by decide) ?_
      exact vc
    · replace vc := vc.2 e3
      refine go_aload_n 209 0 dX4_step_208 rfl rfl rfl ?_
      refine go_getRe 212 dX4_step_209 rfl (MO_k hM.1) gfX4_157_5 rfl (MO_f1478 hM.1) ?_
      refine go_sipush (v := nI 200) 215 dX4_step_212 rfl (by decide) ?_
      refine go_iload_n 216 2 dX4_step_215 rfl rfl rfl ?_
      refine go_imul 217 dX4_step_216 rfl ?_
      refine go_aload_n 218 0 dX4_step_217 rfl rfl rfl ?_
      refine go_getI 221 dX4_step_218 rfl (MO_k hM.1) gfX4_463_5 rfl ?_
      rw [hM.f474]
      refine go_iadd 222 dX4_step_221 rfl ?_
      refine go_aload_n 223 0 dX4_step_222 rfl rfl rfl ?_
      refine go_getRe 226 dX4_step_223 rfl (MO_k hM.1) gfX4_148_5 rfl (MO_f1475 hM.1) ?_
      refine go_aload_n 227 0 dX4_step_226 rfl rfl rfl ?_
      refine go_getRe 230 dX4_step_227 rfl (MO_k hM.1) gfX4_145_5 rfl (MO_f1473 hM.1) ?_
      refine go_iload_n 231 2 dX4_step_230 rfl rfl rfl ?_
      refine go_iaload 232 dX4_step_231 rfl (MO_k45 hM.1) vc.1 ?_
      replace vc := vc.2
      rw [hM.a45 vc.1]
      replace vc := vc.2
      refine go_iaload 233 dX4_step_232 rfl (MO_k46 hM.1) vc.1 ?_
      replace vc := vc.2
      refine go_iastore 234 dX4_step_233 rfl (MO_k49 hM.1) vc.1 ?_
      replace vc := vc.2
      refine AWP.nm fun h4 eh4 => ?_
      replace vc := vc h4 eh4
      have hM : MO h4 o := by rw [eh4]; exact hM.1
      refine go_iinc 237 (x2 + nI 1) [vR (some o), vI x1, vI (x2 + nI 1), y3] dX4_step_234 rfl rfl (by rfl) rfl rfl ?_
      refine go_goto 194 dX4_step_237 (by decide) ?_
      exact vc

theorem bX4_blow_0 {h : Hp} {b : Nat × Nat} {Q : Rs → Hp → Prop} {o : Nat} {x1 : Int32} {x2 : Int32} {x3 : Int32} {x4 : Int32} {t : St} {g : Nat} (hM : MS h o t g) (vc : ((¬ (isSh t x1) → Q (rI (-1)) h) ∧ ((isSh t x1) → (isSh t x1 ∧ ((¬ (isCo t x1 x2) → Q (rI (-1)) h) ∧ ((isCo t x1 x2) → ((¬ (bt x3 (-99) 99) → Q (rI (-1)) h) ∧ ((bt x3 (-99) 99) → (((bt x4 1 200) → (vp_in (((nI 6) * x1) + x2) 78 ∧ (nt (((nI 6) * x1) + x2)) < 6 * ns t ∧ (((hl t (nt (((nI 6) * x1) + x2))) = 0 → (∃ (P8 : Hp → Prop), Ret mX4_begin 3 [vR (some o), vI x1] h 0 0 (RV P8) ∧ ∀ h7, P8 h7 → (∃ t10 g11, MS h7 o t10 g11 ∧ (vp_in x2 6 ∧ (∀ h12, h12 = w1 h7 (o + 47) (nt x2) (x3 * (nI 64)) → AWP mX4_blow 4 80 [vR (some o), vI x1, vI x2, vI x3, vI x4, vI (nI 0), vI (nI 0)] [] h12 b Q))))) ∧ (¬ (hl t (nt (((nI 6) * x1) + x2))) = 0 → Q (rI (-4)) h)))) ∧ (¬ (bt x4 1 200) → Q (rI (-1)) h)))))))))) : AWP mX4_blow 4 0 [vR (some o), vI x1, vI x2, vI x3, vI x4, vU, vU] [] h b Q := by
  refine go_aload_n 1 0 dX4_blow_0 rfl rfl rfl ?_
  refine go_iload_n 2 1 dX4_blow_1 rfl rfl rfl ?_
  refine go_callVI (M' := mX4_isShape) (as := [vI x1]) 5 dX4_blow_2 rfl q1769 okX4_isShape (MO_k hM.1) ck_4 rfl rfl rfl rfl rfl (ctX4_isShape hM) ?_
  intro x0 h0 p0
  rw [p0.1, p0.2]
  refine go_if_eq 8 40 dX4_blow_5 rfl (by decide) (fun e1 => ?_) (fun e1 => ?_)
  · replace vc := vc.1 (bI_0.mp e1)
    refine go_iconst (v := (-1)) 41 dX4_blow_40 rfl (by decide) ?_
    exact go_ireturn dX4_blow_41 rfl vc
  · replace vc := vc.2 (bI_n0.mp e1)
    refine go_aload_n 9 0 dX4_blow_8 rfl rfl rfl ?_
    refine go_iload_n 10 1 dX4_blow_9 rfl rfl rfl ?_
    refine go_iload_n 11 2 dX4_blow_10 rfl rfl rfl ?_
    refine go_callVI (M' := mX4_isCorner) (as := [vI x1, vI x2]) 14 dX4_blow_11 rfl q1746 okX4_isCorner (MO_k hM.1) ck_4 rfl rfl rfl rfl rfl (ctX4_isCorner hM vc.1) ?_
    replace vc := vc.2
    intro x0 h0 p0
    rw [p0.1, p0.2]
    refine go_if_eq 17 40 dX4_blow_14 rfl (by decide) (fun e2 => ?_) (fun e2 => ?_)
    · replace vc := vc.1 (bI_0.mp e2)
      refine go_iconst (v := (-1)) 41 dX4_blow_40 rfl (by decide) ?_
      exact go_ireturn dX4_blow_41 rfl vc
    · replace vc := vc.2 (bI_n0.mp e2)
      refine go_iload_n 18 3 dX4_blow_17 rfl rfl rfl ?_
      refine go_bipush (v := (-99)) 20 dX4_blow_18 rfl (by decide) ?_
      refine go_bipush (v := nI 99) 22 dX4_blow_20 rfl (by decide) ?_
      refine go_callSI (M' := mX4_in) (as := [vI x3, vI (-99), vI (nI 99)]) 25 dX4_blow_22 rfl q1703 okX4_in rfl rfl rfl rfl rfl (ctX4_inL rfl rfl) ?_
      intro x0 h0 p0
      rw [p0.1, p0.2]
      refine go_if_eq 28 40 dX4_blow_25 rfl (by decide) (fun e3 => ?_) (fun e3 => ?_)
      · replace vc := vc.1 (bI_0.mp e3)
        refine go_iconst (v := (-1)) 41 dX4_blow_40 rfl (by decide) ?_
        exact go_ireturn dX4_blow_41 rfl vc
      · replace vc := vc.2 (bI_n0.mp e3)
        refine go_iload 30 dX4_blow_28 rfl rfl ?_
        refine go_iconst (v := nI 1) 31 dX4_blow_30 rfl (by decide) ?_
        refine go_sipush (v := nI 200) 34 dX4_blow_31 rfl (by decide) ?_
        refine go_callSI (M' := mX4_in) (as := [vI x4, vI (nI 1), vI (nI 200)]) 37 dX4_blow_34 rfl q1703 okX4_in rfl rfl rfl rfl rfl (ctX4_inL rfl rfl) ?_
        intro x0 h0 p0
        rw [p0.1, p0.2]
        refine go_if_ne 40 42 dX4_blow_37 rfl (by decide) (fun e4 => ?_) (fun e4 => ?_)
        · replace vc := vc.1 (bI_n0.mp e4)
          refine go_aload_n 43 0 dX4_blow_42 rfl rfl rfl ?_
          refine go_getRe 46 dX4_blow_43 rfl (MO_k hM.1) gfX4_22_5 rfl (MO_f1406 hM.1) ?_
          refine go_bipush (v := nI 6) 48 dX4_blow_46 rfl (by decide) ?_
          refine go_iload_n 49 1 dX4_blow_48 rfl rfl rfl ?_
          refine go_imul 50 dX4_blow_49 rfl ?_
          refine go_iload_n 51 2 dX4_blow_50 rfl rfl rfl ?_
          refine go_iadd 52 dX4_blow_51 rfl ?_
          refine go_baloadZ 53 dX4_blow_52 rfl (MO_k5 hM.1) vc.1 ?_
          replace vc := vc.2
          rw [hM.a5 vc.1]
          replace vc := vc.2
          refine go_if_eq 56 59 dX4_blow_53 rfl (by decide) (fun e5 => ?_) (fun e5 => ?_)
          · replace vc := vc.1 e5
            refine go_aload_n 60 0 dX4_blow_59 rfl rfl rfl ?_
            refine go_iload_n 61 1 dX4_blow_60 rfl rfl rfl ?_
            obtain ⟨P8, hR, vc⟩ := vc
            refine go_callVV (M' := mX4_begin) (as := [vI x1]) 64 dX4_blow_61 rfl q2032 okX4_begin (MO_k hM.1) ck_4 rfl rfl rfl rfl rfl hR ?_
            intro h7 p1
            replace vc := vc h7 p1
            obtain ⟨t10, g11, hM, vc⟩ := vc
            refine go_aload_n 65 0 dX4_blow_64 rfl rfl rfl ?_
            refine go_getRe 68 dX4_blow_65 rfl (MO_k hM.1) gfX4_151_5 rfl (MO_f1476 hM.1) ?_
            refine go_iload_n 69 2 dX4_blow_68 rfl rfl rfl ?_
            refine go_iload_n 70 3 dX4_blow_69 rfl rfl rfl ?_
            refine go_bipush (v := nI 64) 72 dX4_blow_70 rfl (by decide) ?_
            refine go_imul 73 dX4_blow_72 rfl ?_
            refine go_iastore 74 dX4_blow_73 rfl (MO_k47 hM.1) vc.1 ?_
            replace vc := vc.2
            refine AWP.nm fun h12 eh12 => ?_
            replace vc := vc h12 eh12
            have hM : MS h12 o t10 g11 := by rw [eh12]; exact hM.fr (PE.A rfl)
            refine go_iconst (v := nI 0) 75 dX4_blow_74 rfl (by decide) ?_
            refine go_istore 77 [vR (some o), vI x1, vI x2, vI x3, vI x4, vI (nI 0), vU] dX4_blow_75 rfl rfl rfl ?_
            refine go_iconst (v := nI 0) 78 dX4_blow_77 rfl (by decide) ?_
            refine go_istore 80 [vR (some o), vI x1, vI x2, vI x3, vI x4, vI (nI 0), vI (nI 0)] dX4_blow_78 rfl rfl rfl ?_
            exact vc
          · replace vc := vc.2 e5
            refine go_bipush (v := (-4)) 58 dX4_blow_56 rfl (by decide) ?_
            exact go_ireturn dX4_blow_58 rfl vc
        · replace vc := vc.2 (bI_0.mp e4)
          refine go_iconst (v := (-1)) 41 dX4_blow_40 rfl (by decide) ?_
          exact go_ireturn dX4_blow_41 rfl vc

theorem bX4_blow_80 {h : Hp} {b : Nat × Nat} {Q : Rs → Hp → Prop} {o : Nat} {x1 : Int32} {x2 : Int32} {x3 : Int32} {x4 : Int32} {x5 : Int32} {x6 : Int32} {t : St} {g : Nat} (hM : MS h o t g) (vc : ((x4 ≤ x6 → Q (rI x5) h) ∧ (¬ x4 ≤ x6 → (∃ (P4 : Int32 → Hp → Prop), Ret mX4_step 1 [vR (some o)] h 0 0 (RI P4) ∧ ∀ z2 h3, P4 z2 h3 → (∃ t6 g7, MS h3 o t6 g7 ∧ AWP mX4_blow 4 80 [vR (some o), vI x1, vI x2, vI x3, vI x4, vI (mxI x5 z2), vI (x6 + nI 1)] [] h3 b Q))))) : AWP mX4_blow 4 80 [vR (some o), vI x1, vI x2, vI x3, vI x4, vI x5, vI x6] [] h b Q := by
  refine go_iload 82 dX4_blow_80 rfl rfl ?_
  refine go_iload 84 dX4_blow_82 rfl rfl ?_
  refine go_icmp_ge 87 104 dX4_blow_84 rfl (by decide) (fun e1 => ?_) (fun e1 => ?_)
  · replace vc := vc.1 e1
    refine go_iload 106 dX4_blow_104 rfl rfl ?_
    exact go_ireturn dX4_blow_106 rfl vc
  · replace vc := vc.2 e1
    refine go_iload 89 dX4_blow_87 rfl rfl ?_
    refine go_aload_n 90 0 dX4_blow_89 rfl rfl rfl ?_
    obtain ⟨P4, hR, vc⟩ := vc
    refine go_callVI (M' := mX4_step) (as := []) 93 dX4_blow_90 rfl q2036 okX4_step (MO_k hM.1) ck_4 rfl rfl rfl rfl rfl hR ?_
    intro z2 h3 p1
    replace vc := vc z2 h3 p1
    obtain ⟨t6, g7, hM, vc⟩ := vc
    refine go_callSI (M' := mX4_greater) (as := [vI x5, vI z2]) 96 dX4_blow_93 rfl q1825 okX4_greater rfl rfl rfl rfl rfl (ctX4_greater) ?_
    intro x0 h0 p0
    rw [p0.1, p0.2]
    refine go_istore 98 [vR (some o), vI x1, vI x2, vI x3, vI x4, vI (mxI x5 z2), vI x6] dX4_blow_96 rfl rfl rfl ?_
    refine go_iinc 101 (x6 + nI 1) [vR (some o), vI x1, vI x2, vI x3, vI x4, vI (mxI x5 z2), vI (x6 + nI 1)] dX4_blow_98 rfl rfl (by rfl) rfl rfl ?_
    refine go_goto 80 dX4_blow_101 (by decide) ?_
    exact vc

theorem bX4_rolled_0 {h : Hp} {b : Nat × Nat} {Q : Rs → Hp → Prop} {o : Nat} {x1 : Int32} {x2 : Int32} {t : St} {g : Nat} (hM : MS h o t g) (vc : ((¬ (isSh t x1) → Q (rI (-1)) h) ∧ ((isSh t x1) → (((bt x2 1 200) → ((¬ (nI (rm t)) = 0 → (∃ (P6 : Hp → Prop), Ret mX4_begin 3 [vR (some o), vI x1] h 0 0 (RV P6) ∧ ∀ h5, P6 h5 → (∃ t8 g9, MS h5 o t8 g9 ∧ AWP mX4_rolled 4 41 [vR (some o), vI x1, vI x2, vI (nI 0), vI (nI 0), vU] [] h5 b Q))) ∧ ((nI (rm t)) = 0 → Q (rI (-4)) h))) ∧ (¬ (bt x2 1 200) → Q (rI (-1)) h))))) : AWP mX4_rolled 4 0 [vR (some o), vI x1, vI x2, vU, vU, vU] [] h b Q := by
  refine go_aload_n 1 0 dX4_rolled_0 rfl rfl rfl ?_
  refine go_iload_n 2 1 dX4_rolled_1 rfl rfl rfl ?_
  refine go_callVI (M' := mX4_isShape) (as := [vI x1]) 5 dX4_rolled_2 rfl q1769 okX4_isShape (MO_k hM.1) ck_4 rfl rfl rfl rfl rfl (ctX4_isShape hM) ?_
  intro x0 h0 p0
  rw [p0.1, p0.2]
  refine go_if_eq 8 19 dX4_rolled_5 rfl (by decide) (fun e1 => ?_) (fun e1 => ?_)
  · replace vc := vc.1 (bI_0.mp e1)
    refine go_iconst (v := (-1)) 20 dX4_rolled_19 rfl (by decide) ?_
    exact go_ireturn dX4_rolled_20 rfl vc
  · replace vc := vc.2 (bI_n0.mp e1)
    refine go_iload_n 9 2 dX4_rolled_8 rfl rfl rfl ?_
    refine go_iconst (v := nI 1) 10 dX4_rolled_9 rfl (by decide) ?_
    refine go_sipush (v := nI 200) 13 dX4_rolled_10 rfl (by decide) ?_
    refine go_callSI (M' := mX4_in) (as := [vI x2, vI (nI 1), vI (nI 200)]) 16 dX4_rolled_13 rfl q1703 okX4_in rfl rfl rfl rfl rfl (ctX4_inL rfl rfl) ?_
    intro x0 h0 p0
    rw [p0.1, p0.2]
    refine go_if_ne 19 21 dX4_rolled_16 rfl (by decide) (fun e2 => ?_) (fun e2 => ?_)
    · replace vc := vc.1 (bI_n0.mp e2)
      refine go_aload_n 22 0 dX4_rolled_21 rfl rfl rfl ?_
      refine go_getI 25 dX4_rolled_22 rfl (MO_k hM.1) gfX4_472_5 rfl ?_
      rw [hM.f479]
      refine go_if_ne 28 31 dX4_rolled_25 rfl (by decide) (fun e3 => ?_) (fun e3 => ?_)
      · replace vc := vc.1 e3
        refine go_aload_n 32 0 dX4_rolled_31 rfl rfl rfl ?_
        refine go_iload_n 33 1 dX4_rolled_32 rfl rfl rfl ?_
        obtain ⟨P6, hR, vc⟩ := vc
        refine go_callVV (M' := mX4_begin) (as := [vI x1]) 36 dX4_rolled_33 rfl q2032 okX4_begin (MO_k hM.1) ck_4 rfl rfl rfl rfl rfl hR ?_
        intro h5 p1
        replace vc := vc h5 p1
        obtain ⟨t8, g9, hM, vc⟩ := vc
        refine go_iconst (v := nI 0) 37 dX4_rolled_36 rfl (by decide) ?_
        refine go_istore_n 38 3 [vR (some o), vI x1, vI x2, vI (nI 0), vU, vU] dX4_rolled_37 rfl rfl rfl rfl ?_
        refine go_iconst (v := nI 0) 39 dX4_rolled_38 rfl (by decide) ?_
        refine go_istore 41 [vR (some o), vI x1, vI x2, vI (nI 0), vI (nI 0), vU] dX4_rolled_39 rfl rfl rfl ?_
        exact vc
      · replace vc := vc.2 e3
        refine go_bipush (v := (-4)) 30 dX4_rolled_28 rfl (by decide) ?_
        exact go_ireturn dX4_rolled_30 rfl vc
    · replace vc := vc.2 (bI_0.mp e2)
      refine go_iconst (v := (-1)) 20 dX4_rolled_19 rfl (by decide) ?_
      exact go_ireturn dX4_rolled_20 rfl vc

theorem bX4_rolled_41 {h : Hp} {b : Nat × Nat} {Q : Rs → Hp → Prop} {o : Nat} {x1 : Int32} {x2 : Int32} {x3 : Int32} {x4 : Int32} {y5 : AV} {t : St} {g : Nat} (hM : MS h o t g) (vc : ((x2 ≤ x4 → (∀ h2, h2 = sFI h 479 o (nI 0) → Q (rI x3) h2)) ∧ (¬ x2 ≤ x4 → AWP mX4_rolled 4 50 [vR (some o), vI x1, vI x2, vI x3, vI x4, vI (nI 0)] [] h b Q))) : AWP mX4_rolled 4 41 [vR (some o), vI x1, vI x2, vI x3, vI x4, y5] [] h b Q := by
  refine go_iload 43 dX4_rolled_41 rfl rfl ?_
  refine go_iload_n 44 2 dX4_rolled_43 rfl rfl rfl ?_
  refine go_icmp_ge 47 146 dX4_rolled_44 rfl (by decide) (fun e1 => ?_) (fun e1 => ?_)
  · replace vc := vc.1 e1
    refine go_aload_n 147 0 dX4_rolled_146 rfl rfl rfl ?_
    refine go_iconst (v := nI 0) 148 dX4_rolled_147 rfl (by decide) ?_
    refine go_putI 151 dX4_rolled_148 rfl (MO_k hM.1) (gpX4_472_5 _) rfl ?_
    refine AWP.nm fun h2 eh2 => ?_
    replace vc := vc h2 eh2
    have hM : MO h2 o := by rw [eh2]; exact hM.1
    refine go_iload_n 152 3 dX4_rolled_151 rfl rfl rfl ?_
    exact go_ireturn dX4_rolled_152 rfl vc
  · replace vc := vc.2 e1
    refine go_iconst (v := nI 0) 48 dX4_rolled_47 rfl (by decide) ?_
    refine go_istore 50 [vR (some o), vI x1, vI x2, vI x3, vI x4, vI (nI 0)] dX4_rolled_48 rfl rfl rfl ?_
    exact vc

theorem bX4_rolled_50 {h : Hp} {b : Nat × Nat} {Q : Rs → Hp → Prop} {o : Nat} {x1 : Int32} {x2 : Int32} {x3 : Int32} {x4 : Int32} {x5 : Int32} {t : St} {g : Nat} (hM : MS h o t g) (vc : (((nI (rm t)) ≤ x5 → (∃ (P4 : Int32 → Hp → Prop), Ret mX4_step 1 [vR (some o)] h 0 0 (RI P4) ∧ ∀ z2 h3, P4 z2 h3 → (∃ t6 g7, MS h3 o t6 g7 ∧ AWP mX4_rolled 4 41 [vR (some o), vI x1, vI x2, vI (mxI x3 z2), vI (x4 + nI 1), vI x5] [] h3 b Q))) ∧ (¬ (nI (rm t)) ≤ x5 → (vp_in x5 6 ∧ (nt x5) < rm t ∧ ((¬ (nI (rw' t (nt x5))) = x4 → AWP mX4_rolled 4 50 [vR (some o), vI x1, vI x2, vI x3, vI x4, vI (x5 + nI 1)] [] h b Q) ∧ ((nI (rw' t (nt x5))) = x4 → (vp_in x5 6 ∧ (nt x5) < rm t ∧ (((hFI h 435 o) ≤ (nI (rc t (nt x5))) → AWP mX4_rolled 4 50 [vR (some o), vI x1, vI x2, vI x3, vI x4, vI (x5 + nI 1)] [] h b Q) ∧ (¬ (hFI h 435 o) ≤ (nI (rc t (nt x5))) → (vp_in x5 6 ∧ (nt x5) < rm t ∧ (vp_in (nI (rc t (nt x5))) 6 ∧ ((¬ (hAI h (o + 25) (nt (nI (rc t (nt x5))))) = 0 → AWP mX4_rolled 4 50 [vR (some o), vI x1, vI x2, vI x3, vI x4, vI (x5 + nI 1)] [] h b Q) ∧ ((hAI h (o + 25) (nt (nI (rc t (nt x5))))) = 0 → (vp_in x5 6 ∧ (nt x5) < rm t ∧ (vp_in (nI (rc t (nt x5))) 6 ∧ (vp_in x5 6 ∧ (nt x5) < rm t ∧ (vp_in (nI (rc t (nt x5))) 6 ∧ (∀ h11, h11 = w1 h (o + 47) (nt (nI (rc t (nt x5)))) ((hAI h (o + 47) (nt (nI (rc t (nt x5))))) + ((rv t (nt x5)) * (nI 64))) → AWP mX4_rolled 4 50 [vR (some o), vI x1, vI x2, vI x3, vI x4, vI (x5 + nI 1)] [] h11 b Q)))))))))))))))))) : AWP mX4_rolled 4 50 [vR (some o), vI x1, vI x2, vI x3, vI x4, vI x5] [] h b Q := by
  refine go_iload 52 dX4_rolled_50 rfl rfl ?_
  refine go_aload_n 53 0 dX4_rolled_52 rfl rfl rfl ?_
  refine go_getI 56 dX4_rolled_53 rfl (MO_k hM.1) gfX4_472_5 rfl ?_
  rw [hM.f479]
  refine go_icmp_ge 59 131 dX4_rolled_56 rfl (by decide) (fun e1 => ?_) (fun e1 => ?_)
  · replace vc := vc.1 e1
    refine go_iload_n 132 3 dX4_rolled_131 rfl rfl rfl ?_
    refine go_aload_n 133 0 dX4_rolled_132 rfl rfl rfl ?_
    obtain ⟨P4, hR, vc⟩ := vc
    refine go_callVI (M' := mX4_step) (as := []) 136 dX4_rolled_133 rfl q2036 okX4_step (MO_k hM.1) ck_4 rfl rfl rfl rfl rfl hR ?_
    intro z2 h3 p1
    replace vc := vc z2 h3 p1
    obtain ⟨t6, g7, hM, vc⟩ := vc
    refine go_callSI (M' := mX4_greater) (as := [vI x3, vI z2]) 139 dX4_rolled_136 rfl q1825 okX4_greater rfl rfl rfl rfl rfl (ctX4_greater) ?_
    intro x0 h0 p0
    rw [p0.1, p0.2]
    refine go_istore_n 140 3 [vR (some o), vI x1, vI x2, vI (mxI x3 z2), vI x4, vI x5] dX4_rolled_139 rfl rfl rfl rfl ?_
    refine go_iinc 143 (x4 + nI 1) [vR (some o), vI x1, vI x2, vI (mxI x3 z2), vI (x4 + nI 1), vI x5] dX4_rolled_140 rfl rfl (by rfl) rfl rfl ?_
    refine go_goto 41 dX4_rolled_143 (by decide) ?_
    exact vc
  · replace vc := vc.2 e1
    refine go_aload_n 60 0 dX4_rolled_59 rfl rfl rfl ?_
    refine go_getRe 63 dX4_rolled_60 rfl (MO_k hM.1) gfX4_166_5 rfl (MO_f1482 hM.1) ?_
    refine go_iload 65 dX4_rolled_63 rfl rfl ?_
    refine go_iaload 66 dX4_rolled_65 rfl (MO_k52 hM.1) vc.1 ?_
    replace vc := vc.2
    rw [hM.a52 vc.1]
    replace vc := vc.2
    refine go_iload 68 dX4_rolled_66 rfl rfl ?_
    refine go_icmp_ne 71 125 dX4_rolled_68 rfl (by decide) (fun e8 => ?_) (fun e8 => ?_)
    · replace vc := vc.1 e8
      refine go_iinc 128 (x5 + nI 1) [vR (some o), vI x1, vI x2, vI x3, vI x4, vI (x5 + nI 1)] dX4_rolled_125 rfl rfl (by rfl) rfl rfl ?_
      refine go_goto 50 dX4_rolled_128 (by decide) ?_
      exact vc
    · replace vc := vc.2 e8
      refine go_aload_n 72 0 dX4_rolled_71 rfl rfl rfl ?_
      refine go_getRe 75 dX4_rolled_72 rfl (MO_k hM.1) gfX4_160_5 rfl (MO_f1480 hM.1) ?_
      refine go_iload 77 dX4_rolled_75 rfl rfl ?_
      refine go_iaload 78 dX4_rolled_77 rfl (MO_k50 hM.1) vc.1 ?_
      replace vc := vc.2
      rw [hM.a50 vc.1]
      replace vc := vc.2
      refine go_aload_n 79 0 dX4_rolled_78 rfl rfl rfl ?_
      refine go_getI 82 dX4_rolled_79 rfl (MO_k hM.1) gfX4_307_5 rfl ?_
      refine go_icmp_ge 85 125 dX4_rolled_82 rfl (by decide) (fun e9 => ?_) (fun e9 => ?_)
      · replace vc := vc.1 e9
        refine go_iinc 128 (x5 + nI 1) [vR (some o), vI x1, vI x2, vI x3, vI x4, vI (x5 + nI 1)] dX4_rolled_125 rfl rfl (by rfl) rfl rfl ?_
        refine go_goto 50 dX4_rolled_128 (by decide) ?_
        exact vc
      · replace vc := vc.2 e9
        refine go_aload_n 86 0 dX4_rolled_85 rfl rfl rfl ?_
        refine go_getRe 89 dX4_rolled_86 rfl (MO_k hM.1) gfX4_84_5 rfl (MO_f1433 hM.1) ?_
        refine go_aload_n 90 0 dX4_rolled_89 rfl rfl rfl ?_
        refine go_getRe 93 dX4_rolled_90 rfl (MO_k hM.1) gfX4_160_5 rfl (MO_f1480 hM.1) ?_
        refine go_iload 95 dX4_rolled_93 rfl rfl ?_
        refine go_iaload 96 dX4_rolled_95 rfl (MO_k50 hM.1) vc.1 ?_
        replace vc := vc.2
        rw [hM.a50 vc.1]
        replace vc := vc.2
        refine go_baloadZ 97 dX4_rolled_96 rfl (MO_k25 hM.1) vc.1 ?_
        replace vc := vc.2
        refine go_if_ne 100 125 dX4_rolled_97 rfl (by decide) (fun e10 => ?_) (fun e10 => ?_)
        · replace vc := vc.1 e10
          refine go_iinc 128 (x5 + nI 1) [vR (some o), vI x1, vI x2, vI x3, vI x4, vI (x5 + nI 1)] dX4_rolled_125 rfl rfl (by rfl) rfl rfl ?_
          refine go_goto 50 dX4_rolled_128 (by decide) ?_
          exact vc
        · replace vc := vc.2 e10
          refine go_aload_n 101 0 dX4_rolled_100 rfl rfl rfl ?_
          refine go_getRe 104 dX4_rolled_101 rfl (MO_k hM.1) gfX4_151_5 rfl (MO_f1476 hM.1) ?_
          refine go_aload_n 105 0 dX4_rolled_104 rfl rfl rfl ?_
          refine go_getRe 108 dX4_rolled_105 rfl (MO_k hM.1) gfX4_160_5 rfl (MO_f1480 hM.1) ?_
          refine go_iload 110 dX4_rolled_108 rfl rfl ?_
          refine go_iaload 111 dX4_rolled_110 rfl (MO_k50 hM.1) vc.1 ?_
          replace vc := vc.2
          rw [hM.a50 vc.1]
          replace vc := vc.2
          refine go_dup2 112 dX4_rolled_111 rfl rfl rfl ?_
          refine go_iaload 113 dX4_rolled_112 rfl (MO_k47 hM.1) vc.1 ?_
          replace vc := vc.2
          refine go_aload_n 114 0 dX4_rolled_113 rfl rfl rfl ?_
          refine go_getRe 117 dX4_rolled_114 rfl (MO_k hM.1) gfX4_163_5 rfl (MO_f1481 hM.1) ?_
          refine go_iload 119 dX4_rolled_117 rfl rfl ?_
          refine go_iaload 120 dX4_rolled_119 rfl (MO_k51 hM.1) vc.1 ?_
          replace vc := vc.2
          rw [hM.a51 vc.1]
          replace vc := vc.2
          refine go_bipush (v := nI 64) 122 dX4_rolled_120 rfl (by decide) ?_
          refine go_imul 123 dX4_rolled_122 rfl ?_
          refine go_iadd 124 dX4_rolled_123 rfl ?_
          refine go_iastore 125 dX4_rolled_124 rfl (MO_k47 hM.1) vc.1 ?_
          replace vc := vc.2
          refine AWP.nm fun h11 eh11 => ?_
          replace vc := vc h11 eh11
          have hM : MS h11 o t g := by rw [eh11]; exact hM.fr (PE.A rfl)
          refine go_iinc 128 (x5 + nI 1) [vR (some o), vI x1, vI x2, vI x3, vI x4, vI (x5 + nI 1)] dX4_rolled_125 rfl rfl (by rfl) rfl rfl ?_
          refine go_goto 50 dX4_rolled_128 (by decide) ?_
          exact vc
