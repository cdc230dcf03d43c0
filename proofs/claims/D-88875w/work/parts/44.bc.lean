theorem bX4_piecesOf_0 {h : Hp} {b : Nat × Nat} {Q : Rs → Hp → Prop} {o : Nat} {x1 : Int32} {t : St} {g : Nat} (hM : MS h o t g) (vc : AWP mX4_piecesOf 2 4 [vR (some o), vI x1, vI (nI 0), vI (nI 0), vU] [] h b Q) : AWP mX4_piecesOf 2 0 [vR (some o), vI x1, vU, vU, vU] [] h b Q := by
  refine go_iconst (v := nI 0) 1 dX4_piecesOf_0 rfl (by decide) ?_
  refine go_istore_n 2 2 [vR (some o), vI x1, vI (nI 0), vU, vU] dX4_piecesOf_1 rfl rfl rfl rfl ?_
  refine go_iconst (v := nI 0) 3 dX4_piecesOf_2 rfl (by decide) ?_
  refine go_istore_n 4 3 [vR (some o), vI x1, vI (nI 0), vI (nI 0), vU] dX4_piecesOf_3 rfl rfl rfl rfl ?_
  exact vc

theorem bX4_piecesOf_4 {h : Hp} {b : Nat × Nat} {Q : Rs → Hp → Prop} {o : Nat} {x1 : Int32} {x2 : Int32} {x3 : Int32} {y4 : AV} {t : St} {g : Nat} (hM : MS h o t g) (vc : (((nI 6) ≤ x3 → Q (rI x2) h) ∧ (¬ (nI 6) ≤ x3 → AWP mX4_piecesOf 2 15 [vR (some o), vI x1, vI x2, vI x3, vI (x3 + (nI 1))] [] h b Q))) : AWP mX4_piecesOf 2 4 [vR (some o), vI x1, vI x2, vI x3, y4] [] h b Q := by
  refine go_iload_n 5 3 dX4_piecesOf_4 rfl rfl rfl ?_
  refine go_bipush (v := nI 6) 7 dX4_piecesOf_5 rfl (by decide) ?_
  refine go_icmp_ge 10 53 dX4_piecesOf_7 rfl (by decide) (fun e1 => ?_) (fun e1 => ?_)
  · replace vc := vc.1 e1
    refine go_iload_n 54 2 dX4_piecesOf_53 rfl rfl rfl ?_
    exact go_ireturn dX4_piecesOf_54 rfl vc
  · replace vc := vc.2 e1
    refine go_iload_n 11 3 dX4_piecesOf_10 rfl rfl rfl ?_
    refine go_iconst (v := nI 1) 12 dX4_piecesOf_11 rfl (by decide) ?_
    refine go_iadd 13 dX4_piecesOf_12 rfl ?_
    refine go_istore 15 [vR (some o), vI x1, vI x2, vI x3, vI (x3 + (nI 1))] dX4_piecesOf_13 rfl rfl rfl ?_
    exact vc

theorem bX4_piecesOf_15 {h : Hp} {b : Nat × Nat} {Q : Rs → Hp → Prop} {o : Nat} {x1 : Int32} {x2 : Int32} {x3 : Int32} {x4 : Int32} {t : St} {g : Nat} (hM : MS h o t g) (vc : (((nI 6) ≤ x4 → AWP mX4_piecesOf 2 4 [vR (some o), vI x1, vI x2, vI (x3 + nI 1), vI x4] [] h b Q) ∧ (¬ (nI 6) ≤ x4 → ((isSh t x1 ∧ bt x3 0 5 ∧ bt x4 0 5) ∧ ((¬ (has t (nt x1) (nt x3) (nt x4) = true) → AWP mX4_piecesOf 2 15 [vR (some o), vI x1, vI (x2 + (nI 0)), vI x3, vI (x4 + nI 1)] [] h b Q) ∧ ((has t (nt x1) (nt x3) (nt x4) = true) → AWP mX4_piecesOf 2 15 [vR (some o), vI x1, vI (x2 + (nI 1)), vI x3, vI (x4 + nI 1)] [] h b Q)))))) : AWP mX4_piecesOf 2 15 [vR (some o), vI x1, vI x2, vI x3, vI x4] [] h b Q := by
  refine go_iload 17 dX4_piecesOf_15 rfl rfl ?_
  refine go_bipush (v := nI 6) 19 dX4_piecesOf_17 rfl (by decide) ?_
  refine go_icmp_ge 22 47 dX4_piecesOf_19 rfl (by decide) (fun e1 => ?_) (fun e1 => ?_)
  · replace vc := vc.1 e1
    refine go_iinc 50 (x3 + nI 1) [vR (some o), vI x1, vI x2, vI (x3 + nI 1), vI x4] dX4_piecesOf_47 rfl rfl (by rfl) rfl rfl ?_
    refine go_goto 4 dX4_piecesOf_50 (by decide) ?_
    exact vc
  · replace vc := vc.2 e1
    refine go_iload_n 23 2 dX4_piecesOf_22 rfl rfl rfl ?_
    refine go_aload_n 24 0 dX4_piecesOf_23 rfl rfl rfl ?_
    refine go_iload_n 25 1 dX4_piecesOf_24 rfl rfl rfl ?_
    refine go_iload_n 26 3 dX4_piecesOf_25 rfl rfl rfl ?_
    refine go_iload 28 dX4_piecesOf_26 rfl rfl ?_
    refine go_callVI (M' := mX4_hasPiece) (as := [vI x1, vI x3, vI x4]) 31 dX4_piecesOf_28 rfl q1750 okX4_hasPiece (MO_k hM.1) ck_4 rfl rfl rfl rfl rfl (ctX4_hasPiece hM vc.1) ?_
    replace vc := vc.2
    rintro _ _ ⟨rfl, rfl⟩
    refine go_if_eq 34 38 dX4_piecesOf_31 rfl (by decide) (fun e2 => ?_) (fun e2 => ?_)
    · replace vc := vc.1 (bI_0.mp e2)
      refine go_iconst (v := nI 0) 39 dX4_piecesOf_38 rfl (by decide) ?_
      refine go_iadd 40 dX4_piecesOf_39 rfl ?_
      refine go_istore_n 41 2 [vR (some o), vI x1, vI (x2 + (nI 0)), vI x3, vI x4] dX4_piecesOf_40 rfl rfl rfl rfl ?_
      refine go_iinc 44 (x4 + nI 1) [vR (some o), vI x1, vI (x2 + (nI 0)), vI x3, vI (x4 + nI 1)] dX4_piecesOf_41 rfl rfl (by rfl) rfl rfl ?_
      refine go_goto 15 dX4_piecesOf_44 (by decide) ?_
      exact vc
    · replace vc := vc.2 (bI_n0.mp e2)
      refine go_iconst (v := nI 1) 35 dX4_piecesOf_34 rfl (by decide) ?_
      refine go_goto 39 dX4_piecesOf_35 (by decide) ?_
      refine go_iadd 40 dX4_piecesOf_39 rfl ?_
      refine go_istore_n 41 2 [vR (some o), vI x1, vI (x2 + (nI 1)), vI x3, vI x4] dX4_piecesOf_40 rfl rfl rfl rfl ?_
      refine go_iinc 44 (x4 + nI 1) [vR (some o), vI x1, vI (x2 + (nI 1)), vI x3, vI (x4 + nI 1)] dX4_piecesOf_41 rfl rfl (by rfl) rfl rfl ?_
      refine go_goto 15 dX4_piecesOf_44 (by decide) ?_
      exact vc

theorem bX4_of_0 {h : Hp} {b : Nat × Nat} {Q : Rs → Hp → Prop} {o : Nat} {x1 : Int32} {x2 : Int32} {t : St} {g : Nat} (hM : MS h o t g) (vc : ((¬ (isSh t x1) → Q (rI (-2000000000)) h) ∧ ((isSh t x1) → ((0 ≤ x2 → (((nI 10) ≤ x2 → (isSh t x1 ∧ (((isCo t x1 (x2 - x2 / (nI 10) * (nI 10))) → (((nI 20) ≤ x2 → (((nI 30) ≤ x2 → (((nI 40) ≤ x2 → (((nI 50) ≤ x2 → Q (rI (-2000000000)) h) ∧ (¬ (nI 50) ≤ x2 → (vp_in (((nI 6) * x1) + (x2 - x2 / (nI 10) * (nI 10))) 78 ∧ (nt (((nI 6) * x1) + (x2 - x2 / (nI 10) * (nI 10)))) < 6 * ns t ∧ (((hl t (nt (((nI 6) * x1) + (x2 - x2 / (nI 10) * (nI 10))))) = 0 → Q (rI (nI 0)) h) ∧ (¬ (hl t (nt (((nI 6) * x1) + (x2 - x2 / (nI 10) * (nI 10))))) = 0 → Q (rI (nI 1)) h)))))) ∧ (¬ (nI 40) ≤ x2 → (vp_in (((nI 6) * x1) + (x2 - x2 / (nI 10) * (nI 10))) 78 ∧ (nt (((nI 6) * x1) + (x2 - x2 / (nI 10) * (nI 10)))) < 6 * ns t ∧ Q (rI (wg t (nt (((nI 6) * x1) + (x2 - x2 / (nI 10) * (nI 10)))))) h)))) ∧ (¬ (nI 30) ≤ x2 → (vp_in (((nI 6) * x1) + (x2 - x2 / (nI 10) * (nI 10))) 78 ∧ (nt (((nI 6) * x1) + (x2 - x2 / (nI 10) * (nI 10)))) < 6 * ns t ∧ Q (rI (pd t (nt (((nI 6) * x1) + (x2 - x2 / (nI 10) * (nI 10)))))) h)))) ∧ (¬ (nI 20) ≤ x2 → (vp_in (((nI 6) * x1) + (x2 - x2 / (nI 10) * (nI 10))) 78 ∧ (nt (((nI 6) * x1) + (x2 - x2 / (nI 10) * (nI 10)))) < 6 * ns t ∧ Q (rI (hv t (nt (((nI 6) * x1) + (x2 - x2 / (nI 10) * (nI 10)))))) h)))) ∧ (¬ (isCo t x1 (x2 - x2 / (nI 10) * (nI 10))) → Q (rI (-2000000000)) h)))) ∧ (¬ (nI 10) ≤ x2 → ((¬ x2 = 0 → ((¬ x2 = (nI 1) → ((¬ x2 = (nI 2) → Q (rI (-2000000000)) h) ∧ (x2 = (nI 2) → (isSh t x1 ∧ Q (rI (nI (tones t (nt x1)))) h)))) ∧ (x2 = (nI 1) → (∃ (P15 : Int32 → Hp → Prop), Ret mX4_piecesOf 2 [vR (some o), vI x1] h 0 0 (RI P15) ∧ ∀ z13 h14, P15 z13 h14 → (∃ t17 g18, MS h14 o t17 g18 ∧ Q (rI z13) h14))))) ∧ (x2 = 0 → (vp_in x1 13 ∧ (nt x1) < ns t ∧ Q (rI (nI (nc t (nt x1)))) h)))))) ∧ (¬ 0 ≤ x2 → Q (rI (-2000000000)) h))))) : AWP mX4_of 3 0 [vR (some o), vI x1, vI x2, vU] [] h b Q := by
  refine go_aload_n 1 0 dX4_of_0 rfl rfl rfl ?_
  refine go_iload_n 2 1 dX4_of_1 rfl rfl rfl ?_
  refine go_callVI (M' := mX4_isShape) (as := [vI x1]) 5 dX4_of_2 rfl q1769 okX4_isShape (MO_k hM.1) ck_4 rfl rfl rfl rfl rfl (ctX4_isShape hM) ?_
  rintro _ _ ⟨rfl, rfl⟩
  refine go_if_eq 8 12 dX4_of_5 rfl (by decide) (fun e1 => ?_) (fun e1 => ?_)
  · replace vc := vc.1 (bI_0.mp e1)
    refine go_ldcw 15 dX4_of_12 rfl q1773 ?_
    exact go_ireturn dX4_of_15 rfl vc
  · replace vc := vc.2 (bI_n0.mp e1)
    refine go_iload_n 9 2 dX4_of_8 rfl rfl rfl ?_
    refine go_if_ge 12 16 dX4_of_9 rfl (by decide) (fun e2 => ?_) (fun e2 => ?_)
    · replace vc := vc.1 e2
      refine go_iload_n 17 2 dX4_of_16 rfl rfl rfl ?_
      refine go_bipush (v := nI 10) 19 dX4_of_17 rfl (by decide) ?_
      refine go_icmp_ge 22 65 dX4_of_19 rfl (by decide) (fun e3 => ?_) (fun e3 => ?_)
      · replace vc := vc.1 e3
        refine go_aload_n 66 0 dX4_of_65 rfl rfl rfl ?_
        refine go_iload_n 67 1 dX4_of_66 rfl rfl rfl ?_
        refine go_iload_n 68 2 dX4_of_67 rfl rfl rfl ?_
        refine go_bipush (v := nI 10) 70 dX4_of_68 rfl (by decide) ?_
        refine go_irem 71 dX4_of_70 rfl (by decide) ?_
        refine go_callVI (M' := mX4_isCorner) (as := [vI x1, vI (x2 - x2 / (nI 10) * (nI 10))]) 74 dX4_of_71 rfl q1746 okX4_isCorner (MO_k hM.1) ck_4 rfl rfl rfl rfl rfl (ctX4_isCorner hM vc.1) ?_
        replace vc := vc.2
        rintro _ _ ⟨rfl, rfl⟩
        refine go_if_ne 77 81 dX4_of_74 rfl (by decide) (fun e4 => ?_) (fun e4 => ?_)
        · replace vc := vc.1 (bI_n0.mp e4)
          refine go_bipush (v := nI 6) 83 dX4_of_81 rfl (by decide) ?_
          refine go_iload_n 84 1 dX4_of_83 rfl rfl rfl ?_
          refine go_imul 85 dX4_of_84 rfl ?_
          refine go_iload_n 86 2 dX4_of_85 rfl rfl rfl ?_
          refine go_bipush (v := nI 10) 88 dX4_of_86 rfl (by decide) ?_
          refine go_irem 89 dX4_of_88 rfl (by decide) ?_
          refine go_iadd 90 dX4_of_89 rfl ?_
          refine go_istore_n 91 3 [vR (some o), vI x1, vI x2, vI (((nI 6) * x1) + (x2 - x2 / (nI 10) * (nI 10)))] dX4_of_90 rfl rfl rfl rfl ?_
          refine go_iload_n 92 2 dX4_of_91 rfl rfl rfl ?_
          refine go_bipush (v := nI 20) 94 dX4_of_92 rfl (by decide) ?_
          refine go_icmp_ge 97 106 dX4_of_94 rfl (by decide) (fun e5 => ?_) (fun e5 => ?_)
          · replace vc := vc.1 e5
            refine go_iload_n 107 2 dX4_of_106 rfl rfl rfl ?_
            refine go_bipush (v := nI 30) 109 dX4_of_107 rfl (by decide) ?_
            refine go_icmp_ge 112 121 dX4_of_109 rfl (by decide) (fun e6 => ?_) (fun e6 => ?_)
            · replace vc := vc.1 e6
              refine go_iload_n 122 2 dX4_of_121 rfl rfl rfl ?_
              refine go_bipush (v := nI 40) 124 dX4_of_122 rfl (by decide) ?_
              refine go_icmp_ge 127 136 dX4_of_124 rfl (by decide) (fun e7 => ?_) (fun e7 => ?_)
              · replace vc := vc.1 e7
                refine go_iload_n 137 2 dX4_of_136 rfl rfl rfl ?_
                refine go_bipush (v := nI 50) 139 dX4_of_137 rfl (by decide) ?_
                refine go_icmp_ge 142 159 dX4_of_139 rfl (by decide) (fun e8 => ?_) (fun e8 => ?_)
                · replace vc := vc.1 e8
                  refine go_ldcw 162 dX4_of_159 rfl q1773 ?_
                  exact go_ireturn dX4_of_162 rfl vc
                · replace vc := vc.2 e8
                  refine go_aload_n 143 0 dX4_of_142 rfl rfl rfl ?_
                  refine go_getRe 146 dX4_of_143 rfl (MO_k hM.1) gfX4_22_5 rfl (MO_f1406 hM.1) ?_
                  refine go_iload_n 147 3 dX4_of_146 rfl rfl rfl ?_
                  refine go_baloadZ 148 dX4_of_147 rfl (MO_k5 hM.1) vc.1 ?_
                  replace vc := vc.2
                  rw [hM.a5 vc.1]
                  replace vc := vc.2
                  refine go_if_eq 151 155 dX4_of_148 rfl (by decide) (fun e9 => ?_) (fun e9 => ?_)
                  · replace vc := vc.1 e9
                    refine go_iconst (v := nI 0) 156 dX4_of_155 rfl (by decide) ?_
                    refine go_goto 162 dX4_of_156 (by decide) ?_
                    exact go_ireturn dX4_of_162 rfl vc
                  · replace vc := vc.2 e9
                    refine go_iconst (v := nI 1) 152 dX4_of_151 rfl (by decide) ?_
                    refine go_goto 162 dX4_of_152 (by decide) ?_
                    exact go_ireturn dX4_of_162 rfl vc
              · replace vc := vc.2 e7
                refine go_aload_n 128 0 dX4_of_127 rfl rfl rfl ?_
                refine go_getRe 131 dX4_of_128 rfl (MO_k hM.1) gfX4_19_5 rfl (MO_f1405 hM.1) ?_
                refine go_iload_n 132 3 dX4_of_131 rfl rfl rfl ?_
                refine go_iaload 133 dX4_of_132 rfl (MO_k4 hM.1) vc.1 ?_
                replace vc := vc.2
                rw [hM.a4 vc.1]
                replace vc := vc.2
                refine go_goto 162 dX4_of_133 (by decide) ?_
                exact go_ireturn dX4_of_162 rfl vc
            · replace vc := vc.2 e6
              refine go_aload_n 113 0 dX4_of_112 rfl rfl rfl ?_
              refine go_getRe 116 dX4_of_113 rfl (MO_k hM.1) gfX4_16_5 rfl (MO_f1404 hM.1) ?_
              refine go_iload_n 117 3 dX4_of_116 rfl rfl rfl ?_
              refine go_iaload 118 dX4_of_117 rfl (MO_k3 hM.1) vc.1 ?_
              replace vc := vc.2
              rw [hM.a3 vc.1]
              replace vc := vc.2
              refine go_goto 162 dX4_of_118 (by decide) ?_
              exact go_ireturn dX4_of_162 rfl vc
          · replace vc := vc.2 e5
            refine go_aload_n 98 0 dX4_of_97 rfl rfl rfl ?_
            refine go_getRe 101 dX4_of_98 rfl (MO_k hM.1) gfX4_13_5 rfl (MO_f1403 hM.1) ?_
            refine go_iload_n 102 3 dX4_of_101 rfl rfl rfl ?_
            refine go_iaload 103 dX4_of_102 rfl (MO_k2 hM.1) vc.1 ?_
            replace vc := vc.2
            rw [hM.a2 vc.1]
            replace vc := vc.2
            refine go_goto 162 dX4_of_103 (by decide) ?_
            exact go_ireturn dX4_of_162 rfl vc
        · replace vc := vc.2 (bI_0.mp e4)
          refine go_ldcw 80 dX4_of_77 rfl q1773 ?_
          exact go_ireturn dX4_of_80 rfl vc
      · replace vc := vc.2 e3
        refine go_iload_n 23 2 dX4_of_22 rfl rfl rfl ?_
        refine go_if_ne 26 35 dX4_of_23 rfl (by decide) (fun e10 => ?_) (fun e10 => ?_)
        · replace vc := vc.1 e10
          refine go_iload_n 36 2 dX4_of_35 rfl rfl rfl ?_
          refine go_iconst (v := nI 1) 37 dX4_of_36 rfl (by decide) ?_
          refine go_icmp_ne 40 48 dX4_of_37 rfl (by decide) (fun e11 => ?_) (fun e11 => ?_)
          · replace vc := vc.1 e11
            refine go_iload_n 49 2 dX4_of_48 rfl rfl rfl ?_
            refine go_iconst (v := nI 2) 50 dX4_of_49 rfl (by decide) ?_
            refine go_icmp_ne 53 61 dX4_of_50 rfl (by decide) (fun e12 => ?_) (fun e12 => ?_)
            · replace vc := vc.1 e12
              refine go_ldcw 64 dX4_of_61 rfl q1773 ?_
              exact go_ireturn dX4_of_64 rfl vc
            · replace vc := vc.2 e12
              refine go_aload_n 54 0 dX4_of_53 rfl rfl rfl ?_
              refine go_iload_n 55 1 dX4_of_54 rfl rfl rfl ?_
              refine go_callVI (M' := mX4_tonesOf) (as := [vI x1]) 58 dX4_of_55 rfl q1778 okX4_tonesOf (MO_k hM.1) ck_4 rfl rfl rfl rfl rfl (ctX4_tonesOf hM vc.1) ?_
              replace vc := vc.2
              rintro _ _ ⟨rfl, rfl⟩
              refine go_goto 64 dX4_of_58 (by decide) ?_
              exact go_ireturn dX4_of_64 rfl vc
          · replace vc := vc.2 e11
            refine go_aload_n 41 0 dX4_of_40 rfl rfl rfl ?_
            refine go_iload_n 42 1 dX4_of_41 rfl rfl rfl ?_
            obtain ⟨P15, hR, vc⟩ := vc
            refine go_callVI (M' := mX4_piecesOf) (as := [vI x1]) 45 dX4_of_42 rfl q1774 okX4_piecesOf (MO_k hM.1) ck_4 rfl rfl rfl rfl rfl hR ?_
            intro z13 h14 p1
            replace vc := vc z13 h14 p1
            obtain ⟨t17, g18, hM, vc⟩ := vc
            refine go_goto 64 dX4_of_45 (by decide) ?_
            exact go_ireturn dX4_of_64 rfl vc
        · replace vc := vc.2 e10
          refine go_aload_n 27 0 dX4_of_26 rfl rfl rfl ?_
          refine go_getRe 30 dX4_of_27 rfl (MO_k hM.1) gfX4_7_5 rfl (MO_f1402 hM.1) ?_
          refine go_iload_n 31 1 dX4_of_30 rfl rfl rfl ?_
          refine go_iaload 32 dX4_of_31 rfl (MO_k1 hM.1) vc.1 ?_
          replace vc := vc.2
          rw [hM.a1 vc.1]
          replace vc := vc.2
          refine go_goto 64 dX4_of_32 (by decide) ?_
          exact go_ireturn dX4_of_64 rfl vc
    · replace vc := vc.2 e2
      refine go_ldcw 15 dX4_of_12 rfl q1773 ?_
      exact go_ireturn dX4_of_15 rfl vc

theorem bX4_piece_0 {h : Hp} {b : Nat × Nat} {Q : Rs → Hp → Prop} {o : Nat} {x1 : Int32} {x2 : Int32} {x3 : Int32} {x4 : Int32} {t : St} {g : Nat} (hM : MS h o t g) (vc : ((¬ (isSh t x1) → Q (rI (-1)) h) ∧ ((isSh t x1) → (isSh t x1 ∧ ((¬ (isCo t x1 x2) → Q (rI (-1)) h) ∧ ((isCo t x1 x2) → (isSh t x1 ∧ ((¬ (isCo t x1 x3) → Q (rI (-1)) h) ∧ ((isCo t x1 x3) → (((bt x4 0 2) → ((x2 = x3 → Q (rI (-2)) h) ∧ (¬ x2 = x3 → ((isSh t x1 ∧ bt x2 0 5 ∧ bt x3 0 5) ∧ (((has t (nt x1) (nt x2) (nt x3) = true) → ((¬ x4 = 0 → ((¬ x4 = (nI 1) → (vp_in (nI 36 * x1 + nI 6 * x2 + x3) 468 ∧ (nt (nI 36 * x1 + nI 6 * x2 + x3)) < 36 * ns t ∧ Q (rI (ck t (nt (nI 36 * x1 + nI 6 * x2 + x3)))) h)) ∧ (x4 = (nI 1) → (vp_in (nI 36 * x1 + nI 6 * x2 + x3) 468 ∧ (nt (nI 36 * x1 + nI 6 * x2 + x3)) < 36 * ns t ∧ Q (rI (sf t (nt (nI 36 * x1 + nI 6 * x2 + x3)))) h)))) ∧ (x4 = 0 → (vp_in (nI 36 * x1 + nI 6 * x2 + x3) 468 ∧ (nt (nI 36 * x1 + nI 6 * x2 + x3)) < 36 * ns t ∧ Q (rI ((nI (bo t (nt (nI 36 * x1 + nI 6 * x2 + x3)))) - (nI 1))) h)))) ∧ (¬ (has t (nt x1) (nt x2) (nt x3) = true) → Q (rI (-2)) h)))))) ∧ (¬ (bt x4 0 2) → Q (rI (-1)) h))))))))))) : AWP mX4_piece 2 0 [vR (some o), vI x1, vI x2, vI x3, vI x4, vU] [] h b Q := by
  refine go_aload_n 1 0 dX4_piece_0 rfl rfl rfl ?_
  refine go_iload_n 2 1 dX4_piece_1 rfl rfl rfl ?_
  refine go_callVI (M' := mX4_isShape) (as := [vI x1]) 5 dX4_piece_2 rfl q1769 okX4_isShape (MO_k hM.1) ck_4 rfl rfl rfl rfl rfl (ctX4_isShape hM) ?_
  rintro _ _ ⟨rfl, rfl⟩
  refine go_if_eq 8 36 dX4_piece_5 rfl (by decide) (fun e1 => ?_) (fun e1 => ?_)
  · replace vc := vc.1 (bI_0.mp e1)
    refine go_iconst (v := (-1)) 37 dX4_piece_36 rfl (by decide) ?_
    exact go_ireturn dX4_piece_37 rfl vc
  · replace vc := vc.2 (bI_n0.mp e1)
    refine go_aload_n 9 0 dX4_piece_8 rfl rfl rfl ?_
    refine go_iload_n 10 1 dX4_piece_9 rfl rfl rfl ?_
    refine go_iload_n 11 2 dX4_piece_10 rfl rfl rfl ?_
    refine go_callVI (M' := mX4_isCorner) (as := [vI x1, vI x2]) 14 dX4_piece_11 rfl q1746 okX4_isCorner (MO_k hM.1) ck_4 rfl rfl rfl rfl rfl (ctX4_isCorner hM vc.1) ?_
    replace vc := vc.2
    rintro _ _ ⟨rfl, rfl⟩
    refine go_if_eq 17 36 dX4_piece_14 rfl (by decide) (fun e2 => ?_) (fun e2 => ?_)
    · replace vc := vc.1 (bI_0.mp e2)
      refine go_iconst (v := (-1)) 37 dX4_piece_36 rfl (by decide) ?_
      exact go_ireturn dX4_piece_37 rfl vc
    · replace vc := vc.2 (bI_n0.mp e2)
      refine go_aload_n 18 0 dX4_piece_17 rfl rfl rfl ?_
      refine go_iload_n 19 1 dX4_piece_18 rfl rfl rfl ?_
      refine go_iload_n 20 3 dX4_piece_19 rfl rfl rfl ?_
      refine go_callVI (M' := mX4_isCorner) (as := [vI x1, vI x3]) 23 dX4_piece_20 rfl q1746 okX4_isCorner (MO_k hM.1) ck_4 rfl rfl rfl rfl rfl (ctX4_isCorner hM vc.1) ?_
      replace vc := vc.2
      rintro _ _ ⟨rfl, rfl⟩
      refine go_if_eq 26 36 dX4_piece_23 rfl (by decide) (fun e3 => ?_) (fun e3 => ?_)
      · replace vc := vc.1 (bI_0.mp e3)
        refine go_iconst (v := (-1)) 37 dX4_piece_36 rfl (by decide) ?_
        exact go_ireturn dX4_piece_37 rfl vc
      · replace vc := vc.2 (bI_n0.mp e3)
        refine go_iload 28 dX4_piece_26 rfl rfl ?_
        refine go_iconst (v := nI 0) 29 dX4_piece_28 rfl (by decide) ?_
        refine go_iconst (v := nI 2) 30 dX4_piece_29 rfl (by decide) ?_
        refine go_callSI (M' := mX4_in) (as := [vI x4, vI (nI 0), vI (nI 2)]) 33 dX4_piece_30 rfl q1703 okX4_in rfl rfl rfl rfl rfl (ctX4_inL rfl rfl) ?_
        rintro _ _ ⟨rfl, rfl⟩
        refine go_if_ne 36 38 dX4_piece_33 rfl (by decide) (fun e4 => ?_) (fun e4 => ?_)
        · replace vc := vc.1 (bI_n0.mp e4)
          refine go_iload_n 39 2 dX4_piece_38 rfl rfl rfl ?_
          refine go_iload_n 40 3 dX4_piece_39 rfl rfl rfl ?_
          refine go_icmp_eq 43 53 dX4_piece_40 rfl (by decide) (fun e5 => ?_) (fun e5 => ?_)
          · replace vc := vc.1 e5
            refine go_bipush (v := (-2)) 55 dX4_piece_53 rfl (by decide) ?_
            exact go_ireturn dX4_piece_55 rfl vc
          · replace vc := vc.2 e5
            refine go_aload_n 44 0 dX4_piece_43 rfl rfl rfl ?_
            refine go_iload_n 45 1 dX4_piece_44 rfl rfl rfl ?_
            refine go_iload_n 46 2 dX4_piece_45 rfl rfl rfl ?_
            refine go_iload_n 47 3 dX4_piece_46 rfl rfl rfl ?_
            refine go_callVI (M' := mX4_hasPiece) (as := [vI x1, vI x2, vI x3]) 50 dX4_piece_47 rfl q1750 okX4_hasPiece (MO_k hM.1) ck_4 rfl rfl rfl rfl rfl (ctX4_hasPiece hM vc.1) ?_
            replace vc := vc.2
            rintro _ _ ⟨rfl, rfl⟩
            refine go_if_ne 53 56 dX4_piece_50 rfl (by decide) (fun e6 => ?_) (fun e6 => ?_)
            · replace vc := vc.1 (bI_n0.mp e6)
              refine go_iload_n 57 1 dX4_piece_56 rfl rfl rfl ?_
              refine go_iload_n 58 2 dX4_piece_57 rfl rfl rfl ?_
              refine go_iload_n 59 3 dX4_piece_58 rfl rfl rfl ?_
              refine go_callSI (M' := mX4_at) (as := [vI x1, vI x2, vI x3]) 62 dX4_piece_59 rfl q1754 okX4_at rfl rfl rfl rfl rfl (ctX4_at) ?_
              rintro _ _ ⟨rfl, rfl⟩
              refine go_istore 64 [vR (some o), vI x1, vI x2, vI x3, vI x4, vI (nI 36 * x1 + nI 6 * x2 + x3)] dX4_piece_62 rfl rfl rfl ?_
              refine go_iload 66 dX4_piece_64 rfl rfl ?_
              refine go_if_ne 69 81 dX4_piece_66 rfl (by decide) (fun e7 => ?_) (fun e7 => ?_)
              · replace vc := vc.1 e7
                refine go_iload 83 dX4_piece_81 rfl rfl ?_
                refine go_iconst (v := nI 1) 84 dX4_piece_83 rfl (by decide) ?_
                refine go_icmp_ne 87 97 dX4_piece_84 rfl (by decide) (fun e8 => ?_) (fun e8 => ?_)
                · replace vc := vc.1 e8
                  refine go_aload_n 98 0 dX4_piece_97 rfl rfl rfl ?_
                  refine go_getRe 101 dX4_piece_98 rfl (MO_k hM.1) gfX4_29_5 rfl (MO_f1408 hM.1) ?_
                  refine go_iload 103 dX4_piece_101 rfl rfl ?_
                  refine go_iaload 104 dX4_piece_103 rfl (MO_k7 hM.1) vc.1 ?_
                  replace vc := vc.2
                  rw [hM.a7 vc.1]
                  replace vc := vc.2
                  exact go_ireturn dX4_piece_104 rfl vc
                · replace vc := vc.2 e8
                  refine go_aload_n 88 0 dX4_piece_87 rfl rfl rfl ?_
                  refine go_getRe 91 dX4_piece_88 rfl (MO_k hM.1) gfX4_26_5 rfl (MO_f1407 hM.1) ?_
                  refine go_iload 93 dX4_piece_91 rfl rfl ?_
                  refine go_iaload 94 dX4_piece_93 rfl (MO_k6 hM.1) vc.1 ?_
                  replace vc := vc.2
                  rw [hM.a6 vc.1]
                  replace vc := vc.2
                  refine go_goto 104 dX4_piece_94 (by decide) ?_
                  exact go_ireturn dX4_piece_104 rfl vc
              · replace vc := vc.2 e7
                refine go_aload_n 70 0 dX4_piece_69 rfl rfl rfl ?_
                refine go_getRe 73 dX4_piece_70 rfl (MO_k hM.1) gfX4_32_5 rfl (MO_f1409 hM.1) ?_
                refine go_iload 75 dX4_piece_73 rfl rfl ?_
                refine go_iaload 76 dX4_piece_75 rfl (MO_k8 hM.1) vc.1 ?_
                replace vc := vc.2
                rw [hM.a8 vc.1]
                replace vc := vc.2
                refine go_iconst (v := nI 1) 77 dX4_piece_76 rfl (by decide) ?_
                refine go_isub 78 dX4_piece_77 rfl ?_
                refine go_goto 104 dX4_piece_78 (by decide) ?_
                exact go_ireturn dX4_piece_104 rfl vc
            · replace vc := vc.2 (bI_0.mp e6)
              refine go_bipush (v := (-2)) 55 dX4_piece_53 rfl (by decide) ?_
              exact go_ireturn dX4_piece_55 rfl vc
        · replace vc := vc.2 (bI_0.mp e4)
          refine go_iconst (v := (-1)) 37 dX4_piece_36 rfl (by decide) ?_
          exact go_ireturn dX4_piece_37 rfl vc

theorem bX4_put_0 {h : Hp} {b : Nat × Nat} {Q : Rs → Hp → Prop} {o : Nat} {x1 : Int32} {x2 : Int32} {x3 : Int32} {x4 : Int32} {t : St} {g : Nat} (hM : MS h o t g) (vc : ((¬ (isSh t x1) → Q (rI (-1)) h) ∧ ((isSh t x1) → (isSh t x1 ∧ ((¬ (isCo t x1 x2) → Q (rI (-1)) h) ∧ ((isCo t x1 x2) → ((¬ (bt x3 0 2) → Q (rI (-1)) h) ∧ ((bt x3 0 2) → ((¬ x3 = (nI 2) → AWP mX4_put 4 40 [vR (some o), vI x1, vI x2, vI x3, vI x4, vU, vU] [vI (nI 9), vI (nI 0), vI x4] h b Q) ∧ (x3 = (nI 2) → AWP mX4_put 4 40 [vR (some o), vI x1, vI x2, vI x3, vI x4, vU, vU] [vI (nI 1), vI (nI 0), vI x4] h b Q)))))))))) : AWP mX4_put 4 0 [vR (some o), vI x1, vI x2, vI x3, vI x4, vU, vU] [] h b Q := by
  refine go_aload_n 1 0 dX4_put_0 rfl rfl rfl ?_
  refine go_iload_n 2 1 dX4_put_1 rfl rfl rfl ?_
  refine go_callVI (M' := mX4_isShape) (as := [vI x1]) 5 dX4_put_2 rfl q1769 okX4_isShape (MO_k hM.1) ck_4 rfl rfl rfl rfl rfl (ctX4_isShape hM) ?_
  rintro _ _ ⟨rfl, rfl⟩
  refine go_if_eq 8 46 dX4_put_5 rfl (by decide) (fun e1 => ?_) (fun e1 => ?_)
  · replace vc := vc.1 (bI_0.mp e1)
    refine go_iconst (v := (-1)) 47 dX4_put_46 rfl (by decide) ?_
    exact go_ireturn dX4_put_47 rfl vc
  · replace vc := vc.2 (bI_n0.mp e1)
    refine go_aload_n 9 0 dX4_put_8 rfl rfl rfl ?_
    refine go_iload_n 10 1 dX4_put_9 rfl rfl rfl ?_
    refine go_iload_n 11 2 dX4_put_10 rfl rfl rfl ?_
    refine go_callVI (M' := mX4_isCorner) (as := [vI x1, vI x2]) 14 dX4_put_11 rfl q1746 okX4_isCorner (MO_k hM.1) ck_4 rfl rfl rfl rfl rfl (ctX4_isCorner hM vc.1) ?_
    replace vc := vc.2
    rintro _ _ ⟨rfl, rfl⟩
    refine go_if_eq 17 46 dX4_put_14 rfl (by decide) (fun e2 => ?_) (fun e2 => ?_)
    · replace vc := vc.1 (bI_0.mp e2)
      refine go_iconst (v := (-1)) 47 dX4_put_46 rfl (by decide) ?_
      exact go_ireturn dX4_put_47 rfl vc
    · replace vc := vc.2 (bI_n0.mp e2)
      refine go_iload_n 18 3 dX4_put_17 rfl rfl rfl ?_
      refine go_iconst (v := nI 0) 19 dX4_put_18 rfl (by decide) ?_
      refine go_iconst (v := nI 2) 20 dX4_put_19 rfl (by decide) ?_
      refine go_callSI (M' := mX4_in) (as := [vI x3, vI (nI 0), vI (nI 2)]) 23 dX4_put_20 rfl q1703 okX4_in rfl rfl rfl rfl rfl (ctX4_inL rfl rfl) ?_
      rintro _ _ ⟨rfl, rfl⟩
      refine go_if_eq 26 46 dX4_put_23 rfl (by decide) (fun e3 => ?_) (fun e3 => ?_)
      · replace vc := vc.1 (bI_0.mp e3)
        refine go_iconst (v := (-1)) 47 dX4_put_46 rfl (by decide) ?_
        exact go_ireturn dX4_put_47 rfl vc
      · replace vc := vc.2 (bI_n0.mp e3)
        refine go_iload 28 dX4_put_26 rfl rfl ?_
        refine go_iconst (v := nI 0) 29 dX4_put_28 rfl (by decide) ?_
        refine go_iload_n 30 3 dX4_put_29 rfl rfl rfl ?_
        refine go_iconst (v := nI 2) 31 dX4_put_30 rfl (by decide) ?_
        refine go_icmp_ne 34 38 dX4_put_31 rfl (by decide) (fun e4 => ?_) (fun e4 => ?_)
        · replace vc := vc.1 e4
          refine go_bipush (v := nI 9) 40 dX4_put_38 rfl (by decide) ?_
          exact vc
        · replace vc := vc.2 e4
          refine go_iconst (v := nI 1) 35 dX4_put_34 rfl (by decide) ?_
          refine go_goto 40 dX4_put_35 (by decide) ?_
          exact vc

theorem bX4_put_40 {h : Hp} {b : Nat × Nat} {Q : Rs → Hp → Prop} {o : Nat} {x1 : Int32} {x2 : Int32} {x3 : Int32} {x4 : Int32} {s0 : Int32} {s1 : Int32} {s2 : Int32} {t : St} {g : Nat} (hM : MS h o t g) (vc : (((s1 ≤ s0 ∧ s0 ≤ s2) → ((¬ x3 = 0 → ((¬ x3 = (nI 1) → (vp_in (((nI 6) * x1) + x2) 78 ∧ (nt (((nI 6) * x1) + x2)) < 6 * ns t ∧ (((hl t (nt (((nI 6) * x1) + x2))) = 0 → AWP mX4_put 4 100 [vR (some o), vI x1, vI x2, vI x3, vI x4, vI (((nI 6) * x1) + x2), vU] [vI (nI 0)] h b Q) ∧ (¬ (hl t (nt (((nI 6) * x1) + x2))) = 0 → AWP mX4_put 4 100 [vR (some o), vI x1, vI x2, vI x3, vI x4, vI (((nI 6) * x1) + x2), vU] [vI (nI 1)] h b Q)))) ∧ (x3 = (nI 1) → (vp_in (((nI 6) * x1) + x2) 78 ∧ (nt (((nI 6) * x1) + x2)) < 6 * ns t ∧ AWP mX4_put 4 100 [vR (some o), vI x1, vI x2, vI x3, vI x4, vI (((nI 6) * x1) + x2), vU] [vI (wg t (nt (((nI 6) * x1) + x2)))] h b Q)))) ∧ (x3 = 0 → (vp_in (((nI 6) * x1) + x2) 78 ∧ (nt (((nI 6) * x1) + x2)) < 6 * ns t ∧ AWP mX4_put 4 100 [vR (some o), vI x1, vI x2, vI x3, vI x4, vI (((nI 6) * x1) + x2), vU] [vI (pd t (nt (((nI 6) * x1) + x2)))] h b Q)))) ∧ (¬ (s1 ≤ s0 ∧ s0 ≤ s2) → Q (rI (-1)) h))) : AWP mX4_put 4 40 [vR (some o), vI x1, vI x2, vI x3, vI x4, vU, vU] [vI s2, vI s1, vI s0] h b Q := by
  refine go_callSI (M' := mX4_in) (as := [vI s0, vI s1, vI s2]) 43 dX4_put_40 rfl q1703 okX4_in rfl rfl rfl rfl rfl (ctX4_in) ?_
  rintro _ _ ⟨rfl, rfl⟩
  refine go_if_ne 46 48 dX4_put_43 rfl (by decide) (fun e1 => ?_) (fun e1 => ?_)
  · replace vc := vc.1 (bI_n0.mp e1)
    refine go_bipush (v := nI 6) 50 dX4_put_48 rfl (by decide) ?_
    refine go_iload_n 51 1 dX4_put_50 rfl rfl rfl ?_
    refine go_imul 52 dX4_put_51 rfl ?_
    refine go_iload_n 53 2 dX4_put_52 rfl rfl rfl ?_
    refine go_iadd 54 dX4_put_53 rfl ?_
    refine go_istore 56 [vR (some o), vI x1, vI x2, vI x3, vI x4, vI (((nI 6) * x1) + x2), vU] dX4_put_54 rfl rfl rfl ?_
    refine go_iload_n 57 3 dX4_put_56 rfl rfl rfl ?_
    refine go_if_ne 60 70 dX4_put_57 rfl (by decide) (fun e2 => ?_) (fun e2 => ?_)
    · replace vc := vc.1 e2
      refine go_iload_n 71 3 dX4_put_70 rfl rfl rfl ?_
      refine go_iconst (v := nI 1) 72 dX4_put_71 rfl (by decide) ?_
      refine go_icmp_ne 75 85 dX4_put_72 rfl (by decide) (fun e3 => ?_) (fun e3 => ?_)
      · replace vc := vc.1 e3
        refine go_aload_n 86 0 dX4_put_85 rfl rfl rfl ?_
        refine go_getRe 89 dX4_put_86 rfl (MO_k hM.1) gfX4_22_5 rfl (MO_f1406 hM.1) ?_
        refine go_iload 91 dX4_put_89 rfl rfl ?_
        refine go_baloadZ 92 dX4_put_91 rfl (MO_k5 hM.1) vc.1 ?_
        replace vc := vc.2
        rw [hM.a5 vc.1]
        replace vc := vc.2
        refine go_if_eq 95 99 dX4_put_92 rfl (by decide) (fun e4 => ?_) (fun e4 => ?_)
        · replace vc := vc.1 e4
          refine go_iconst (v := nI 0) 100 dX4_put_99 rfl (by decide) ?_
          exact vc
        · replace vc := vc.2 e4
          refine go_iconst (v := nI 1) 96 dX4_put_95 rfl (by decide) ?_
          refine go_goto 100 dX4_put_96 (by decide) ?_
          exact vc
      · replace vc := vc.2 e3
        refine go_aload_n 76 0 dX4_put_75 rfl rfl rfl ?_
        refine go_getRe 79 dX4_put_76 rfl (MO_k hM.1) gfX4_19_5 rfl (MO_f1405 hM.1) ?_
        refine go_iload 81 dX4_put_79 rfl rfl ?_
        refine go_iaload 82 dX4_put_81 rfl (MO_k4 hM.1) vc.1 ?_
        replace vc := vc.2
        rw [hM.a4 vc.1]
        replace vc := vc.2
        refine go_goto 100 dX4_put_82 (by decide) ?_
        exact vc
    · replace vc := vc.2 e2
      refine go_aload_n 61 0 dX4_put_60 rfl rfl rfl ?_
      refine go_getRe 64 dX4_put_61 rfl (MO_k hM.1) gfX4_16_5 rfl (MO_f1404 hM.1) ?_
      refine go_iload 66 dX4_put_64 rfl rfl ?_
      refine go_iaload 67 dX4_put_66 rfl (MO_k3 hM.1) vc.1 ?_
      replace vc := vc.2
      rw [hM.a3 vc.1]
      replace vc := vc.2
      refine go_goto 100 dX4_put_67 (by decide) ?_
      exact vc
  · replace vc := vc.2 (bI_0.mp e1)
    refine go_iconst (v := (-1)) 47 dX4_put_46 rfl (by decide) ?_
    exact go_ireturn dX4_put_47 rfl vc

theorem bX4_put_100 {h : Hp} {b : Nat × Nat} {Q : Rs → Hp → Prop} {o : Nat} {x1 : Int32} {x2 : Int32} {x3 : Int32} {x4 : Int32} {x5 : Int32} {s0 : Int32} {t : St} {g : Nat} (hM : MS h o t g) (vc : ((¬ s0 = x4 → (∃ (P4 : Hp → Prop), Ret mX4_kept 0 [vR (some o), vI x3, vI x5, vI s0, vI x4, vI (nI 0)] h 0 0 (RV P4) ∧ ∀ h3, P4 h3 → (∃ t6 g7, MS h3 o t6 g7 ∧ (∃ (P10 : Hp → Prop), Ret mX4_set 3 [vR (some o), vI x3, vI x5, vI x4, vI (nI 0)] h3 0 0 (RV P10) ∧ ∀ h9, P10 h9 → (∃ t12 g13, MS h9 o t12 g13 ∧ Q (rI s0) h9))))) ∧ (s0 = x4 → Q (rI s0) h))) : AWP mX4_put 4 100 [vR (some o), vI x1, vI x2, vI x3, vI x4, vI x5, vU] [vI s0] h b Q := by
  refine go_istore 102 [vR (some o), vI x1, vI x2, vI x3, vI x4, vI x5, vI s0] dX4_put_100 rfl rfl rfl ?_
  refine go_iload 104 dX4_put_102 rfl rfl ?_
  refine go_iload 106 dX4_put_104 rfl rfl ?_
  refine go_icmp_ne 109 112 dX4_put_106 rfl (by decide) (fun e1 => ?_) (fun e1 => ?_)
  · replace vc := vc.1 e1
    refine go_aload_n 113 0 dX4_put_112 rfl rfl rfl ?_
    refine go_iload_n 114 3 dX4_put_113 rfl rfl rfl ?_
    refine go_iload 116 dX4_put_114 rfl rfl ?_
    refine go_iload 118 dX4_put_116 rfl rfl ?_
    refine go_iload 120 dX4_put_118 rfl rfl ?_
    refine go_iconst (v := nI 0) 121 dX4_put_120 rfl (by decide) ?_
    obtain ⟨P4, hR, vc⟩ := vc
    refine go_callVV (M' := mX4_kept) (as := [vI x3, vI x5, vI s0, vI x4, vI (nI 0)]) 124 dX4_put_121 rfl q1790 okX4_kept (MO_k hM.1) ck_4 rfl rfl rfl rfl rfl hR ?_
    intro h3 p1
    replace vc := vc h3 p1
    obtain ⟨t6, g7, hM, vc⟩ := vc
    refine go_aload_n 125 0 dX4_put_124 rfl rfl rfl ?_
    refine go_iload_n 126 3 dX4_put_125 rfl rfl rfl ?_
    refine go_iload 128 dX4_put_126 rfl rfl ?_
    refine go_iload 130 dX4_put_128 rfl rfl ?_
    refine go_iconst (v := nI 0) 131 dX4_put_130 rfl (by decide) ?_
    obtain ⟨P10, hR, vc⟩ := vc
    refine go_callVV (M' := mX4_set) (as := [vI x3, vI x5, vI x4, vI (nI 0)]) 134 dX4_put_131 rfl q1794 okX4_set (MO_k hM.1) ck_4 rfl rfl rfl rfl rfl hR ?_
    intro h9 p1
    replace vc := vc h9 p1
    obtain ⟨t12, g13, hM, vc⟩ := vc
    refine go_iload 136 dX4_put_134 rfl rfl ?_
    exact go_ireturn dX4_put_136 rfl vc
  · replace vc := vc.2 e1
    refine go_iload 111 dX4_put_109 rfl rfl ?_
    exact go_ireturn dX4_put_111 rfl vc

theorem bX4_crack_0 {h : Hp} {b : Nat × Nat} {Q : Rs → Hp → Prop} {o : Nat} {x1 : Int32} {x2 : Int32} {x3 : Int32} {x4 : Int32} {t : St} {g : Nat} (hM : MS h o t g) (vc : ((¬ (isSh t x1) → Q (rI (-1)) h) ∧ ((isSh t x1) → (isSh t x1 ∧ ((¬ (isCo t x1 x2) → Q (rI (-1)) h) ∧ ((isCo t x1 x2) → (isSh t x1 ∧ (((isCo t x1 x3) → ((x2 = x3 → ((¬ (bt x4 0 9) → Q (rI (-1)) h) ∧ ((bt x4 0 9) → Q (rI (-2)) h))) ∧ (¬ x2 = x3 → ((isSh t x1 ∧ bt x2 0 5 ∧ bt x3 0 5) ∧ (((has t (nt x1) (nt x2) (nt x3) = true) → (vp_in (nI 36 * x1 + nI 6 * x2 + x3) 468 ∧ (nt (nI 36 * x1 + nI 6 * x2 + x3)) < 36 * ns t ∧ ((((nI 0) ≤ x4 ∧ x4 ≤ (sf t (nt (nI 36 * x1 + nI 6 * x2 + x3)))) → (vp_in (nI 36 * x1 + nI 6 * x2 + x3) 468 ∧ (nt (nI 36 * x1 + nI 6 * x2 + x3)) < 36 * ns t ∧ ((¬ (ck t (nt (nI 36 * x1 + nI 6 * x2 + x3))) = x4 → (∃ (P11 : Hp → Prop), Ret mX4_kept 0 [vR (some o), vI (nI 3), vI (nI 36 * x1 + nI 6 * x2 + x3), vI (ck t (nt (nI 36 * x1 + nI 6 * x2 + x3))), vI x4, vI (nI 0)] h 0 0 (RV P11) ∧ ∀ h10, P11 h10 → (∃ t13 g14, MS h10 o t13 g14 ∧ (∃ (P17 : Hp → Prop), Ret mX4_set 3 [vR (some o), vI (nI 3), vI (nI 36 * x1 + nI 6 * x2 + x3), vI x4, vI (nI 0)] h10 0 0 (RV P17) ∧ ∀ h16, P17 h16 → (∃ t19 g20, MS h16 o t19 g20 ∧ Q (rI (ck t (nt (nI 36 * x1 + nI 6 * x2 + x3)))) h16))))) ∧ ((ck t (nt (nI 36 * x1 + nI 6 * x2 + x3))) = x4 → Q (rI (ck t (nt (nI 36 * x1 + nI 6 * x2 + x3)))) h)))) ∧ (¬ ((nI 0) ≤ x4 ∧ x4 ≤ (sf t (nt (nI 36 * x1 + nI 6 * x2 + x3)))) → Q (rI (-1)) h)))) ∧ (¬ (has t (nt x1) (nt x2) (nt x3) = true) → ((¬ (bt x4 0 9) → Q (rI (-1)) h) ∧ ((bt x4 0 9) → Q (rI (-2)) h)))))))) ∧ (¬ (isCo t x1 x3) → Q (rI (-1)) h))))))))) : AWP mX4_crack 4 0 [vR (some o), vI x1, vI x2, vI x3, vI x4, vU, vU] [] h b Q := by
  refine go_aload_n 1 0 dX4_crack_0 rfl rfl rfl ?_
  refine go_iload_n 2 1 dX4_crack_1 rfl rfl rfl ?_
  refine go_callVI (M' := mX4_isShape) (as := [vI x1]) 5 dX4_crack_2 rfl q1769 okX4_isShape (MO_k hM.1) ck_4 rfl rfl rfl rfl rfl (ctX4_isShape hM) ?_
  rintro _ _ ⟨rfl, rfl⟩
  refine go_if_eq 8 26 dX4_crack_5 rfl (by decide) (fun e1 => ?_) (fun e1 => ?_)
  · replace vc := vc.1 (bI_0.mp e1)
    refine go_iconst (v := (-1)) 27 dX4_crack_26 rfl (by decide) ?_
    exact go_ireturn dX4_crack_27 rfl vc
  · replace vc := vc.2 (bI_n0.mp e1)
    refine go_aload_n 9 0 dX4_crack_8 rfl rfl rfl ?_
    refine go_iload_n 10 1 dX4_crack_9 rfl rfl rfl ?_
    refine go_iload_n 11 2 dX4_crack_10 rfl rfl rfl ?_
    refine go_callVI (M' := mX4_isCorner) (as := [vI x1, vI x2]) 14 dX4_crack_11 rfl q1746 okX4_isCorner (MO_k hM.1) ck_4 rfl rfl rfl rfl rfl (ctX4_isCorner hM vc.1) ?_
    replace vc := vc.2
    rintro _ _ ⟨rfl, rfl⟩
    refine go_if_eq 17 26 dX4_crack_14 rfl (by decide) (fun e2 => ?_) (fun e2 => ?_)
    · replace vc := vc.1 (bI_0.mp e2)
      refine go_iconst (v := (-1)) 27 dX4_crack_26 rfl (by decide) ?_
      exact go_ireturn dX4_crack_27 rfl vc
    · replace vc := vc.2 (bI_n0.mp e2)
      refine go_aload_n 18 0 dX4_crack_17 rfl rfl rfl ?_
      refine go_iload_n 19 1 dX4_crack_18 rfl rfl rfl ?_
      refine go_iload_n 20 3 dX4_crack_19 rfl rfl rfl ?_
      refine go_callVI (M' := mX4_isCorner) (as := [vI x1, vI x3]) 23 dX4_crack_20 rfl q1746 okX4_isCorner (MO_k hM.1) ck_4 rfl rfl rfl rfl rfl (ctX4_isCorner hM vc.1) ?_
      replace vc := vc.2
      rintro _ _ ⟨rfl, rfl⟩
      refine go_if_ne 26 28 dX4_crack_23 rfl (by decide) (fun e3 => ?_) (fun e3 => ?_)
      · replace vc := vc.1 (bI_n0.mp e3)
        refine go_iload_n 29 2 dX4_crack_28 rfl rfl rfl ?_
        refine go_iload_n 30 3 dX4_crack_29 rfl rfl rfl ?_
        refine go_icmp_eq 33 43 dX4_crack_30 rfl (by decide) (fun e4 => ?_) (fun e4 => ?_)
        · replace vc := vc.1 e4
          refine go_iload 45 dX4_crack_43 rfl rfl ?_
          refine go_iconst (v := nI 0) 46 dX4_crack_45 rfl (by decide) ?_
          refine go_bipush (v := nI 9) 48 dX4_crack_46 rfl (by decide) ?_
          refine go_callSI (M' := mX4_in) (as := [vI x4, vI (nI 0), vI (nI 9)]) 51 dX4_crack_48 rfl q1703 okX4_in rfl rfl rfl rfl rfl (ctX4_inL rfl rfl) ?_
          rintro _ _ ⟨rfl, rfl⟩
          refine go_if_eq 54 59 dX4_crack_51 rfl (by decide) (fun e5 => ?_) (fun e5 => ?_)
          · replace vc := vc.1 (bI_0.mp e5)
            refine go_iconst (v := (-1)) 60 dX4_crack_59 rfl (by decide) ?_
            exact go_ireturn dX4_crack_60 rfl vc
          · replace vc := vc.2 (bI_n0.mp e5)
            refine go_bipush (v := (-2)) 56 dX4_crack_54 rfl (by decide) ?_
            refine go_goto 60 dX4_crack_56 (by decide) ?_
            exact go_ireturn dX4_crack_60 rfl vc
        · replace vc := vc.2 e4
          refine go_aload_n 34 0 dX4_crack_33 rfl rfl rfl ?_
          refine go_iload_n 35 1 dX4_crack_34 rfl rfl rfl ?_
          refine go_iload_n 36 2 dX4_crack_35 rfl rfl rfl ?_
          refine go_iload_n 37 3 dX4_crack_36 rfl rfl rfl ?_
          refine go_callVI (M' := mX4_hasPiece) (as := [vI x1, vI x2, vI x3]) 40 dX4_crack_37 rfl q1750 okX4_hasPiece (MO_k hM.1) ck_4 rfl rfl rfl rfl rfl (ctX4_hasPiece hM vc.1) ?_
          replace vc := vc.2
          rintro _ _ ⟨rfl, rfl⟩
          refine go_if_ne 43 61 dX4_crack_40 rfl (by decide) (fun e6 => ?_) (fun e6 => ?_)
          · replace vc := vc.1 (bI_n0.mp e6)
            refine go_iload_n 62 1 dX4_crack_61 rfl rfl rfl ?_
            refine go_iload_n 63 2 dX4_crack_62 rfl rfl rfl ?_
            refine go_iload_n 64 3 dX4_crack_63 rfl rfl rfl ?_
            refine go_callSI (M' := mX4_at) (as := [vI x1, vI x2, vI x3]) 67 dX4_crack_64 rfl q1754 okX4_at rfl rfl rfl rfl rfl (ctX4_at) ?_
            rintro _ _ ⟨rfl, rfl⟩
            refine go_istore 69 [vR (some o), vI x1, vI x2, vI x3, vI x4, vI (nI 36 * x1 + nI 6 * x2 + x3), vU] dX4_crack_67 rfl rfl rfl ?_
            refine go_iload 71 dX4_crack_69 rfl rfl ?_
            refine go_iconst (v := nI 0) 72 dX4_crack_71 rfl (by decide) ?_
            refine go_aload_n 73 0 dX4_crack_72 rfl rfl rfl ?_
            refine go_getRe 76 dX4_crack_73 rfl (MO_k hM.1) gfX4_26_5 rfl (MO_f1407 hM.1) ?_
            refine go_iload 78 dX4_crack_76 rfl rfl ?_
            refine go_iaload 79 dX4_crack_78 rfl (MO_k6 hM.1) vc.1 ?_
            replace vc := vc.2
            rw [hM.a6 vc.1]
            replace vc := vc.2
            refine go_callSI (M' := mX4_in) (as := [vI x4, vI (nI 0), vI (sf t (nt (nI 36 * x1 + nI 6 * x2 + x3)))]) 82 dX4_crack_79 rfl q1703 okX4_in rfl rfl rfl rfl rfl (ctX4_in) ?_
            rintro _ _ ⟨rfl, rfl⟩
            refine go_if_ne 85 87 dX4_crack_82 rfl (by decide) (fun e7 => ?_) (fun e7 => ?_)
            · replace vc := vc.1 (bI_n0.mp e7)
              refine go_aload_n 88 0 dX4_crack_87 rfl rfl rfl ?_
              refine go_getRe 91 dX4_crack_88 rfl (MO_k hM.1) gfX4_29_5 rfl (MO_f1408 hM.1) ?_
              refine go_iload 93 dX4_crack_91 rfl rfl ?_
              refine go_iaload 94 dX4_crack_93 rfl (MO_k7 hM.1) vc.1 ?_
              replace vc := vc.2
              rw [hM.a7 vc.1]
              replace vc := vc.2
              refine go_istore 96 [vR (some o), vI x1, vI x2, vI x3, vI x4, vI (nI 36 * x1 + nI 6 * x2 + x3), vI (ck t (nt (nI 36 * x1 + nI 6 * x2 + x3)))] dX4_crack_94 rfl rfl rfl ?_
              refine go_iload 98 dX4_crack_96 rfl rfl ?_
              refine go_iload 100 dX4_crack_98 rfl rfl ?_
              refine go_icmp_ne 103 106 dX4_crack_100 rfl (by decide) (fun e8 => ?_) (fun e8 => ?_)
              · replace vc := vc.1 e8
                refine go_aload_n 107 0 dX4_crack_106 rfl rfl rfl ?_
                refine go_iconst (v := nI 3) 108 dX4_crack_107 rfl (by decide) ?_
                refine go_iload 110 dX4_crack_108 rfl rfl ?_
                refine go_iload 112 dX4_crack_110 rfl rfl ?_
                refine go_iload 114 dX4_crack_112 rfl rfl ?_
                refine go_iconst (v := nI 0) 115 dX4_crack_114 rfl (by decide) ?_
                obtain ⟨P11, hR, vc⟩ := vc
                refine go_callVV (M' := mX4_kept) (as := [vI (nI 3), vI (nI 36 * x1 + nI 6 * x2 + x3), vI (ck t (nt (nI 36 * x1 + nI 6 * x2 + x3))), vI x4, vI (nI 0)]) 118 dX4_crack_115 rfl q1790 okX4_kept (MO_k hM.1) ck_4 rfl rfl rfl rfl rfl hR ?_
                intro h10 p1
                replace vc := vc h10 p1
                obtain ⟨t13, g14, hM, vc⟩ := vc
                refine go_aload_n 119 0 dX4_crack_118 rfl rfl rfl ?_
                refine go_iconst (v := nI 3) 120 dX4_crack_119 rfl (by decide) ?_
                refine go_iload 122 dX4_crack_120 rfl rfl ?_
                refine go_iload 124 dX4_crack_122 rfl rfl ?_
                refine go_iconst (v := nI 0) 125 dX4_crack_124 rfl (by decide) ?_
                obtain ⟨P17, hR, vc⟩ := vc
                refine go_callVV (M' := mX4_set) (as := [vI (nI 3), vI (nI 36 * x1 + nI 6 * x2 + x3), vI x4, vI (nI 0)]) 128 dX4_crack_125 rfl q1794 okX4_set (MO_k hM.1) ck_4 rfl rfl rfl rfl rfl hR ?_
                intro h16 p1
                replace vc := vc h16 p1
                obtain ⟨t19, g20, hM, vc⟩ := vc
                refine go_iload 130 dX4_crack_128 rfl rfl ?_
                exact go_ireturn dX4_crack_130 rfl vc
              · replace vc := vc.2 e8
                refine go_iload 105 dX4_crack_103 rfl rfl ?_
                exact go_ireturn dX4_crack_105 rfl vc
            · replace vc := vc.2 (bI_0.mp e7)
              refine go_iconst (v := (-1)) 86 dX4_crack_85 rfl (by decide) ?_
              exact go_ireturn dX4_crack_86 rfl vc
          · replace vc := vc.2 (bI_0.mp e6)
            refine go_iload 45 dX4_crack_43 rfl rfl ?_
            refine go_iconst (v := nI 0) 46 dX4_crack_45 rfl (by decide) ?_
            refine go_bipush (v := nI 9) 48 dX4_crack_46 rfl (by decide) ?_
            refine go_callSI (M' := mX4_in) (as := [vI x4, vI (nI 0), vI (nI 9)]) 51 dX4_crack_48 rfl q1703 okX4_in rfl rfl rfl rfl rfl (ctX4_inL rfl rfl) ?_
            rintro _ _ ⟨rfl, rfl⟩
            refine go_if_eq 54 59 dX4_crack_51 rfl (by decide) (fun e21 => ?_) (fun e21 => ?_)
            · replace vc := vc.1 (bI_0.mp e21)
              refine go_iconst (v := (-1)) 60 dX4_crack_59 rfl (by decide) ?_
              exact go_ireturn dX4_crack_60 rfl vc
            · replace vc := vc.2 (bI_n0.mp e21)
              refine go_bipush (v := (-2)) 56 dX4_crack_54 rfl (by decide) ?_
              refine go_goto 60 dX4_crack_56 (by decide) ?_
              exact go_ireturn dX4_crack_60 rfl vc
      · replace vc := vc.2 (bI_0.mp e3)
        refine go_iconst (v := (-1)) 27 dX4_crack_26 rfl (by decide) ?_
        exact go_ireturn dX4_crack_27 rfl vc

theorem bX4_stroke_0 {h : Hp} {b : Nat × Nat} {Q : Rs → Hp → Prop} {o : Nat} {x1 : Int32} {x2 : Int32} {x3 : Int32} {t : St} {g : Nat} (hM : MS h o t g) (vc : ((¬ (isSh t x1) → Q (rI (-1)) h) ∧ ((isSh t x1) → (isSh t x1 ∧ ((¬ (isCo t x1 x2) → Q (rI (-1)) h) ∧ ((isCo t x1 x2) → ((x3 = (-1) → AWP mX4_stroke 3 33 [vR (some o), vI x1, vI x2, vI x3, vU] [] h b Q) ∧ (¬ x3 = (-1) → (isSh t x1 ∧ (((isCo t x1 x3) → AWP mX4_stroke 3 33 [vR (some o), vI x1, vI x2, vI x3, vU] [] h b Q) ∧ (¬ (isCo t x1 x3) → Q (rI (-1)) h))))))))))) : AWP mX4_stroke 3 0 [vR (some o), vI x1, vI x2, vI x3, vU] [] h b Q := by
  refine go_aload_n 1 0 dX4_stroke_0 rfl rfl rfl ?_
  refine go_iload_n 2 1 dX4_stroke_1 rfl rfl rfl ?_
  refine go_callVI (M' := mX4_isShape) (as := [vI x1]) 5 dX4_stroke_2 rfl q1769 okX4_isShape (MO_k hM.1) ck_4 rfl rfl rfl rfl rfl (ctX4_isShape hM) ?_
  rintro _ _ ⟨rfl, rfl⟩
  refine go_if_eq 8 31 dX4_stroke_5 rfl (by decide) (fun e1 => ?_) (fun e1 => ?_)
  · replace vc := vc.1 (bI_0.mp e1)
    refine go_iconst (v := (-1)) 32 dX4_stroke_31 rfl (by decide) ?_
    exact go_ireturn dX4_stroke_32 rfl vc
  · replace vc := vc.2 (bI_n0.mp e1)
    refine go_aload_n 9 0 dX4_stroke_8 rfl rfl rfl ?_
    refine go_iload_n 10 1 dX4_stroke_9 rfl rfl rfl ?_
    refine go_iload_n 11 2 dX4_stroke_10 rfl rfl rfl ?_
    refine go_callVI (M' := mX4_isCorner) (as := [vI x1, vI x2]) 14 dX4_stroke_11 rfl q1746 okX4_isCorner (MO_k hM.1) ck_4 rfl rfl rfl rfl rfl (ctX4_isCorner hM vc.1) ?_
    replace vc := vc.2
    rintro _ _ ⟨rfl, rfl⟩
    refine go_if_eq 17 31 dX4_stroke_14 rfl (by decide) (fun e2 => ?_) (fun e2 => ?_)
    · replace vc := vc.1 (bI_0.mp e2)
      refine go_iconst (v := (-1)) 32 dX4_stroke_31 rfl (by decide) ?_
      exact go_ireturn dX4_stroke_32 rfl vc
    · replace vc := vc.2 (bI_n0.mp e2)
      refine go_iload_n 18 3 dX4_stroke_17 rfl rfl rfl ?_
      refine go_iconst (v := (-1)) 19 dX4_stroke_18 rfl (by decide) ?_
      refine go_icmp_eq 22 33 dX4_stroke_19 rfl (by decide) (fun e3 => ?_) (fun e3 => ?_)
      · replace vc := vc.1 e3
        exact vc
      · replace vc := vc.2 e3
        refine go_aload_n 23 0 dX4_stroke_22 rfl rfl rfl ?_
        refine go_iload_n 24 1 dX4_stroke_23 rfl rfl rfl ?_
        refine go_iload_n 25 3 dX4_stroke_24 rfl rfl rfl ?_
        refine go_callVI (M' := mX4_isCorner) (as := [vI x1, vI x3]) 28 dX4_stroke_25 rfl q1746 okX4_isCorner (MO_k hM.1) ck_4 rfl rfl rfl rfl rfl (ctX4_isCorner hM vc.1) ?_
        replace vc := vc.2
        rintro _ _ ⟨rfl, rfl⟩
        refine go_if_ne 31 33 dX4_stroke_28 rfl (by decide) (fun e4 => ?_) (fun e4 => ?_)
        · replace vc := vc.1 (bI_n0.mp e4)
          exact vc
        · replace vc := vc.2 (bI_0.mp e4)
          refine go_iconst (v := (-1)) 32 dX4_stroke_31 rfl (by decide) ?_
          exact go_ireturn dX4_stroke_32 rfl vc

theorem bX4_stroke_33 {h : Hp} {b : Nat × Nat} {Q : Rs → Hp → Prop} {o : Nat} {x1 : Int32} {x2 : Int32} {x3 : Int32} {t : St} {g : Nat} (hM : MS h o t g) (vc : ((¬ x3 = (-1) → ((x2 = x3 → Q (rI (-2)) h) ∧ (¬ x2 = x3 → ((isSh t x1 ∧ bt x2 0 5 ∧ bt x3 0 5) ∧ (((has t (nt x1) (nt x2) (nt x3) = true) → (vp_in (nI 36 * x1 + nI 6 * x2 + x3) 468 ∧ (nt (nI 36 * x1 + nI 6 * x2 + x3)) < 36 * ns t ∧ ((¬ (sf t (nt (nI 36 * x1 + nI 6 * x2 + x3))) = (nI 1) → (vp_in (nI 36 * x1 + nI 6 * x2 + x3) 468 ∧ (nt (nI 36 * x1 + nI 6 * x2 + x3)) < 36 * ns t ∧ (vp_in (nI 36 * x1 + nI 6 * x2 + x3) 468 ∧ (nt (nI 36 * x1 + nI 6 * x2 + x3)) < 36 * ns t ∧ (vp_in (nI 36 * x1 + nI 6 * x2 + x3) 468 ∧ (nt (nI 36 * x1 + nI 6 * x2 + x3)) < 36 * ns t ∧ (∃ (P7 : Hp → Prop), Ret mX4_kept 0 [vR (some o), vI (nI 4), vI (nI 36 * x1 + nI 6 * x2 + x3), vI (sf t (nt (nI 36 * x1 + nI 6 * x2 + x3))), vI ((sf t (nt (nI 36 * x1 + nI 6 * x2 + x3))) - (nI 1)), vI (ck t (nt (nI 36 * x1 + nI 6 * x2 + x3)))] h 0 0 (RV P7) ∧ ∀ h6, P7 h6 → (∃ t9 g10, MS h6 o t9 g10 ∧ (vp_in (nI 36 * x1 + nI 6 * x2 + x3) 468 ∧ (nt (nI 36 * x1 + nI 6 * x2 + x3)) < 36 * ns t9 ∧ (vp_in (nI 36 * x1 + nI 6 * x2 + x3) 468 ∧ (nt (nI 36 * x1 + nI 6 * x2 + x3)) < 36 * ns t9 ∧ (vp_in (nI 36 * x1 + nI 6 * x2 + x3) 468 ∧ (nt (nI 36 * x1 + nI 6 * x2 + x3)) < 36 * ns t9 ∧ (∃ (P13 : Hp → Prop), Ret mX4_setStiff 2 [vR (some o), vI (nI 36 * x1 + nI 6 * x2 + x3), vI ((sf t9 (nt (nI 36 * x1 + nI 6 * x2 + x3))) - (nI 1)), vI (mnI (ck t9 (nt (nI 36 * x1 + nI 6 * x2 + x3))) ((sf t9 (nt (nI 36 * x1 + nI 6 * x2 + x3))) - (nI 1)))] h6 0 0 (RV P13) ∧ ∀ h12, P13 h12 → (∃ t15 g16, MS h12 o t15 g16 ∧ (vp_in (nI 36 * x1 + nI 6 * x2 + x3) 468 ∧ (nt (nI 36 * x1 + nI 6 * x2 + x3)) < 36 * ns t15 ∧ Q (rI (sf t15 (nt (nI 36 * x1 + nI 6 * x2 + x3)))) h12)))))))))))) ∧ ((sf t (nt (nI 36 * x1 + nI 6 * x2 + x3))) = (nI 1) → Q (rI (-4)) h)))) ∧ (¬ (has t (nt x1) (nt x2) (nt x3) = true) → Q (rI (-2)) h)))))) ∧ (x3 = (-1) → (vp_in (((nI 6) * x1) + x2) 78 ∧ (nt (((nI 6) * x1) + x2)) < 6 * ns t ∧ ((¬ (hv t (nt (((nI 6) * x1) + x2))) = (nI 1) → (vp_in (((nI 6) * x1) + x2) 78 ∧ (nt (((nI 6) * x1) + x2)) < 6 * ns t ∧ (vp_in (((nI 6) * x1) + x2) 78 ∧ (nt (((nI 6) * x1) + x2)) < 6 * ns t ∧ (∃ (P20 : Hp → Prop), Ret mX4_kept 0 [vR (some o), vI (nI 5), vI (((nI 6) * x1) + x2), vI (hv t (nt (((nI 6) * x1) + x2))), vI ((hv t (nt (((nI 6) * x1) + x2))) - (nI 1)), vI (nI 0)] h 0 0 (RV P20) ∧ ∀ h19, P20 h19 → (∃ t22 g23, MS h19 o t22 g23 ∧ (vp_in (((nI 6) * x1) + x2) 78 ∧ (nt (((nI 6) * x1) + x2)) < 6 * ns t22 ∧ (vp_in (((nI 6) * x1) + x2) 78 ∧ (∀ h24, h24 = w1 h19 (o + 2) (nt (((nI 6) * x1) + x2)) ((hv t22 (nt (((nI 6) * x1) + x2))) - (nI 1)) → (vp_in (((nI 6) * x1) + x2) 78 ∧ Q (rI (hAI h24 (o + 2) (nt (((nI 6) * x1) + x2)))) h24))))))))) ∧ ((hv t (nt (((nI 6) * x1) + x2))) = (nI 1) → Q (rI (-4)) h)))))) : AWP mX4_stroke 3 33 [vR (some o), vI x1, vI x2, vI x3, vU] [] h b Q := by
  refine go_iload_n 34 3 dX4_stroke_33 rfl rfl rfl ?_
  refine go_iconst (v := (-1)) 35 dX4_stroke_34 rfl (by decide) ?_
  refine go_icmp_ne 38 103 dX4_stroke_35 rfl (by decide) (fun e1 => ?_) (fun e1 => ?_)
  · replace vc := vc.1 e1
    refine go_iload_n 104 2 dX4_stroke_103 rfl rfl rfl ?_
    refine go_iload_n 105 3 dX4_stroke_104 rfl rfl rfl ?_
    refine go_icmp_eq 108 118 dX4_stroke_105 rfl (by decide) (fun e2 => ?_) (fun e2 => ?_)
    · replace vc := vc.1 e2
      refine go_bipush (v := (-2)) 120 dX4_stroke_118 rfl (by decide) ?_
      exact go_ireturn dX4_stroke_120 rfl vc
    · replace vc := vc.2 e2
      refine go_aload_n 109 0 dX4_stroke_108 rfl rfl rfl ?_
      refine go_iload_n 110 1 dX4_stroke_109 rfl rfl rfl ?_
      refine go_iload_n 111 2 dX4_stroke_110 rfl rfl rfl ?_
      refine go_iload_n 112 3 dX4_stroke_111 rfl rfl rfl ?_
      refine go_callVI (M' := mX4_hasPiece) (as := [vI x1, vI x2, vI x3]) 115 dX4_stroke_112 rfl q1750 okX4_hasPiece (MO_k hM.1) ck_4 rfl rfl rfl rfl rfl (ctX4_hasPiece hM vc.1) ?_
      replace vc := vc.2
      rintro _ _ ⟨rfl, rfl⟩
      refine go_if_ne 118 121 dX4_stroke_115 rfl (by decide) (fun e3 => ?_) (fun e3 => ?_)
      · replace vc := vc.1 (bI_n0.mp e3)
        refine go_iload_n 122 1 dX4_stroke_121 rfl rfl rfl ?_
        refine go_iload_n 123 2 dX4_stroke_122 rfl rfl rfl ?_
        refine go_iload_n 124 3 dX4_stroke_123 rfl rfl rfl ?_
        refine go_callSI (M' := mX4_at) (as := [vI x1, vI x2, vI x3]) 127 dX4_stroke_124 rfl q1754 okX4_at rfl rfl rfl rfl rfl (ctX4_at) ?_
        rintro _ _ ⟨rfl, rfl⟩
        refine go_istore 129 [vR (some o), vI x1, vI x2, vI x3, vI (nI 36 * x1 + nI 6 * x2 + x3)] dX4_stroke_127 rfl rfl rfl ?_
        refine go_aload_n 130 0 dX4_stroke_129 rfl rfl rfl ?_
        refine go_getRe 133 dX4_stroke_130 rfl (MO_k hM.1) gfX4_26_5 rfl (MO_f1407 hM.1) ?_
        refine go_iload 135 dX4_stroke_133 rfl rfl ?_
        refine go_iaload 136 dX4_stroke_135 rfl (MO_k6 hM.1) vc.1 ?_
        replace vc := vc.2
        rw [hM.a6 vc.1]
        replace vc := vc.2
        refine go_iconst (v := nI 1) 137 dX4_stroke_136 rfl (by decide) ?_
        refine go_icmp_ne 140 143 dX4_stroke_137 rfl (by decide) (fun e4 => ?_) (fun e4 => ?_)
        · replace vc := vc.1 e4
          refine go_aload_n 144 0 dX4_stroke_143 rfl rfl rfl ?_
          refine go_iconst (v := nI 4) 145 dX4_stroke_144 rfl (by decide) ?_
          refine go_iload 147 dX4_stroke_145 rfl rfl ?_
          refine go_aload_n 148 0 dX4_stroke_147 rfl rfl rfl ?_
          refine go_getRe 151 dX4_stroke_148 rfl (MO_k hM.1) gfX4_26_5 rfl (MO_f1407 hM.1) ?_
          refine go_iload 153 dX4_stroke_151 rfl rfl ?_
          refine go_iaload 154 dX4_stroke_153 rfl (MO_k6 hM.1) vc.1 ?_
          replace vc := vc.2
          rw [hM.a6 vc.1]
          replace vc := vc.2
          refine go_aload_n 155 0 dX4_stroke_154 rfl rfl rfl ?_
          refine go_getRe 158 dX4_stroke_155 rfl (MO_k hM.1) gfX4_26_5 rfl (MO_f1407 hM.1) ?_
          refine go_iload 160 dX4_stroke_158 rfl rfl ?_
          refine go_iaload 161 dX4_stroke_160 rfl (MO_k6 hM.1) vc.1 ?_
          replace vc := vc.2
          rw [hM.a6 vc.1]
          replace vc := vc.2
          refine go_iconst (v := nI 1) 162 dX4_stroke_161 rfl (by decide) ?_
          refine go_isub 163 dX4_stroke_162 rfl ?_
          refine go_aload_n 164 0 dX4_stroke_163 rfl rfl rfl ?_
          refine go_getRe 167 dX4_stroke_164 rfl (MO_k hM.1) gfX4_29_5 rfl (MO_f1408 hM.1) ?_
          refine go_iload 169 dX4_stroke_167 rfl rfl ?_
          refine go_iaload 170 dX4_stroke_169 rfl (MO_k7 hM.1) vc.1 ?_
          replace vc := vc.2
          rw [hM.a7 vc.1]
          replace vc := vc.2
          obtain ⟨P7, hR, vc⟩ := vc
          refine go_callVV (M' := mX4_kept) (as := [vI (nI 4), vI (nI 36 * x1 + nI 6 * x2 + x3), vI (sf t (nt (nI 36 * x1 + nI 6 * x2 + x3))), vI ((sf t (nt (nI 36 * x1 + nI 6 * x2 + x3))) - (nI 1)), vI (ck t (nt (nI 36 * x1 + nI 6 * x2 + x3)))]) 173 dX4_stroke_170 rfl q1790 okX4_kept (MO_k hM.1) ck_4 rfl rfl rfl rfl rfl hR ?_
          intro h6 p1
          replace vc := vc h6 p1
          obtain ⟨t9, g10, hM, vc⟩ := vc
          refine go_aload_n 174 0 dX4_stroke_173 rfl rfl rfl ?_
          refine go_iload 176 dX4_stroke_174 rfl rfl ?_
          refine go_aload_n 177 0 dX4_stroke_176 rfl rfl rfl ?_
          refine go_getRe 180 dX4_stroke_177 rfl (MO_k hM.1) gfX4_26_5 rfl (MO_f1407 hM.1) ?_
          refine go_iload 182 dX4_stroke_180 rfl rfl ?_
          refine go_iaload 183 dX4_stroke_182 rfl (MO_k6 hM.1) vc.1 ?_
          replace vc := vc.2
          rw [hM.a6 vc.1]
          replace vc := vc.2
          refine go_iconst (v := nI 1) 184 dX4_stroke_183 rfl (by decide) ?_
          refine go_isub 185 dX4_stroke_184 rfl ?_
          refine go_aload_n 186 0 dX4_stroke_185 rfl rfl rfl ?_
          refine go_getRe 189 dX4_stroke_186 rfl (MO_k hM.1) gfX4_29_5 rfl (MO_f1408 hM.1) ?_
          refine go_iload 191 dX4_stroke_189 rfl rfl ?_
          refine go_iaload 192 dX4_stroke_191 rfl (MO_k7 hM.1) vc.1 ?_
          replace vc := vc.2
          rw [hM.a7 vc.1]
          replace vc := vc.2
          refine go_aload_n 193 0 dX4_stroke_192 rfl rfl rfl ?_
          refine go_getRe 196 dX4_stroke_193 rfl (MO_k hM.1) gfX4_26_5 rfl (MO_f1407 hM.1) ?_
          refine go_iload 198 dX4_stroke_196 rfl rfl ?_
          refine go_iaload 199 dX4_stroke_198 rfl (MO_k6 hM.1) vc.1 ?_
          replace vc := vc.2
          rw [hM.a6 vc.1]
          replace vc := vc.2
          refine go_iconst (v := nI 1) 200 dX4_stroke_199 rfl (by decide) ?_
          refine go_isub 201 dX4_stroke_200 rfl ?_
          refine go_callSI (M' := mX4_lesser) (as := [vI (ck t9 (nt (nI 36 * x1 + nI 6 * x2 + x3))), vI ((sf t9 (nt (nI 36 * x1 + nI 6 * x2 + x3))) - (nI 1))]) 204 dX4_stroke_201 rfl q1810 okX4_lesser rfl rfl rfl rfl rfl (ctX4_lesser) ?_
          rintro _ _ ⟨rfl, rfl⟩
          obtain ⟨P13, hR, vc⟩ := vc
          refine go_callVV (M' := mX4_setStiff) (as := [vI (nI 36 * x1 + nI 6 * x2 + x3), vI ((sf t9 (nt (nI 36 * x1 + nI 6 * x2 + x3))) - (nI 1)), vI (mnI (ck t9 (nt (nI 36 * x1 + nI 6 * x2 + x3))) ((sf t9 (nt (nI 36 * x1 + nI 6 * x2 + x3))) - (nI 1)))]) 207 dX4_stroke_204 rfl q1798 okX4_setStiff (MO_k hM.1) ck_4 rfl rfl rfl rfl rfl hR ?_
          intro h12 p1
          replace vc := vc h12 p1
          obtain ⟨t15, g16, hM, vc⟩ := vc
          refine go_aload_n 208 0 dX4_stroke_207 rfl rfl rfl ?_
          refine go_getRe 211 dX4_stroke_208 rfl (MO_k hM.1) gfX4_26_5 rfl (MO_f1407 hM.1) ?_
          refine go_iload 213 dX4_stroke_211 rfl rfl ?_
          refine go_iaload 214 dX4_stroke_213 rfl (MO_k6 hM.1) vc.1 ?_
          replace vc := vc.2
          rw [hM.a6 vc.1]
          replace vc := vc.2
          exact go_ireturn dX4_stroke_214 rfl vc
        · replace vc := vc.2 e4
          refine go_bipush (v := (-4)) 142 dX4_stroke_140 rfl (by decide) ?_
          exact go_ireturn dX4_stroke_142 rfl vc
      · replace vc := vc.2 (bI_0.mp e3)
        refine go_bipush (v := (-2)) 120 dX4_stroke_118 rfl (by decide) ?_
        exact go_ireturn dX4_stroke_120 rfl vc
  · replace vc := vc.2 e1
    refine go_bipush (v := nI 6) 40 dX4_stroke_38 rfl (by decide) ?_
    refine go_iload_n 41 1 dX4_stroke_40 rfl rfl rfl ?_
    refine go_imul 42 dX4_stroke_41 rfl ?_
    refine go_iload_n 43 2 dX4_stroke_42 rfl rfl rfl ?_
    refine go_iadd 44 dX4_stroke_43 rfl ?_
    refine go_istore 46 [vR (some o), vI x1, vI x2, vI x3, vI (((nI 6) * x1) + x2)] dX4_stroke_44 rfl rfl rfl ?_
    refine go_aload_n 47 0 dX4_stroke_46 rfl rfl rfl ?_
    refine go_getRe 50 dX4_stroke_47 rfl (MO_k hM.1) gfX4_13_5 rfl (MO_f1403 hM.1) ?_
    refine go_iload 52 dX4_stroke_50 rfl rfl ?_
    refine go_iaload 53 dX4_stroke_52 rfl (MO_k2 hM.1) vc.1 ?_
    replace vc := vc.2
    rw [hM.a2 vc.1]
    replace vc := vc.2
    refine go_iconst (v := nI 1) 54 dX4_stroke_53 rfl (by decide) ?_
    refine go_icmp_ne 57 60 dX4_stroke_54 rfl (by decide) (fun e17 => ?_) (fun e17 => ?_)
    · replace vc := vc.1 e17
      refine go_aload_n 61 0 dX4_stroke_60 rfl rfl rfl ?_
      refine go_iconst (v := nI 5) 62 dX4_stroke_61 rfl (by decide) ?_
      refine go_iload 64 dX4_stroke_62 rfl rfl ?_
      refine go_aload_n 65 0 dX4_stroke_64 rfl rfl rfl ?_
      refine go_getRe 68 dX4_stroke_65 rfl (MO_k hM.1) gfX4_13_5 rfl (MO_f1403 hM.1) ?_
      refine go_iload 70 dX4_stroke_68 rfl rfl ?_
      refine go_iaload 71 dX4_stroke_70 rfl (MO_k2 hM.1) vc.1 ?_
      replace vc := vc.2
      rw [hM.a2 vc.1]
      replace vc := vc.2
      refine go_aload_n 72 0 dX4_stroke_71 rfl rfl rfl ?_
      refine go_getRe 75 dX4_stroke_72 rfl (MO_k hM.1) gfX4_13_5 rfl (MO_f1403 hM.1) ?_
      refine go_iload 77 dX4_stroke_75 rfl rfl ?_
      refine go_iaload 78 dX4_stroke_77 rfl (MO_k2 hM.1) vc.1 ?_
      replace vc := vc.2
      rw [hM.a2 vc.1]
      replace vc := vc.2
      refine go_iconst (v := nI 1) 79 dX4_stroke_78 rfl (by decide) ?_
      refine go_isub 80 dX4_stroke_79 rfl ?_
      refine go_iconst (v := nI 0) 81 dX4_stroke_80 rfl (by decide) ?_
      obtain ⟨P20, hR, vc⟩ := vc
      refine go_callVV (M' := mX4_kept) (as := [vI (nI 5), vI (((nI 6) * x1) + x2), vI (hv t (nt (((nI 6) * x1) + x2))), vI ((hv t (nt (((nI 6) * x1) + x2))) - (nI 1)), vI (nI 0)]) 84 dX4_stroke_81 rfl q1790 okX4_kept (MO_k hM.1) ck_4 rfl rfl rfl rfl rfl hR ?_
      intro h19 p1
      replace vc := vc h19 p1
      obtain ⟨t22, g23, hM, vc⟩ := vc
      refine go_aload_n 85 0 dX4_stroke_84 rfl rfl rfl ?_
      refine go_getRe 88 dX4_stroke_85 rfl (MO_k hM.1) gfX4_13_5 rfl (MO_f1403 hM.1) ?_
      refine go_iload 90 dX4_stroke_88 rfl rfl ?_
      refine go_dup2 91 dX4_stroke_90 rfl rfl rfl ?_
      refine go_iaload 92 dX4_stroke_91 rfl (MO_k2 hM.1) vc.1 ?_
      replace vc := vc.2
      rw [hM.a2 vc.1]
      replace vc := vc.2
      refine go_iconst (v := nI 1) 93 dX4_stroke_92 rfl (by decide) ?_
      refine go_isub 94 dX4_stroke_93 rfl ?_
      refine go_iastore 95 dX4_stroke_94 rfl (MO_k2 hM.1) vc.1 ?_
      replace vc := vc.2
      refine AWP.nm fun h24 eh24 => ?_
      replace vc := vc h24 eh24
      have hM : MO h24 o := by rw [eh24]; exact hM.1
      refine go_aload_n 96 0 dX4_stroke_95 rfl rfl rfl ?_
      refine go_getRe 99 dX4_stroke_96 rfl (MO_k hM) gfX4_13_5 rfl (MO_f1403 hM) ?_
      refine go_iload 101 dX4_stroke_99 rfl rfl ?_
      refine go_iaload 102 dX4_stroke_101 rfl (MO_k2 hM) vc.1 ?_
      replace vc := vc.2
      exact go_ireturn dX4_stroke_102 rfl vc
    · replace vc := vc.2 e17
      refine go_bipush (v := (-4)) 59 dX4_stroke_57 rfl (by decide) ?_
      exact go_ireturn dX4_stroke_59 rfl vc

theorem bX4_undo_0 {h : Hp} {b : Nat × Nat} {Q : Rs → Hp → Prop} {o : Nat}  {t : St} {g : Nat} (hM : MS h o t g) (vc : ((¬ (nI (dn t)) = 0 → (∀ h2, h2 = sFI h 424 o ((nI (dn t)) - (nI 1)) → (∀ h3, h3 = sFI h2 425 o ((hFI h2 425 o) + (nI 1)) → (vp_in (hFI h3 424 o) 40 ∧ (vp_in (hFI h3 424 o) 40 ∧ (vp_in (hFI h3 424 o) 40 ∧ (vp_in (hFI h3 424 o) 40 ∧ (∃ (P6 : Hp → Prop), Ret mX4_set 3 [vR (some o), vI (hAI h3 (o + 18) (nt (hFI h3 424 o))), vI (hAI h3 (o + 19) (nt (hFI h3 424 o))), vI (hAI h3 (o + 20) (nt (hFI h3 424 o))), vI (hAI h3 (o + 22) (nt (hFI h3 424 o)))] h3 0 0 (RV P6) ∧ ∀ h5, P6 h5 → (MO h5 o ∧ Q (rI (hFI h5 424 o)) h5))))))))) ∧ ((nI (dn t)) = 0 → Q (rI (-4)) h))) : AWP mX4_undo 4 0 [vR (some o)] [] h b Q := by
  refine go_aload_n 1 0 dX4_undo_0 rfl rfl rfl ?_
  refine go_getI 4 dX4_undo_1 rfl (MO_k hM.1) gfX4_286_5 rfl ?_
  rw [hM.f424]
  refine go_if_ne 7 10 dX4_undo_4 rfl (by decide) (fun e1 => ?_) (fun e1 => ?_)
  · replace vc := vc.1 e1
    refine go_aload_n 11 0 dX4_undo_10 rfl rfl rfl ?_
    refine go_dup 12 dX4_undo_11 rfl rfl ?_
    refine go_getI 15 dX4_undo_12 rfl (MO_k hM.1) gfX4_286_5 rfl ?_
    rw [hM.f424]
    refine go_iconst (v := nI 1) 16 dX4_undo_15 rfl (by decide) ?_
    refine go_isub 17 dX4_undo_16 rfl ?_
    refine go_putI 20 dX4_undo_17 rfl (MO_k hM.1) (gpX4_286_5 _) rfl ?_
    refine AWP.nm fun h2 eh2 => ?_
    replace vc := vc h2 eh2
    have hM : MO h2 o := by rw [eh2]; exact hM.1
    refine go_aload_n 21 0 dX4_undo_20 rfl rfl rfl ?_
    refine go_dup 22 dX4_undo_21 rfl rfl ?_
    refine go_getI 25 dX4_undo_22 rfl (MO_k hM) gfX4_283_5 rfl ?_
    refine go_iconst (v := nI 1) 26 dX4_undo_25 rfl (by decide) ?_
    refine go_iadd 27 dX4_undo_26 rfl ?_
    refine go_putI 30 dX4_undo_27 rfl (MO_k hM) (gpX4_283_5 _) rfl ?_
    refine AWP.nm fun h3 eh3 => ?_
    replace vc := vc h3 eh3
    have hM : MO h3 o := by rw [eh3]; exact hM
    refine go_aload_n 31 0 dX4_undo_30 rfl rfl rfl ?_
    refine go_aload_n 32 0 dX4_undo_31 rfl rfl rfl ?_
    refine go_getRe 35 dX4_undo_32 rfl (MO_k hM) gfX4_63_5 rfl (MO_f1426 hM) ?_
    refine go_aload_n 36 0 dX4_undo_35 rfl rfl rfl ?_
    refine go_getI 39 dX4_undo_36 rfl (MO_k hM) gfX4_286_5 rfl ?_
    refine go_iaload 40 dX4_undo_39 rfl (MO_k18 hM) vc.1 ?_
    replace vc := vc.2
    refine go_aload_n 41 0 dX4_undo_40 rfl rfl rfl ?_
    refine go_getRe 44 dX4_undo_41 rfl (MO_k hM) gfX4_66_5 rfl (MO_f1427 hM) ?_
    refine go_aload_n 45 0 dX4_undo_44 rfl rfl rfl ?_
    refine go_getI 48 dX4_undo_45 rfl (MO_k hM) gfX4_286_5 rfl ?_
    refine go_iaload 49 dX4_undo_48 rfl (MO_k19 hM) vc.1 ?_
    replace vc := vc.2
    refine go_aload_n 50 0 dX4_undo_49 rfl rfl rfl ?_
    refine go_getRe 53 dX4_undo_50 rfl (MO_k hM) gfX4_69_5 rfl (MO_f1428 hM) ?_
    refine go_aload_n 54 0 dX4_undo_53 rfl rfl rfl ?_
    refine go_getI 57 dX4_undo_54 rfl (MO_k hM) gfX4_286_5 rfl ?_
    refine go_iaload 58 dX4_undo_57 rfl (MO_k20 hM) vc.1 ?_
    replace vc := vc.2
    refine go_aload_n 59 0 dX4_undo_58 rfl rfl rfl ?_
    refine go_getRe 62 dX4_undo_59 rfl (MO_k hM) gfX4_75_5 rfl (MO_f1430 hM) ?_
    refine go_aload_n 63 0 dX4_undo_62 rfl rfl rfl ?_
    refine go_getI 66 dX4_undo_63 rfl (MO_k hM) gfX4_286_5 rfl ?_
    refine go_iaload 67 dX4_undo_66 rfl (MO_k22 hM) vc.1 ?_
    replace vc := vc.2
    obtain ⟨P6, hR, vc⟩ := vc
    refine go_callVV (M' := mX4_set) (as := [vI (hAI h3 (o + 18) (nt (hFI h3 424 o))), vI (hAI h3 (o + 19) (nt (hFI h3 424 o))), vI (hAI h3 (o + 20) (nt (hFI h3 424 o))), vI (hAI h3 (o + 22) (nt (hFI h3 424 o)))]) 70 dX4_undo_67 rfl q1794 okX4_set (MO_k hM) ck_4 rfl rfl rfl rfl rfl hR ?_
    intro h5 p1
    replace vc := vc h5 p1
    have hM := vc.1
    replace vc := vc.2
    refine go_aload_n 71 0 dX4_undo_70 rfl rfl rfl ?_
    refine go_getI 74 dX4_undo_71 rfl (MO_k hM) gfX4_286_5 rfl ?_
    exact go_ireturn dX4_undo_74 rfl vc
  · replace vc := vc.2 e1
    refine go_bipush (v := (-4)) 9 dX4_undo_7 rfl (by decide) ?_
    exact go_ireturn dX4_undo_9 rfl vc

theorem bX4_redo_0 {h : Hp} {b : Nat × Nat} {Q : Rs → Hp → Prop} {o : Nat}  {t : St} {g : Nat} (hM : MS h o t g) (vc : ((¬ (nI (ud t)) = 0 → (vp_in (nI (dn t)) 40 ∧ (nt (nI (dn t))) < dn t + ud t ∧ (vp_in (nI (dn t)) 40 ∧ (nt (nI (dn t))) < dn t + ud t ∧ (vp_in (nI (dn t)) 40 ∧ (nt (nI (dn t))) < dn t + ud t ∧ (vp_in (nI (dn t)) 40 ∧ (nt (nI (dn t))) < dn t + ud t ∧ (vp_in (nI (dn t)) 40 ∧ (nt (nI (dn t))) < dn t + ud t ∧ (∃ (P4 : Hp → Prop), Ret mX4_set 3 [vR (some o), vI (nI (ao t (nt (nI (dn t))))), vI (nI (aa t (nt (nI (dn t))))), vI (bh t (nt (nI (dn t)))), vI (mnI (cb t (nt (nI (dn t)))) (bh t (nt (nI (dn t)))))] h 0 0 (RV P4) ∧ ∀ h3, P4 h3 → (∃ t6 g7, MS h3 o t6 g7 ∧ (∀ h8, h8 = sFI h3 424 o ((nI (dn t6)) + (nI 1)) → (∀ h9, h9 = sFI h8 425 o ((hFI h8 425 o) - (nI 1)) → Q (rI (hFI h9 425 o)) h9)))))))))) ∧ ((nI (ud t)) = 0 → Q (rI (-4)) h))) : AWP mX4_redo 4 0 [vR (some o)] [] h b Q := by
  refine go_aload_n 1 0 dX4_redo_0 rfl rfl rfl ?_
  refine go_getI 4 dX4_redo_1 rfl (MO_k hM.1) gfX4_283_5 rfl ?_
  rw [hM.f425]
  refine go_if_ne 7 10 dX4_redo_4 rfl (by decide) (fun e1 => ?_) (fun e1 => ?_)
  · replace vc := vc.1 e1
    refine go_aload_n 11 0 dX4_redo_10 rfl rfl rfl ?_
    refine go_aload_n 12 0 dX4_redo_11 rfl rfl rfl ?_
    refine go_getRe 15 dX4_redo_12 rfl (MO_k hM.1) gfX4_63_5 rfl (MO_f1426 hM.1) ?_
    refine go_aload_n 16 0 dX4_redo_15 rfl rfl rfl ?_
    refine go_getI 19 dX4_redo_16 rfl (MO_k hM.1) gfX4_286_5 rfl ?_
    rw [hM.f424]
    refine go_iaload 20 dX4_redo_19 rfl (MO_k18 hM.1) vc.1 ?_
    replace vc := vc.2
    rw [hM.a18 vc.1]
    replace vc := vc.2
    refine go_aload_n 21 0 dX4_redo_20 rfl rfl rfl ?_
    refine go_getRe 24 dX4_redo_21 rfl (MO_k hM.1) gfX4_66_5 rfl (MO_f1427 hM.1) ?_
    refine go_aload_n 25 0 dX4_redo_24 rfl rfl rfl ?_
    refine go_getI 28 dX4_redo_25 rfl (MO_k hM.1) gfX4_286_5 rfl ?_
    rw [hM.f424]
    refine go_iaload 29 dX4_redo_28 rfl (MO_k19 hM.1) vc.1 ?_
    replace vc := vc.2
    rw [hM.a19 vc.1]
    replace vc := vc.2
    refine go_aload_n 30 0 dX4_redo_29 rfl rfl rfl ?_
    refine go_getRe 33 dX4_redo_30 rfl (MO_k hM.1) gfX4_72_5 rfl (MO_f1429 hM.1) ?_
    refine go_aload_n 34 0 dX4_redo_33 rfl rfl rfl ?_
    refine go_getI 37 dX4_redo_34 rfl (MO_k hM.1) gfX4_286_5 rfl ?_
    rw [hM.f424]
    refine go_iaload 38 dX4_redo_37 rfl (MO_k21 hM.1) vc.1 ?_
    replace vc := vc.2
    rw [hM.a21 vc.1]
    replace vc := vc.2
    refine go_aload_n 39 0 dX4_redo_38 rfl rfl rfl ?_
    refine go_getRe 42 dX4_redo_39 rfl (MO_k hM.1) gfX4_75_5 rfl (MO_f1430 hM.1) ?_
    refine go_aload_n 43 0 dX4_redo_42 rfl rfl rfl ?_
    refine go_getI 46 dX4_redo_43 rfl (MO_k hM.1) gfX4_286_5 rfl ?_
    rw [hM.f424]
    refine go_iaload 47 dX4_redo_46 rfl (MO_k22 hM.1) vc.1 ?_
    replace vc := vc.2
    rw [hM.a22 vc.1]
    replace vc := vc.2
    refine go_aload_n 48 0 dX4_redo_47 rfl rfl rfl ?_
    refine go_getRe 51 dX4_redo_48 rfl (MO_k hM.1) gfX4_72_5 rfl (MO_f1429 hM.1) ?_
    refine go_aload_n 52 0 dX4_redo_51 rfl rfl rfl ?_
    refine go_getI 55 dX4_redo_52 rfl (MO_k hM.1) gfX4_286_5 rfl ?_
    rw [hM.f424]
    refine go_iaload 56 dX4_redo_55 rfl (MO_k21 hM.1) vc.1 ?_
    replace vc := vc.2
    rw [hM.a21 vc.1]
    replace vc := vc.2
    refine go_callSI (M' := mX4_lesser) (as := [vI (cb t (nt (nI (dn t)))), vI (bh t (nt (nI (dn t))))]) 59 dX4_redo_56 rfl q1810 okX4_lesser rfl rfl rfl rfl rfl (ctX4_lesser) ?_
    rintro _ _ ⟨rfl, rfl⟩
    obtain ⟨P4, hR, vc⟩ := vc
    refine go_callVV (M' := mX4_set) (as := [vI (nI (ao t (nt (nI (dn t))))), vI (nI (aa t (nt (nI (dn t))))), vI (bh t (nt (nI (dn t)))), vI (mnI (cb t (nt (nI (dn t)))) (bh t (nt (nI (dn t)))))]) 62 dX4_redo_59 rfl q1794 okX4_set (MO_k hM.1) ck_4 rfl rfl rfl rfl rfl hR ?_
    intro h3 p1
    replace vc := vc h3 p1
    obtain ⟨t6, g7, hM, vc⟩ := vc
    refine go_aload_n 63 0 dX4_redo_62 rfl rfl rfl ?_
    refine go_dup 64 dX4_redo_63 rfl rfl ?_
    refine go_getI 67 dX4_redo_64 rfl (MO_k hM.1) gfX4_286_5 rfl ?_
    rw [hM.f424]
    refine go_iconst (v := nI 1) 68 dX4_redo_67 rfl (by decide) ?_
    refine go_iadd 69 dX4_redo_68 rfl ?_
    refine go_putI 72 dX4_redo_69 rfl (MO_k hM.1) (gpX4_286_5 _) rfl ?_
    refine AWP.nm fun h8 eh8 => ?_
    replace vc := vc h8 eh8
    have hM : MO h8 o := by rw [eh8]; exact hM.1
    refine go_aload_n 73 0 dX4_redo_72 rfl rfl rfl ?_
    refine go_dup 74 dX4_redo_73 rfl rfl ?_
    refine go_getI 77 dX4_redo_74 rfl (MO_k hM) gfX4_283_5 rfl ?_
    refine go_iconst (v := nI 1) 78 dX4_redo_77 rfl (by decide) ?_
    refine go_isub 79 dX4_redo_78 rfl ?_
    refine go_putI 82 dX4_redo_79 rfl (MO_k hM) (gpX4_283_5 _) rfl ?_
    refine AWP.nm fun h9 eh9 => ?_
    replace vc := vc h9 eh9
    have hM : MO h9 o := by rw [eh9]; exact hM
    refine go_aload_n 83 0 dX4_redo_82 rfl rfl rfl ?_
    refine go_getI 86 dX4_redo_83 rfl (MO_k hM) gfX4_283_5 rfl ?_
    exact go_ireturn dX4_redo_86 rfl vc
  · replace vc := vc.2 e1
    refine go_bipush (v := (-4)) 9 dX4_redo_7 rfl (by decide) ?_
    exact go_ireturn dX4_redo_9 rfl vc

theorem bX4_kept_0 {h : Hp} {b : Nat × Nat} {Q : Rs → Hp → Prop} {o : Nat} {x1 : Int32} {x2 : Int32} {x3 : Int32} {x4 : Int32} {x5 : Int32} {t : St} {g : Nat} (hM : MS h o t g) (vc : (∀ h1, h1 = sFI h 425 o (nI 0) → ((¬ (hFI h1 424 o) = (nI 40) → AWP mX4_kept 0 120 [vR (some o), vI x1, vI x2, vI x3, vI x4, vI x5, vU] [] h1 b Q) ∧ ((hFI h1 424 o) = (nI 40) → AWP mX4_kept 0 17 [vR (some o), vI x1, vI x2, vI x3, vI x4, vI x5, vI (nI 1)] [] h1 b Q)))) : AWP mX4_kept 0 0 [vR (some o), vI x1, vI x2, vI x3, vI x4, vI x5, vU] [] h b Q := by
  refine go_aload_n 1 0 dX4_kept_0 rfl rfl rfl ?_
  refine go_iconst (v := nI 0) 2 dX4_kept_1 rfl (by decide) ?_
  refine go_putI 5 dX4_kept_2 rfl (MO_k hM.1) (gpX4_283_5 _) rfl ?_
  refine AWP.nm fun h1 eh1 => ?_
  replace vc := vc h1 eh1
  have hM : MO h1 o := by rw [eh1]; exact hM.1
  refine go_aload_n 6 0 dX4_kept_5 rfl rfl rfl ?_
  refine go_getI 9 dX4_kept_6 rfl (MO_k hM) gfX4_286_5 rfl ?_
  refine go_bipush (v := nI 40) 11 dX4_kept_9 rfl (by decide) ?_
  refine go_icmp_ne 14 120 dX4_kept_11 rfl (by decide) (fun e2 => ?_) (fun e2 => ?_)
  · replace vc := vc.1 e2
    exact vc
  · replace vc := vc.2 e2
    refine go_iconst (v := nI 1) 15 dX4_kept_14 rfl (by decide) ?_
    refine go_istore 17 [vR (some o), vI x1, vI x2, vI x3, vI x4, vI x5, vI (nI 1)] dX4_kept_15 rfl rfl rfl ?_
    exact vc

theorem bX4_kept_17 {h : Hp} {b : Nat × Nat} {Q : Rs → Hp → Prop} {o : Nat} {x1 : Int32} {x2 : Int32} {x3 : Int32} {x4 : Int32} {x5 : Int32} {x6 : Int32} {t : St} {g : Nat} (hM : MS h o t g) (vc : (((nI 40) ≤ x6 → (∀ h2, h2 = sFI h 424 o ((nI (dn t)) - (nI 1)) → AWP mX4_kept 0 120 [vR (some o), vI x1, vI x2, vI x3, vI x4, vI x5, vI x6] [] h2 b Q)) ∧ (¬ (nI 40) ≤ x6 → (vp_in x6 40 ∧ (nt x6) < dn t + ud t ∧ (vp_in (x6 - (nI 1)) 40 ∧ (∀ h3, h3 = w1 h (o + 18) (nt (x6 - (nI 1))) (nI (ao t (nt x6))) → (vp_in x6 40 ∧ (vp_in (x6 - (nI 1)) 40 ∧ (∀ h4, h4 = w1 h3 (o + 19) (nt (x6 - (nI 1))) (hAI h3 (o + 19) (nt x6)) → (vp_in x6 40 ∧ (vp_in (x6 - (nI 1)) 40 ∧ (∀ h5, h5 = w1 h4 (o + 20) (nt (x6 - (nI 1))) (hAI h4 (o + 20) (nt x6)) → (vp_in x6 40 ∧ (vp_in (x6 - (nI 1)) 40 ∧ (∀ h6, h6 = w1 h5 (o + 21) (nt (x6 - (nI 1))) (hAI h5 (o + 21) (nt x6)) → (vp_in x6 40 ∧ (vp_in (x6 - (nI 1)) 40 ∧ (∀ h7, h7 = w1 h6 (o + 22) (nt (x6 - (nI 1))) (hAI h6 (o + 22) (nt x6)) → AWP mX4_kept 0 17 [vR (some o), vI x1, vI x2, vI x3, vI x4, vI x5, vI (x6 + nI 1)] [] h7 b Q)))))))))))))))))) : AWP mX4_kept 0 17 [vR (some o), vI x1, vI x2, vI x3, vI x4, vI x5, vI x6] [] h b Q := by
  refine go_iload 19 dX4_kept_17 rfl rfl ?_
  refine go_bipush (v := nI 40) 21 dX4_kept_19 rfl (by decide) ?_
  refine go_icmp_ge 24 110 dX4_kept_21 rfl (by decide) (fun e1 => ?_) (fun e1 => ?_)
  · replace vc := vc.1 e1
    refine go_aload_n 111 0 dX4_kept_110 rfl rfl rfl ?_
    refine go_dup 112 dX4_kept_111 rfl rfl ?_
    refine go_getI 115 dX4_kept_112 rfl (MO_k hM.1) gfX4_286_5 rfl ?_
    rw [hM.f424]
    refine go_iconst (v := nI 1) 116 dX4_kept_115 rfl (by decide) ?_
    refine go_isub 117 dX4_kept_116 rfl ?_
    refine go_putI 120 dX4_kept_117 rfl (MO_k hM.1) (gpX4_286_5 _) rfl ?_
    refine AWP.nm fun h2 eh2 => ?_
    replace vc := vc h2 eh2
    have hM : MO h2 o := by rw [eh2]; exact hM.1
    exact vc
  · replace vc := vc.2 e1
    refine go_aload_n 25 0 dX4_kept_24 rfl rfl rfl ?_
    refine go_getRe 28 dX4_kept_25 rfl (MO_k hM.1) gfX4_63_5 rfl (MO_f1426 hM.1) ?_
    refine go_iload 30 dX4_kept_28 rfl rfl ?_
    refine go_iconst (v := nI 1) 31 dX4_kept_30 rfl (by decide) ?_
    refine go_isub 32 dX4_kept_31 rfl ?_
    refine go_aload_n 33 0 dX4_kept_32 rfl rfl rfl ?_
    refine go_getRe 36 dX4_kept_33 rfl (MO_k hM.1) gfX4_63_5 rfl (MO_f1426 hM.1) ?_
    refine go_iload 38 dX4_kept_36 rfl rfl ?_
    refine go_iaload 39 dX4_kept_38 rfl (MO_k18 hM.1) vc.1 ?_
    replace vc := vc.2
    rw [hM.a18 vc.1]
    replace vc := vc.2
    refine go_iastore 40 dX4_kept_39 rfl (MO_k18 hM.1) vc.1 ?_
    replace vc := vc.2
    refine AWP.nm fun h3 eh3 => ?_
    replace vc := vc h3 eh3
    have hM : MO h3 o := by rw [eh3]; exact hM.1
    refine go_aload_n 41 0 dX4_kept_40 rfl rfl rfl ?_
    refine go_getRe 44 dX4_kept_41 rfl (MO_k hM) gfX4_66_5 rfl (MO_f1427 hM) ?_
    refine go_iload 46 dX4_kept_44 rfl rfl ?_
    refine go_iconst (v := nI 1) 47 dX4_kept_46 rfl (by decide) ?_
    refine go_isub 48 dX4_kept_47 rfl ?_
    refine go_aload_n 49 0 dX4_kept_48 rfl rfl rfl ?_
    refine go_getRe 52 dX4_kept_49 rfl (MO_k hM) gfX4_66_5 rfl (MO_f1427 hM) ?_
    refine go_iload 54 dX4_kept_52 rfl rfl ?_
    refine go_iaload 55 dX4_kept_54 rfl (MO_k19 hM) vc.1 ?_
    replace vc := vc.2
    refine go_iastore 56 dX4_kept_55 rfl (MO_k19 hM) vc.1 ?_
    replace vc := vc.2
    refine AWP.nm fun h4 eh4 => ?_
    replace vc := vc h4 eh4
    have hM : MO h4 o := by rw [eh4]; exact hM
    refine go_aload_n 57 0 dX4_kept_56 rfl rfl rfl ?_
    refine go_getRe 60 dX4_kept_57 rfl (MO_k hM) gfX4_69_5 rfl (MO_f1428 hM) ?_
    refine go_iload 62 dX4_kept_60 rfl rfl ?_
    refine go_iconst (v := nI 1) 63 dX4_kept_62 rfl (by decide) ?_
    refine go_isub 64 dX4_kept_63 rfl ?_
    refine go_aload_n 65 0 dX4_kept_64 rfl rfl rfl ?_
    refine go_getRe 68 dX4_kept_65 rfl (MO_k hM) gfX4_69_5 rfl (MO_f1428 hM) ?_
    refine go_iload 70 dX4_kept_68 rfl rfl ?_
    refine go_iaload 71 dX4_kept_70 rfl (MO_k20 hM) vc.1 ?_
    replace vc := vc.2
    refine go_iastore 72 dX4_kept_71 rfl (MO_k20 hM) vc.1 ?_
    replace vc := vc.2
    refine AWP.nm fun h5 eh5 => ?_
    replace vc := vc h5 eh5
    have hM : MO h5 o := by rw [eh5]; exact hM
    refine go_aload_n 73 0 dX4_kept_72 rfl rfl rfl ?_
    refine go_getRe 76 dX4_kept_73 rfl (MO_k hM) gfX4_72_5 rfl (MO_f1429 hM) ?_
    refine go_iload 78 dX4_kept_76 rfl rfl ?_
    refine go_iconst (v := nI 1) 79 dX4_kept_78 rfl (by decide) ?_
    refine go_isub 80 dX4_kept_79 rfl ?_
    refine go_aload_n 81 0 dX4_kept_80 rfl rfl rfl ?_
    refine go_getRe 84 dX4_kept_81 rfl (MO_k hM) gfX4_72_5 rfl (MO_f1429 hM) ?_
    refine go_iload 86 dX4_kept_84 rfl rfl ?_
    refine go_iaload 87 dX4_kept_86 rfl (MO_k21 hM) vc.1 ?_
    replace vc := vc.2
    refine go_iastore 88 dX4_kept_87 rfl (MO_k21 hM) vc.1 ?_
    replace vc := vc.2
    refine AWP.nm fun h6 eh6 => ?_
    replace vc := vc h6 eh6
    have hM : MO h6 o := by rw [eh6]; exact hM
    refine go_aload_n 89 0 dX4_kept_88 rfl rfl rfl ?_
    refine go_getRe 92 dX4_kept_89 rfl (MO_k hM) gfX4_75_5 rfl (MO_f1430 hM) ?_
    refine go_iload 94 dX4_kept_92 rfl rfl ?_
    refine go_iconst (v := nI 1) 95 dX4_kept_94 rfl (by decide) ?_
    refine go_isub 96 dX4_kept_95 rfl ?_
    refine go_aload_n 97 0 dX4_kept_96 rfl rfl rfl ?_
    refine go_getRe 100 dX4_kept_97 rfl (MO_k hM) gfX4_75_5 rfl (MO_f1430 hM) ?_
    refine go_iload 102 dX4_kept_100 rfl rfl ?_
    refine go_iaload 103 dX4_kept_102 rfl (MO_k22 hM) vc.1 ?_
    replace vc := vc.2
    refine go_iastore 104 dX4_kept_103 rfl (MO_k22 hM) vc.1 ?_
    replace vc := vc.2
    refine AWP.nm fun h7 eh7 => ?_
    replace vc := vc h7 eh7
    have hM : MO h7 o := by rw [eh7]; exact hM
    refine go_iinc 107 (x6 + nI 1) [vR (some o), vI x1, vI x2, vI x3, vI x4, vI x5, vI (x6 + nI 1)] dX4_kept_104 rfl rfl (by rfl) rfl rfl ?_
    refine go_goto 17 dX4_kept_107 (by decide) ?_
    exact vc

theorem bX4_kept_120 {h : Hp} {b : Nat × Nat} {Q : Rs → Hp → Prop} {o : Nat} {x1 : Int32} {x2 : Int32} {x3 : Int32} {x4 : Int32} {x5 : Int32} {y6 : AV} {t : St} {g : Nat} (hM : MS h o t g) (vc : (vp_in (nI (dn t)) 40 ∧ (∀ h1, h1 = w1 h (o + 18) (nt (nI (dn t))) x1 → (vp_in (hFI h1 424 o) 40 ∧ (∀ h2, h2 = w1 h1 (o + 19) (nt (hFI h1 424 o)) x2 → (vp_in (hFI h2 424 o) 40 ∧ (∀ h3, h3 = w1 h2 (o + 20) (nt (hFI h2 424 o)) x3 → (vp_in (hFI h3 424 o) 40 ∧ (∀ h4, h4 = w1 h3 (o + 21) (nt (hFI h3 424 o)) x4 → (vp_in (hFI h4 424 o) 40 ∧ (∀ h5, h5 = w1 h4 (o + 22) (nt (hFI h4 424 o)) x5 → (∀ h6, h6 = sFI h5 424 o ((hFI h5 424 o) + (nI 1)) → Q rV h6)))))))))))) : AWP mX4_kept 0 120 [vR (some o), vI x1, vI x2, vI x3, vI x4, vI x5, y6] [] h b Q := by
  refine go_aload_n 121 0 dX4_kept_120 rfl rfl rfl ?_
  refine go_getRe 124 dX4_kept_121 rfl (MO_k hM.1) gfX4_63_5 rfl (MO_f1426 hM.1) ?_
  refine go_aload_n 125 0 dX4_kept_124 rfl rfl rfl ?_
  refine go_getI 128 dX4_kept_125 rfl (MO_k hM.1) gfX4_286_5 rfl ?_
  rw [hM.f424]
  refine go_iload_n 129 1 dX4_kept_128 rfl rfl rfl ?_
  refine go_iastore 130 dX4_kept_129 rfl (MO_k18 hM.1) vc.1 ?_
  replace vc := vc.2
  refine AWP.nm fun h1 eh1 => ?_
  replace vc := vc h1 eh1
  have hM : MO h1 o := by rw [eh1]; exact hM.1
  refine go_aload_n 131 0 dX4_kept_130 rfl rfl rfl ?_
  refine go_getRe 134 dX4_kept_131 rfl (MO_k hM) gfX4_66_5 rfl (MO_f1427 hM) ?_
  refine go_aload_n 135 0 dX4_kept_134 rfl rfl rfl ?_
  refine go_getI 138 dX4_kept_135 rfl (MO_k hM) gfX4_286_5 rfl ?_
  refine go_iload_n 139 2 dX4_kept_138 rfl rfl rfl ?_
  refine go_iastore 140 dX4_kept_139 rfl (MO_k19 hM) vc.1 ?_
  replace vc := vc.2
  refine AWP.nm fun h2 eh2 => ?_
  replace vc := vc h2 eh2
  have hM : MO h2 o := by rw [eh2]; exact hM
  refine go_aload_n 141 0 dX4_kept_140 rfl rfl rfl ?_
  refine go_getRe 144 dX4_kept_141 rfl (MO_k hM) gfX4_69_5 rfl (MO_f1428 hM) ?_
  refine go_aload_n 145 0 dX4_kept_144 rfl rfl rfl ?_
  refine go_getI 148 dX4_kept_145 rfl (MO_k hM) gfX4_286_5 rfl ?_
  refine go_iload_n 149 3 dX4_kept_148 rfl rfl rfl ?_
  refine go_iastore 150 dX4_kept_149 rfl (MO_k20 hM) vc.1 ?_
  replace vc := vc.2
  refine AWP.nm fun h3 eh3 => ?_
  replace vc := vc h3 eh3
  have hM : MO h3 o := by rw [eh3]; exact hM
  refine go_aload_n 151 0 dX4_kept_150 rfl rfl rfl ?_
  refine go_getRe 154 dX4_kept_151 rfl (MO_k hM) gfX4_72_5 rfl (MO_f1429 hM) ?_
  refine go_aload_n 155 0 dX4_kept_154 rfl rfl rfl ?_
  refine go_getI 158 dX4_kept_155 rfl (MO_k hM) gfX4_286_5 rfl ?_
  refine go_iload 160 dX4_kept_158 rfl rfl ?_
  refine go_iastore 161 dX4_kept_160 rfl (MO_k21 hM) vc.1 ?_
  replace vc := vc.2
  refine AWP.nm fun h4 eh4 => ?_
  replace vc := vc h4 eh4
  have hM : MO h4 o := by rw [eh4]; exact hM
  refine go_aload_n 162 0 dX4_kept_161 rfl rfl rfl ?_
  refine go_getRe 165 dX4_kept_162 rfl (MO_k hM) gfX4_75_5 rfl (MO_f1430 hM) ?_
  refine go_aload_n 166 0 dX4_kept_165 rfl rfl rfl ?_
  refine go_getI 169 dX4_kept_166 rfl (MO_k hM) gfX4_286_5 rfl ?_
  refine go_iload 171 dX4_kept_169 rfl rfl ?_
  refine go_iastore 172 dX4_kept_171 rfl (MO_k22 hM) vc.1 ?_
  replace vc := vc.2
  refine AWP.nm fun h5 eh5 => ?_
  replace vc := vc h5 eh5
  have hM : MO h5 o := by rw [eh5]; exact hM
  refine go_aload_n 173 0 dX4_kept_172 rfl rfl rfl ?_
  refine go_dup 174 dX4_kept_173 rfl rfl ?_
  refine go_getI 177 dX4_kept_174 rfl (MO_k hM) gfX4_286_5 rfl ?_
  refine go_iconst (v := nI 1) 178 dX4_kept_177 rfl (by decide) ?_
  refine go_iadd 179 dX4_kept_178 rfl ?_
  refine go_putI 182 dX4_kept_179 rfl (MO_k hM) (gpX4_286_5 _) rfl ?_
  refine AWP.nm fun h6 eh6 => ?_
  replace vc := vc h6 eh6
  have hM : MO h6 o := by rw [eh6]; exact hM
  exact go_return dX4_kept_182 rfl vc

theorem bX4_set_0 {h : Hp} {b : Nat × Nat} {Q : Rs → Hp → Prop} {o : Nat} {x1 : Int32} {x2 : Int32} {x3 : Int32} {x4 : Int32} {t : St} {g : Nat} (hM : MS h o t g) (vc : ((x1 = nI 0 → (vp_in x2 78 ∧ (∀ h2, h2 = w1 h (o + 3) (nt x2) x3 → Q rV h2))) ∧ (x1 = nI 1 → (vp_in x2 78 ∧ (∀ h4, h4 = w1 h (o + 4) (nt x2) x3 → Q rV h4))) ∧ (x1 = nI 2 → ((¬ x3 = (nI 1) → (vp_in x2 78 ∧ (∀ h7, h7 = w1 h (o + 5) (nt x2) (vp_nar .boolean (nI 0)) → Q rV h7))) ∧ (x3 = (nI 1) → (vp_in x2 78 ∧ (∀ h8, h8 = w1 h (o + 5) (nt x2) (vp_nar .boolean (nI 1)) → Q rV h8))))) ∧ (x1 = nI 3 → (vp_in x2 468 ∧ (nt x2) < 36 * ns t ∧ (∃ (P12 : Hp → Prop), Ret mX4_setStiff 2 [vR (some o), vI x2, vI (sf t (nt x2)), vI x3] h 0 0 (RV P12) ∧ ∀ h11, P12 h11 → (∃ t14 g15, MS h11 o t14 g15 ∧ Q rV h11)))) ∧ (x1 = nI 4 → (∃ (P19 : Hp → Prop), Ret mX4_setStiff 2 [vR (some o), vI x2, vI x3, vI x4] h 0 0 (RV P19) ∧ ∀ h18, P19 h18 → (∃ t21 g22, MS h18 o t21 g22 ∧ Q rV h18))) ∧ ((¬ x1 = nI 0 ∧ ¬ x1 = nI 1 ∧ ¬ x1 = nI 2 ∧ ¬ x1 = nI 3 ∧ ¬ x1 = nI 4) → (vp_in x2 78 ∧ (∀ h23, h23 = w1 h (o + 2) (nt x2) x3 → Q rV h23))))) : AWP mX4_set 3 0 [vR (some o), vI x1, vI x2, vI x3, vI x4] [] h b Q := by
  refine go_iload_n 1 1 dX4_set_0 rfl rfl rfl ?_
  by_cases e1 : x1 = nI 0
  · replace vc := vc.1 e1
    refine go_tswIn 36 dX4_set_1 (by rw [e1]; decide) (by rw [e1]; decide) (by rw [e1]; rfl) (by decide) ?_
    refine go_aload_n 37 0 dX4_set_36 rfl rfl rfl ?_
    refine go_getRe 40 dX4_set_37 rfl (MO_k hM.1) gfX4_16_5 rfl (MO_f1404 hM.1) ?_
    refine go_iload_n 41 2 dX4_set_40 rfl rfl rfl ?_
    refine go_iload_n 42 3 dX4_set_41 rfl rfl rfl ?_
    refine go_iastore 43 dX4_set_42 rfl (MO_k3 hM.1) vc.1 ?_
    replace vc := vc.2
    refine AWP.nm fun h2 eh2 => ?_
    replace vc := vc h2 eh2
    have hM : MO h2 o := by rw [eh2]; exact hM.1
    refine go_goto 108 dX4_set_43 (by decide) ?_
    exact go_return dX4_set_108 rfl vc
  replace vc := vc.2
  by_cases e3 : x1 = nI 1
  · replace vc := vc.1 e3
    refine go_tswIn 46 dX4_set_1 (by rw [e3]; decide) (by rw [e3]; decide) (by rw [e3]; rfl) (by decide) ?_
    refine go_aload_n 47 0 dX4_set_46 rfl rfl rfl ?_
    refine go_getRe 50 dX4_set_47 rfl (MO_k hM.1) gfX4_19_5 rfl (MO_f1405 hM.1) ?_
    refine go_iload_n 51 2 dX4_set_50 rfl rfl rfl ?_
    refine go_iload_n 52 3 dX4_set_51 rfl rfl rfl ?_
    refine go_iastore 53 dX4_set_52 rfl (MO_k4 hM.1) vc.1 ?_
    replace vc := vc.2
    refine AWP.nm fun h4 eh4 => ?_
    replace vc := vc h4 eh4
    have hM : MO h4 o := by rw [eh4]; exact hM.1
    refine go_goto 108 dX4_set_53 (by decide) ?_
    exact go_return dX4_set_108 rfl vc
  replace vc := vc.2
  by_cases e5 : x1 = nI 2
  · replace vc := vc.1 e5
    refine go_tswIn 56 dX4_set_1 (by rw [e5]; decide) (by rw [e5]; decide) (by rw [e5]; rfl) (by decide) ?_
    refine go_aload_n 57 0 dX4_set_56 rfl rfl rfl ?_
    refine go_getRe 60 dX4_set_57 rfl (MO_k hM.1) gfX4_22_5 rfl (MO_f1406 hM.1) ?_
    refine go_iload_n 61 2 dX4_set_60 rfl rfl rfl ?_
    refine go_iload_n 62 3 dX4_set_61 rfl rfl rfl ?_
    refine go_iconst (v := nI 1) 63 dX4_set_62 rfl (by decide) ?_
    refine go_icmp_ne 66 70 dX4_set_63 rfl (by decide) (fun e6 => ?_) (fun e6 => ?_)
    · replace vc := vc.1 e6
      refine go_iconst (v := nI 0) 71 dX4_set_70 rfl (by decide) ?_
      refine go_bastoreZ 72 dX4_set_71 rfl (MO_k5 hM.1) vc.1 ?_
      replace vc := vc.2
      refine AWP.nm fun h7 eh7 => ?_
      replace vc := vc h7 eh7
      have hM : MO h7 o := by rw [eh7]; exact hM.1
      refine go_goto 108 dX4_set_72 (by decide) ?_
      exact go_return dX4_set_108 rfl vc
    · replace vc := vc.2 e6
      refine go_iconst (v := nI 1) 67 dX4_set_66 rfl (by decide) ?_
      refine go_goto 71 dX4_set_67 (by decide) ?_
      refine go_bastoreZ 72 dX4_set_71 rfl (MO_k5 hM.1) vc.1 ?_
      replace vc := vc.2
      refine AWP.nm fun h8 eh8 => ?_
      replace vc := vc h8 eh8
      have hM : MO h8 o := by rw [eh8]; exact hM.1
      refine go_goto 108 dX4_set_72 (by decide) ?_
      exact go_return dX4_set_108 rfl vc
  replace vc := vc.2
  by_cases e9 : x1 = nI 3
  · replace vc := vc.1 e9
    refine go_tswIn 75 dX4_set_1 (by rw [e9]; decide) (by rw [e9]; decide) (by rw [e9]; rfl) (by decide) ?_
    refine go_aload_n 76 0 dX4_set_75 rfl rfl rfl ?_
    refine go_iload_n 77 2 dX4_set_76 rfl rfl rfl ?_
    refine go_aload_n 78 0 dX4_set_77 rfl rfl rfl ?_
    refine go_getRe 81 dX4_set_78 rfl (MO_k hM.1) gfX4_26_5 rfl (MO_f1407 hM.1) ?_
    refine go_iload_n 82 2 dX4_set_81 rfl rfl rfl ?_
    refine go_iaload 83 dX4_set_82 rfl (MO_k6 hM.1) vc.1 ?_
    replace vc := vc.2
    rw [hM.a6 vc.1]
    replace vc := vc.2
    refine go_iload_n 84 3 dX4_set_83 rfl rfl rfl ?_
    obtain ⟨P12, hR, vc⟩ := vc
    refine go_callVV (M' := mX4_setStiff) (as := [vI x2, vI (sf t (nt x2)), vI x3]) 87 dX4_set_84 rfl q1798 okX4_setStiff (MO_k hM.1) ck_4 rfl rfl rfl rfl rfl hR ?_
    intro h11 p1
    replace vc := vc h11 p1
    obtain ⟨t14, g15, hM, vc⟩ := vc
    refine go_goto 108 dX4_set_87 (by decide) ?_
    exact go_return dX4_set_108 rfl vc
  replace vc := vc.2
  by_cases e16 : x1 = nI 4
  · replace vc := vc.1 e16
    refine go_tswIn 90 dX4_set_1 (by rw [e16]; decide) (by rw [e16]; decide) (by rw [e16]; rfl) (by decide) ?_
    refine go_aload_n 91 0 dX4_set_90 rfl rfl rfl ?_
    refine go_iload_n 92 2 dX4_set_91 rfl rfl rfl ?_
    refine go_iload_n 93 3 dX4_set_92 rfl rfl rfl ?_
    refine go_iload 95 dX4_set_93 rfl rfl ?_
    obtain ⟨P19, hR, vc⟩ := vc
    refine go_callVV (M' := mX4_setStiff) (as := [vI x2, vI x3, vI x4]) 98 dX4_set_95 rfl q1798 okX4_setStiff (MO_k hM.1) ck_4 rfl rfl rfl rfl rfl hR ?_
    intro h18 p1
    replace vc := vc h18 p1
    obtain ⟨t21, g22, hM, vc⟩ := vc
    refine go_goto 108 dX4_set_98 (by decide) ?_
    exact go_return dX4_set_108 rfl vc
  replace vc := vc.2
  refine go_tswOut 101 dX4_set_1 (tsw5 e1 e3 e5 e9 e16) (by decide) ?_
  replace vc := vc ⟨e1, e3, e5, e9, e16⟩
  refine go_aload_n 102 0 dX4_set_101 rfl rfl rfl ?_
  refine go_getRe 105 dX4_set_102 rfl (MO_k hM.1) gfX4_13_5 rfl (MO_f1403 hM.1) ?_
  refine go_iload_n 106 2 dX4_set_105 rfl rfl rfl ?_
  refine go_iload_n 107 3 dX4_set_106 rfl rfl rfl ?_
  refine go_iastore 108 dX4_set_107 rfl (MO_k2 hM.1) vc.1 ?_
  replace vc := vc.2
  refine AWP.nm fun h23 eh23 => ?_
  replace vc := vc h23 eh23
  have hM : MO h23 o := by rw [eh23]; exact hM.1
  exact go_return dX4_set_108 rfl vc

theorem bX4_setStiff_0 {h : Hp} {b : Nat × Nat} {Q : Rs → Hp → Prop} {o : Nat} {x1 : Int32} {x2 : Int32} {x3 : Int32} {t : St} {g : Nat} (hM : MS h o t g) (vc : (vp_in x1 468 ∧ (nt x1) < 36 * ns t ∧ (∃ (P3 : Hp → Prop), Ret mX4_setPiece 1 [vR (some o), vI (x1 / (nI 36)), vI ((x1 / (nI 6)) - (x1 / (nI 6)) / (nI 6) * (nI 6)), vI (x1 - x1 / (nI 6) * (nI 6)), vI ((nI (bo t (nt x1))) - (nI 1)), vI x2, vI x3] h 0 0 (RV P3) ∧ ∀ h2, P3 h2 → (∃ t5 g6, MS h2 o t5 g6 ∧ Q rV h2)))) : AWP mX4_setStiff 2 0 [vR (some o), vI x1, vI x2, vI x3, vU, vU, vU] [] h b Q := by
  refine go_iload_n 1 1 dX4_setStiff_0 rfl rfl rfl ?_
  refine go_bipush (v := nI 36) 3 dX4_setStiff_1 rfl (by decide) ?_
  refine go_idiv 4 dX4_setStiff_3 rfl (by decide) ?_
  refine go_istore 6 [vR (some o), vI x1, vI x2, vI x3, vI (x1 / (nI 36)), vU, vU] dX4_setStiff_4 rfl rfl rfl ?_
  refine go_iload_n 7 1 dX4_setStiff_6 rfl rfl rfl ?_
  refine go_bipush (v := nI 6) 9 dX4_setStiff_7 rfl (by decide) ?_
  refine go_idiv 10 dX4_setStiff_9 rfl (by decide) ?_
  refine go_bipush (v := nI 6) 12 dX4_setStiff_10 rfl (by decide) ?_
  refine go_irem 13 dX4_setStiff_12 rfl (by decide) ?_
  refine go_istore 15 [vR (some o), vI x1, vI x2, vI x3, vI (x1 / (nI 36)), vI ((x1 / (nI 6)) - (x1 / (nI 6)) / (nI 6) * (nI 6)), vU] dX4_setStiff_13 rfl rfl rfl ?_
  refine go_iload_n 16 1 dX4_setStiff_15 rfl rfl rfl ?_
  refine go_bipush (v := nI 6) 18 dX4_setStiff_16 rfl (by decide) ?_
  refine go_irem 19 dX4_setStiff_18 rfl (by decide) ?_
  refine go_istore 21 [vR (some o), vI x1, vI x2, vI x3, vI (x1 / (nI 36)), vI ((x1 / (nI 6)) - (x1 / (nI 6)) / (nI 6) * (nI 6)), vI (x1 - x1 / (nI 6) * (nI 6))] dX4_setStiff_19 rfl rfl rfl ?_
  refine go_aload_n 22 0 dX4_setStiff_21 rfl rfl rfl ?_
  refine go_iload 24 dX4_setStiff_22 rfl rfl ?_
  refine go_iload 26 dX4_setStiff_24 rfl rfl ?_
  refine go_iload 28 dX4_setStiff_26 rfl rfl ?_
  refine go_aload_n 29 0 dX4_setStiff_28 rfl rfl rfl ?_
  refine go_getRe 32 dX4_setStiff_29 rfl (MO_k hM.1) gfX4_32_5 rfl (MO_f1409 hM.1) ?_
  refine go_iload_n 33 1 dX4_setStiff_32 rfl rfl rfl ?_
  refine go_iaload 34 dX4_setStiff_33 rfl (MO_k8 hM.1) vc.1 ?_
  replace vc := vc.2
  rw [hM.a8 vc.1]
  replace vc := vc.2
  refine go_iconst (v := nI 1) 35 dX4_setStiff_34 rfl (by decide) ?_
  refine go_isub 36 dX4_setStiff_35 rfl ?_
  refine go_iload_n 37 2 dX4_setStiff_36 rfl rfl rfl ?_
  refine go_iload_n 38 3 dX4_setStiff_37 rfl rfl rfl ?_
  obtain ⟨P3, hR, vc⟩ := vc
  refine go_callVV (M' := mX4_setPiece) (as := [vI (x1 / (nI 36)), vI ((x1 / (nI 6)) - (x1 / (nI 6)) / (nI 6) * (nI 6)), vI (x1 - x1 / (nI 6) * (nI 6)), vI ((nI (bo t (nt x1))) - (nI 1)), vI x2, vI x3]) 41 dX4_setStiff_38 rfl q1757 okX4_setPiece (MO_k hM.1) ck_4 rfl rfl rfl rfl rfl hR ?_
  intro h2 p1
  replace vc := vc h2 p1
  obtain ⟨t5, g6, hM, vc⟩ := vc
  exact go_return dX4_setStiff_41 rfl vc

theorem bX4_feed_0 {h : Hp} {b : Nat × Nat} {Q : Rs → Hp → Prop} {o : Nat} {x1 : Int32} {x2 : Int32} {t : St} {g : Nat} (hM : MS h o t g) (vc : (((bt x1 1 4) → ((((nI (tl t)) + x1) ≤ (nI 120) → AWP mX4_feed 1 27 [vR (some o), vI x1, vI x2, vI (nI 0)] [] h b Q) ∧ (¬ ((nI (tl t)) + x1) ≤ (nI 120) → Q (rI (-3)) h))) ∧ (¬ (bt x1 1 4) → Q (rI (-1)) h))) : AWP mX4_feed 1 0 [vR (some o), vI x1, vI x2, vU] [] h b Q := by
  refine go_iload_n 1 1 dX4_feed_0 rfl rfl rfl ?_
  refine go_iconst (v := nI 1) 2 dX4_feed_1 rfl (by decide) ?_
  refine go_iconst (v := nI 4) 3 dX4_feed_2 rfl (by decide) ?_
  refine go_callSI (M' := mX4_in) (as := [vI x1, vI (nI 1), vI (nI 4)]) 6 dX4_feed_3 rfl q1703 okX4_in rfl rfl rfl rfl rfl (ctX4_inL rfl rfl) ?_
  rintro _ _ ⟨rfl, rfl⟩
  refine go_if_ne 9 11 dX4_feed_6 rfl (by decide) (fun e1 => ?_) (fun e1 => ?_)
  · replace vc := vc.1 (bI_n0.mp e1)
    refine go_aload_n 12 0 dX4_feed_11 rfl rfl rfl ?_
    refine go_getI 15 dX4_feed_12 rfl (MO_k hM.1) gfX4_214_5 rfl ?_
    rw [hM.f416]
    refine go_iload_n 16 1 dX4_feed_15 rfl rfl rfl ?_
    refine go_iadd 17 dX4_feed_16 rfl ?_
    refine go_bipush (v := nI 120) 19 dX4_feed_17 rfl (by decide) ?_
    refine go_icmp_le 22 25 dX4_feed_19 rfl (by decide) (fun e2 => ?_) (fun e2 => ?_)
    · replace vc := vc.1 e2
      refine go_iconst (v := nI 0) 26 dX4_feed_25 rfl (by decide) ?_
      refine go_istore_n 27 3 [vR (some o), vI x1, vI x2, vI (nI 0)] dX4_feed_26 rfl rfl rfl rfl ?_
      exact vc
    · replace vc := vc.2 e2
      refine go_bipush (v := (-3)) 24 dX4_feed_22 rfl (by decide) ?_
      exact go_ireturn dX4_feed_24 rfl vc
  · replace vc := vc.2 (bI_0.mp e1)
    refine go_iconst (v := (-1)) 10 dX4_feed_9 rfl (by decide) ?_
    exact go_ireturn dX4_feed_10 rfl vc

theorem bX4_feed_27 {h : Hp} {b : Nat × Nat} {Q : Rs → Hp → Prop} {o : Nat} {x1 : Int32} {x2 : Int32} {x3 : Int32} {t : St} {g : Nat} (hM : MS h o t g) (vc : ((x1 ≤ x3 → Q (rI (nI (tl t))) h) ∧ (¬ x1 ≤ x3 → (vp_in (nI (tl t)) 120 ∧ (∀ h2, h2 = w1 h (o + 13) (nt (nI (tl t))) (vp_nar .byte ((x2 >>> (((nI 8) * x3) &&& 31)).toInt8.toInt32)) → (∀ h3, h3 = sFI h2 416 o ((hFI h2 416 o) + (nI 1)) → AWP mX4_feed 1 27 [vR (some o), vI x1, vI x2, vI (x3 + nI 1)] [] h3 b Q)))))) : AWP mX4_feed 1 27 [vR (some o), vI x1, vI x2, vI x3] [] h b Q := by
  refine go_iload_n 28 3 dX4_feed_27 rfl rfl rfl ?_
  refine go_iload_n 29 1 dX4_feed_28 rfl rfl rfl ?_
  refine go_icmp_ge 32 64 dX4_feed_29 rfl (by decide) (fun e1 => ?_) (fun e1 => ?_)
  · replace vc := vc.1 e1
    refine go_aload_n 65 0 dX4_feed_64 rfl rfl rfl ?_
    refine go_getI 68 dX4_feed_65 rfl (MO_k hM.1) gfX4_214_5 rfl ?_
    rw [hM.f416]
    exact go_ireturn dX4_feed_68 rfl vc
  · replace vc := vc.2 e1
    refine go_aload_n 33 0 dX4_feed_32 rfl rfl rfl ?_
    refine go_getRe 36 dX4_feed_33 rfl (MO_k hM.1) gfX4_47_5 rfl (MO_f1415 hM.1) ?_
    refine go_aload_n 37 0 dX4_feed_36 rfl rfl rfl ?_
    refine go_getI 40 dX4_feed_37 rfl (MO_k hM.1) gfX4_214_5 rfl ?_
    rw [hM.f416]
    refine go_iload_n 41 2 dX4_feed_40 rfl rfl rfl ?_
    refine go_bipush (v := nI 8) 43 dX4_feed_41 rfl (by decide) ?_
    refine go_iload_n 44 3 dX4_feed_43 rfl rfl rfl ?_
    refine go_imul 45 dX4_feed_44 rfl ?_
    refine go_ishr 46 dX4_feed_45 rfl ?_
    refine go_i2b 47 dX4_feed_46 rfl ?_
    refine go_bastoreB 48 dX4_feed_47 rfl (MO_k13 hM.1) vc.1 ?_
    replace vc := vc.2
    refine AWP.nm fun h2 eh2 => ?_
    replace vc := vc h2 eh2
    have hM : MO h2 o := by rw [eh2]; exact hM.1
    refine go_aload_n 49 0 dX4_feed_48 rfl rfl rfl ?_
    refine go_dup 50 dX4_feed_49 rfl rfl ?_
    refine go_getI 53 dX4_feed_50 rfl (MO_k hM) gfX4_214_5 rfl ?_
    refine go_iconst (v := nI 1) 54 dX4_feed_53 rfl (by decide) ?_
    refine go_iadd 55 dX4_feed_54 rfl ?_
    refine go_putI 58 dX4_feed_55 rfl (MO_k hM) (gpX4_214_5 _) rfl ?_
    refine AWP.nm fun h3 eh3 => ?_
    replace vc := vc h3 eh3
    have hM : MO h3 o := by rw [eh3]; exact hM
    refine go_iinc 61 (x3 + nI 1) [vR (some o), vI x1, vI x2, vI (x3 + nI 1)] dX4_feed_58 rfl rfl (by rfl) rfl rfl ?_
    refine go_goto 27 dX4_feed_61 (by decide) ?_
    exact vc

theorem bX4_setPiece_0 {h : Hp} {b : Nat × Nat} {Q : Rs → Hp → Prop} {o : Nat} {x1 : Int32} {x2 : Int32} {x3 : Int32} {x4 : Int32} {x5 : Int32} {x6 : Int32} (hM : MO h o) (vc : AWP mX4_setPiece 1 3 [vR (some o), vI x1, vI x2, vI x3, vI x4, vI x5, vI x6, vI (nI 0), vU] [] h b Q) : AWP mX4_setPiece 1 0 [vR (some o), vI x1, vI x2, vI x3, vI x4, vI x5, vI x6, vU, vU] [] h b Q := by
  refine go_iconst (v := nI 0) 1 dX4_setPiece_0 rfl (by decide) ?_
  refine go_istore 3 [vR (some o), vI x1, vI x2, vI x3, vI x4, vI x5, vI x6, vI (nI 0), vU] dX4_setPiece_1 rfl rfl rfl ?_
  exact vc

theorem bX4_setPiece_3 {h : Hp} {b : Nat × Nat} {Q : Rs → Hp → Prop} {o : Nat} {x1 : Int32} {x2 : Int32} {x3 : Int32} {x4 : Int32} {x5 : Int32} {x6 : Int32} {x7 : Int32} {y8 : AV} (hM : MO h o) (vc : (((nI 2) ≤ x7 → Q rV h) ∧ (¬ (nI 2) ≤ x7 → ((¬ x7 = 0 → AWP mX4_setPiece 1 29 [vR (some o), vI x1, vI x2, vI x3, vI x4, vI x5, vI x6, vI x7, y8] [vI (nI 36 * x1 + nI 6 * x3 + x2)] h b Q) ∧ (x7 = 0 → AWP mX4_setPiece 1 29 [vR (some o), vI x1, vI x2, vI x3, vI x4, vI x5, vI x6, vI x7, y8] [vI (nI 36 * x1 + nI 6 * x2 + x3)] h b Q))))) : AWP mX4_setPiece 1 3 [vR (some o), vI x1, vI x2, vI x3, vI x4, vI x5, vI x6, vI x7, y8] [] h b Q := by
  refine go_iload 5 dX4_setPiece_3 rfl rfl ?_
  refine go_iconst (v := nI 2) 6 dX4_setPiece_5 rfl (by decide) ?_
  refine go_icmp_ge 9 66 dX4_setPiece_6 rfl (by decide) (fun e1 => ?_) (fun e1 => ?_)
  · replace vc := vc.1 e1
    exact go_return dX4_setPiece_66 rfl vc
  · replace vc := vc.2 e1
    refine go_iload 11 dX4_setPiece_9 rfl rfl ?_
    refine go_if_ne 14 23 dX4_setPiece_11 rfl (by decide) (fun e2 => ?_) (fun e2 => ?_)
    · replace vc := vc.1 e2
      refine go_iload_n 24 1 dX4_setPiece_23 rfl rfl rfl ?_
      refine go_iload_n 25 3 dX4_setPiece_24 rfl rfl rfl ?_
      refine go_iload_n 26 2 dX4_setPiece_25 rfl rfl rfl ?_
      refine go_callSI (M' := mX4_at) (as := [vI x1, vI x3, vI x2]) 29 dX4_setPiece_26 rfl q1754 okX4_at rfl rfl rfl rfl rfl (ctX4_at) ?_
      rintro _ _ ⟨rfl, rfl⟩
      exact vc
    · replace vc := vc.2 e2
      refine go_iload_n 15 1 dX4_setPiece_14 rfl rfl rfl ?_
      refine go_iload_n 16 2 dX4_setPiece_15 rfl rfl rfl ?_
      refine go_iload_n 17 3 dX4_setPiece_16 rfl rfl rfl ?_
      refine go_callSI (M' := mX4_at) (as := [vI x1, vI x2, vI x3]) 20 dX4_setPiece_17 rfl q1754 okX4_at rfl rfl rfl rfl rfl (ctX4_at) ?_
      rintro _ _ ⟨rfl, rfl⟩
      refine go_goto 29 dX4_setPiece_20 (by decide) ?_
      exact vc

theorem bX4_setPiece_29 {h : Hp} {b : Nat × Nat} {Q : Rs → Hp → Prop} {o : Nat} {x1 : Int32} {x2 : Int32} {x3 : Int32} {x4 : Int32} {x5 : Int32} {x6 : Int32} {x7 : Int32} {y8 : AV} {s0 : Int32} (hM : MO h o) (vc : (vp_in s0 468 ∧ (∀ h1, h1 = w1 h (o + 8) (nt s0) (x4 + (nI 1)) → (vp_in s0 468 ∧ (∀ h2, h2 = w1 h1 (o + 6) (nt s0) x5 → (vp_in s0 468 ∧ (∀ h3, h3 = w1 h2 (o + 7) (nt s0) x6 → AWP mX4_setPiece 1 3 [vR (some o), vI x1, vI x2, vI x3, vI x4, vI x5, vI x6, vI (x7 + nI 1), vI s0] [] h3 b Q))))))) : AWP mX4_setPiece 1 29 [vR (some o), vI x1, vI x2, vI x3, vI x4, vI x5, vI x6, vI x7, y8] [vI s0] h b Q := by
  refine go_istore 31 [vR (some o), vI x1, vI x2, vI x3, vI x4, vI x5, vI x6, vI x7, vI s0] dX4_setPiece_29 rfl rfl rfl ?_
  refine go_aload_n 32 0 dX4_setPiece_31 rfl rfl rfl ?_
  refine go_getRe 35 dX4_setPiece_32 rfl (MO_k hM) gfX4_32_5 rfl (MO_f1409 hM) ?_
  refine go_iload 37 dX4_setPiece_35 rfl rfl ?_
  refine go_iload 39 dX4_setPiece_37 rfl rfl ?_
  refine go_iconst (v := nI 1) 40 dX4_setPiece_39 rfl (by decide) ?_
  refine go_iadd 41 dX4_setPiece_40 rfl ?_
  refine go_iastore 42 dX4_setPiece_41 rfl (MO_k8 hM) vc.1 ?_
  replace vc := vc.2
  refine AWP.nm fun h1 eh1 => ?_
  replace vc := vc h1 eh1
  have hM : MO h1 o := by rw [eh1]; exact hM
  refine go_aload_n 43 0 dX4_setPiece_42 rfl rfl rfl ?_
  refine go_getRe 46 dX4_setPiece_43 rfl (MO_k hM) gfX4_26_5 rfl (MO_f1407 hM) ?_
  refine go_iload 48 dX4_setPiece_46 rfl rfl ?_
  refine go_iload 50 dX4_setPiece_48 rfl rfl ?_
  refine go_iastore 51 dX4_setPiece_50 rfl (MO_k6 hM) vc.1 ?_
  replace vc := vc.2
  refine AWP.nm fun h2 eh2 => ?_
  replace vc := vc h2 eh2
  have hM : MO h2 o := by rw [eh2]; exact hM
  refine go_aload_n 52 0 dX4_setPiece_51 rfl rfl rfl ?_
  refine go_getRe 55 dX4_setPiece_52 rfl (MO_k hM) gfX4_29_5 rfl (MO_f1408 hM) ?_
  refine go_iload 57 dX4_setPiece_55 rfl rfl ?_
  refine go_iload 59 dX4_setPiece_57 rfl rfl ?_
  refine go_iastore 60 dX4_setPiece_59 rfl (MO_k7 hM) vc.1 ?_
  replace vc := vc.2
  refine AWP.nm fun h3 eh3 => ?_
  replace vc := vc h3 eh3
  have hM : MO h3 o := by rw [eh3]; exact hM
  refine go_iinc 63 (x7 + nI 1) [vR (some o), vI x1, vI x2, vI x3, vI x4, vI x5, vI x6, vI (x7 + nI 1), vI s0] dX4_setPiece_60 rfl rfl (by rfl) rfl rfl ?_
  refine go_goto 3 dX4_setPiece_63 (by decide) ?_
  exact vc
