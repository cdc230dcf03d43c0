theorem bX4_isCorner_0m {h : Hp} {b : Nat × Nat} {Q : Rs → Hp → Prop} {o : Nat} {x1 : Int32} {x2 : Int32} (hM : MO h o) (vc : (vp_in x1 13 ∧ Q (rI (bI ((nI 0) ≤ x2 ∧ x2 ≤ ((hAI h (o + 1) (nt x1)) - (nI 1))))) h)) : AWP mX4_isCorner 1 0 [vR (some o), vI x1, vI x2] [] h b Q := by
  refine go_iload_n 1 2 dX4_isCorner_0 rfl rfl rfl ?_
  refine go_iconst (v := nI 0) 2 dX4_isCorner_1 rfl (by decide) ?_
  refine go_aload_n 3 0 dX4_isCorner_2 rfl rfl rfl ?_
  refine go_getRe 6 dX4_isCorner_3 rfl (MO_k hM) gfX4_7_5 rfl (MO_f1402 hM) ?_
  refine go_iload_n 7 1 dX4_isCorner_6 rfl rfl rfl ?_
  refine go_iaload 8 dX4_isCorner_7 rfl (MO_k1 hM) vc.1 ?_
  replace vc := vc.2
  refine go_iconst (v := nI 1) 9 dX4_isCorner_8 rfl (by decide) ?_
  refine go_isub 10 dX4_isCorner_9 rfl ?_
  refine go_callSI (M' := mX4_in) (as := [vI x2, vI (nI 0), vI ((hAI h (o + 1) (nt x1)) - (nI 1))]) 13 dX4_isCorner_10 rfl q1703 okX4_in rfl rfl rfl rfl rfl (ctX4_in) ?_
  intro x0 h0 p0
  rw [p0.1, p0.2]
  exact go_zreturn dX4_isCorner_13 rfl (bI_01 _) vc

theorem bX4_hasPiece_0m {h : Hp} {b : Nat × Nat} {Q : Rs → Hp → Prop} {o : Nat} {x1 : Int32} {x2 : Int32} {x3 : Int32} (hM : MO h o) (vc : (vp_in (nI 36 * x1 + nI 6 * x2 + x3) 468 ∧ (((hAI h (o + 8) (nt (nI 36 * x1 + nI 6 * x2 + x3))) ≤ 0 → Q (rI (nI 0)) h) ∧ (¬ (hAI h (o + 8) (nt (nI 36 * x1 + nI 6 * x2 + x3))) ≤ 0 → Q (rI (nI 1)) h)))) : AWP mX4_hasPiece 1 0 [vR (some o), vI x1, vI x2, vI x3] [] h b Q := by
  refine go_aload_n 1 0 dX4_hasPiece_0 rfl rfl rfl ?_
  refine go_getRe 4 dX4_hasPiece_1 rfl (MO_k hM) gfX4_32_5 rfl (MO_f1409 hM) ?_
  refine go_iload_n 5 1 dX4_hasPiece_4 rfl rfl rfl ?_
  refine go_iload_n 6 2 dX4_hasPiece_5 rfl rfl rfl ?_
  refine go_iload_n 7 3 dX4_hasPiece_6 rfl rfl rfl ?_
  refine go_callSI (M' := mX4_at) (as := [vI x1, vI x2, vI x3]) 10 dX4_hasPiece_7 rfl q1754 okX4_at rfl rfl rfl rfl rfl (ctX4_at) ?_
  intro x0 h0 p0
  rw [p0.1, p0.2]
  refine go_iaload 11 dX4_hasPiece_10 rfl (MO_k8 hM) vc.1 ?_
  replace vc := vc.2
  refine go_if_le 14 18 dX4_hasPiece_11 rfl (by decide) (fun e1 => ?_) (fun e1 => ?_)
  · replace vc := vc.1 e1
    refine go_iconst (v := nI 0) 19 dX4_hasPiece_18 rfl (by decide) ?_
    exact go_zreturn dX4_hasPiece_19 rfl (by decide) vc
  · replace vc := vc.2 e1
    refine go_iconst (v := nI 1) 15 dX4_hasPiece_14 rfl (by decide) ?_
    refine go_goto 19 dX4_hasPiece_15 (by decide) ?_
    exact go_zreturn dX4_hasPiece_19 rfl (by decide) vc

theorem bX4_look_0 {h : Hp} {b : Nat × Nat} {Q : Rs → Hp → Prop} {o : Nat}  (hM : MO h o) (vc : (((hFI h 416 o) ≤ (hFI h 417 o) → Q (rI (-1)) h) ∧ (¬ (hFI h 416 o) ≤ (hFI h 417 o) → (vp_in (hFI h 417 o) 120 ∧ Q (rI (hAI h (o + 13) (nt (hFI h 417 o)))) h)))) : AWP mX4_look 0 0 [vR (some o)] [] h b Q := by
  refine go_aload_n 1 0 dX4_look_0 rfl rfl rfl ?_
  refine go_getI 4 dX4_look_1 rfl (MO_k hM) gfX4_217_5 rfl ?_
  refine go_aload_n 5 0 dX4_look_4 rfl rfl rfl ?_
  refine go_getI 8 dX4_look_5 rfl (MO_k hM) gfX4_214_5 rfl ?_
  refine go_icmp_ge 11 23 dX4_look_8 rfl (by decide) (fun e1 => ?_) (fun e1 => ?_)
  · replace vc := vc.1 e1
    refine go_iconst (v := (-1)) 24 dX4_look_23 rfl (by decide) ?_
    exact go_ireturn dX4_look_24 rfl vc
  · replace vc := vc.2 e1
    refine go_aload_n 12 0 dX4_look_11 rfl rfl rfl ?_
    refine go_getRe 15 dX4_look_12 rfl (MO_k hM) gfX4_47_5 rfl (MO_f1415 hM) ?_
    refine go_aload_n 16 0 dX4_look_15 rfl rfl rfl ?_
    refine go_getI 19 dX4_look_16 rfl (MO_k hM) gfX4_217_5 rfl ?_
    refine go_baloadB 20 dX4_look_19 rfl (MO_k13 hM) vc.1 ?_
    replace vc := vc.2
    refine go_goto 24 dX4_look_20 (by decide) ?_
    exact go_ireturn dX4_look_24 rfl vc

theorem bX4_wrong_0 {h : Hp} {b : Nat × Nat} {Q : Rs → Hp → Prop} {o : Nat}  (hM : MO h o) (vc : ((0 ≤ (hFI h 418 o) → Q rV h) ∧ (¬ 0 ≤ (hFI h 418 o) → (∀ h2, h2 = sFI h 418 o (hFI h 417 o) → Q rV h2)))) : AWP mX4_wrong 0 0 [vR (some o)] [] h b Q := by
  refine go_aload_n 1 0 dX4_wrong_0 rfl rfl rfl ?_
  refine go_getI 4 dX4_wrong_1 rfl (MO_k hM) gfX4_220_5 rfl ?_
  refine go_if_ge 7 15 dX4_wrong_4 rfl (by decide) (fun e1 => ?_) (fun e1 => ?_)
  · replace vc := vc.1 e1
    exact go_return dX4_wrong_15 rfl vc
  · replace vc := vc.2 e1
    refine go_aload_n 8 0 dX4_wrong_7 rfl rfl rfl ?_
    refine go_aload_n 9 0 dX4_wrong_8 rfl rfl rfl ?_
    refine go_getI 12 dX4_wrong_9 rfl (MO_k hM) gfX4_217_5 rfl ?_
    refine go_putI 15 dX4_wrong_12 rfl (MO_k hM) (gpX4_220_5 _) rfl ?_
    refine AWP.nm fun h2 eh2 => ?_
    replace vc := vc h2 eh2
    have hM : MO h2 o := by rw [eh2]; exact hM
    exact go_return dX4_wrong_15 rfl vc

theorem bX4_isDigit_0 {h : Hp} {b : Nat × Nat} {Q : Rs → Hp → Prop} {o : Nat}  (hM : MO h o) (vc : (∃ (P3 : Int32 → Hp → Prop), Ret mX4_look 0 [vR (some o)] h 0 0 (RI P3) ∧ ∀ z1 h2, P3 z1 h2 → (MO h2 o ∧ Q (rI (bI (bt z1 49 57))) h2))) : AWP mX4_isDigit 1 0 [vR (some o)] [] h b Q := by
  refine go_aload_n 1 0 dX4_isDigit_0 rfl rfl rfl ?_
  obtain ⟨P3, hR, vc⟩ := vc
  refine go_callVI (M' := mX4_look) (as := []) 4 dX4_isDigit_1 rfl q1718 okX4_look (MO_k hM) ck_4 rfl rfl rfl rfl rfl hR ?_
  intro z1 h2 p1
  replace vc := vc z1 h2 p1
  have hM := vc.1
  replace vc := vc.2
  refine go_bipush (v := nI 49) 6 dX4_isDigit_4 rfl (by decide) ?_
  refine go_bipush (v := nI 57) 8 dX4_isDigit_6 rfl (by decide) ?_
  refine go_callSI (M' := mX4_in) (as := [vI z1, vI (nI 49), vI (nI 57)]) 11 dX4_isDigit_8 rfl q1703 okX4_in rfl rfl rfl rfl rfl (ctX4_inL rfl rfl) ?_
  intro x0 h0 p0
  rw [p0.1, p0.2]
  exact go_zreturn dX4_isDigit_11 rfl (bI_01 _) vc

theorem bX4_digit_0 {h : Hp} {b : Nat × Nat} {Q : Rs → Hp → Prop} {o : Nat}  (hM : MO h o) (vc : (∃ (P3 : Int32 → Hp → Prop), Ret mX4_isDigit 1 [vR (some o)] h 0 0 (RI P3) ∧ ∀ z1 h2, P3 z1 h2 → (MO h2 o ∧ ((¬ z1 = 0 → (∃ (P8 : Int32 → Hp → Prop), Ret mX4_look 0 [vR (some o)] h2 0 0 (RI P8) ∧ ∀ z6 h7, P8 z6 h7 → (MO h7 o ∧ (∀ h10, h10 = sFI h7 417 o ((hFI h7 417 o) + (nI 1)) → Q (rI (z6 - (nI 48))) h10)))) ∧ (z1 = 0 → (∃ (P13 : Hp → Prop), Ret mX4_wrong 0 [vR (some o)] h2 0 0 (RV P13) ∧ ∀ h12, P13 h12 → (MO h12 o ∧ Q (rI (nI 0)) h12))))))) : AWP mX4_digit 2 0 [vR (some o), vU] [] h b Q := by
  refine go_aload_n 1 0 dX4_digit_0 rfl rfl rfl ?_
  obtain ⟨P3, hR, vc⟩ := vc
  refine go_callVI (M' := mX4_isDigit) (as := []) 4 dX4_digit_1 rfl q1726 okX4_isDigit (MO_k hM) ck_4 rfl rfl rfl rfl rfl hR ?_
  intro z1 h2 p1
  replace vc := vc z1 h2 p1
  have hM := vc.1
  replace vc := vc.2
  refine go_if_ne 7 13 dX4_digit_4 rfl (by decide) (fun e5 => ?_) (fun e5 => ?_)
  · replace vc := vc.1 e5
    refine go_aload_n 14 0 dX4_digit_13 rfl rfl rfl ?_
    obtain ⟨P8, hR, vc⟩ := vc
    refine go_callVI (M' := mX4_look) (as := []) 17 dX4_digit_14 rfl q1718 okX4_look (MO_k hM) ck_4 rfl rfl rfl rfl rfl hR ?_
    intro z6 h7 p1
    replace vc := vc z6 h7 p1
    have hM := vc.1
    replace vc := vc.2
    refine go_bipush (v := nI 48) 19 dX4_digit_17 rfl (by decide) ?_
    refine go_isub 20 dX4_digit_19 rfl ?_
    refine go_istore_n 21 1 [vR (some o), vI (z6 - (nI 48))] dX4_digit_20 rfl rfl rfl rfl ?_
    refine go_aload_n 22 0 dX4_digit_21 rfl rfl rfl ?_
    refine go_dup 23 dX4_digit_22 rfl rfl ?_
    refine go_getI 26 dX4_digit_23 rfl (MO_k hM) gfX4_217_5 rfl ?_
    refine go_iconst (v := nI 1) 27 dX4_digit_26 rfl (by decide) ?_
    refine go_iadd 28 dX4_digit_27 rfl ?_
    refine go_putI 31 dX4_digit_28 rfl (MO_k hM) (gpX4_217_5 _) rfl ?_
    refine AWP.nm fun h10 eh10 => ?_
    replace vc := vc h10 eh10
    have hM : MO h10 o := by rw [eh10]; exact hM
    refine go_iload_n 32 1 dX4_digit_31 rfl rfl rfl ?_
    exact go_ireturn dX4_digit_32 rfl vc
  · replace vc := vc.2 e5
    refine go_aload_n 8 0 dX4_digit_7 rfl rfl rfl ?_
    obtain ⟨P13, hR, vc⟩ := vc
    refine go_callVV (M' := mX4_wrong) (as := []) 11 dX4_digit_8 rfl q1722 okX4_wrong (MO_k hM) ck_4 rfl rfl rfl rfl rfl hR ?_
    intro h12 p1
    replace vc := vc h12 p1
    have hM := vc.1
    replace vc := vc.2
    refine go_iconst (v := nI 0) 12 dX4_digit_11 rfl (by decide) ?_
    exact go_ireturn dX4_digit_12 rfl vc

theorem bX4_letter_0 {h : Hp} {b : Nat × Nat} {Q : Rs → Hp → Prop} {o : Nat}  (hM : MO h o) (vc : (∃ (P3 : Int32 → Hp → Prop), Ret mX4_look 0 [vR (some o)] h 0 0 (RI P3) ∧ ∀ z1 h2, P3 z1 h2 → (MO h2 o ∧ (∃ (P7 : Int32 → Hp → Prop), Ret mX4_isCorner 1 [vR (some o), vI (hFI h2 401 o), vI (z1 - (nI 97))] h2 0 0 (RI P7) ∧ ∀ z5 h6, P7 z5 h6 → (MO h6 o ∧ ((z5 = 0 → Q (rI (-1)) h6) ∧ (¬ z5 = 0 → Q (rI (z1 - (nI 97))) h6))))))) : AWP mX4_letter 2 0 [vR (some o), vU] [] h b Q := by
  refine go_aload_n 1 0 dX4_letter_0 rfl rfl rfl ?_
  obtain ⟨P3, hR, vc⟩ := vc
  refine go_callVI (M' := mX4_look) (as := []) 4 dX4_letter_1 rfl q1718 okX4_look (MO_k hM) ck_4 rfl rfl rfl rfl rfl hR ?_
  intro z1 h2 p1
  replace vc := vc z1 h2 p1
  have hM := vc.1
  replace vc := vc.2
  refine go_bipush (v := nI 97) 6 dX4_letter_4 rfl (by decide) ?_
  refine go_isub 7 dX4_letter_6 rfl ?_
  refine go_istore_n 8 1 [vR (some o), vI (z1 - (nI 97))] dX4_letter_7 rfl rfl rfl rfl ?_
  refine go_aload_n 9 0 dX4_letter_8 rfl rfl rfl ?_
  refine go_aload_n 10 0 dX4_letter_9 rfl rfl rfl ?_
  refine go_getI 13 dX4_letter_10 rfl (MO_k hM) gfX4_200_5 rfl ?_
  refine go_iload_n 14 1 dX4_letter_13 rfl rfl rfl ?_
  obtain ⟨P7, hR, vc⟩ := vc
  refine go_callVI (M' := mX4_isCorner) (as := [vI (hFI h2 401 o), vI (z1 - (nI 97))]) 17 dX4_letter_14 rfl q1746 okX4_isCorner (MO_k hM) ck_4 rfl rfl rfl rfl rfl hR ?_
  intro z5 h6 p1
  replace vc := vc z5 h6 p1
  have hM := vc.1
  replace vc := vc.2
  refine go_if_eq 20 24 dX4_letter_17 rfl (by decide) (fun e9 => ?_) (fun e9 => ?_)
  · replace vc := vc.1 e9
    refine go_iconst (v := (-1)) 25 dX4_letter_24 rfl (by decide) ?_
    exact go_ireturn dX4_letter_25 rfl vc
  · replace vc := vc.2 e9
    refine go_iload_n 21 1 dX4_letter_20 rfl rfl rfl ?_
    refine go_goto 25 dX4_letter_21 (by decide) ?_
    exact go_ireturn dX4_letter_25 rfl vc

theorem bX4_readPiece_0 {h : Hp} {b : Nat × Nat} {Q : Rs → Hp → Prop} {o : Nat}  (hM : MO h o) (vc : (∃ (P3 : Int32 → Hp → Prop), Ret mX4_letter 2 [vR (some o)] h 0 0 (RI P3) ∧ ∀ z1 h2, P3 z1 h2 → (MO h2 o ∧ ((0 ≤ z1 → (∀ h6, h6 = sFI h2 417 o ((hFI h2 417 o) + (nI 1)) → (∃ (P9 : Int32 → Hp → Prop), Ret mX4_letter 2 [vR (some o)] h6 0 0 (RI P9) ∧ ∀ z7 h8, P9 z7 h8 → (MO h8 o ∧ ((z7 < 0 → (∃ (P14 : Hp → Prop), Ret mX4_wrong 0 [vR (some o)] h8 0 0 (RV P14) ∧ ∀ h13, P14 h13 → (MO h13 o ∧ Q rV h13))) ∧ (¬ z7 < 0 → ((z7 = z1 → (∃ (P19 : Hp → Prop), Ret mX4_wrong 0 [vR (some o)] h8 0 0 (RV P19) ∧ ∀ h18, P19 h18 → (MO h18 o ∧ Q rV h18))) ∧ (¬ z7 = z1 → (∃ (P23 : Int32 → Hp → Prop), Ret mX4_hasPiece 1 [vR (some o), vI (hFI h8 401 o), vI z1, vI z7] h8 0 0 (RI P23) ∧ ∀ z21 h22, P23 z21 h22 → (MO h22 o ∧ ((z21 = 0 → (∀ h26, h26 = sFI h22 417 o ((hFI h22 417 o) + (nI 1)) → (∃ (P29 : Int32 → Hp → Prop), Ret mX4_digit 2 [vR (some o)] h26 0 0 (RI P29) ∧ ∀ z27 h28, P29 z27 h28 → (MO h28 o ∧ (((hFI h28 418 o) < 0 → (∃ (P34 : Hp → Prop), Ret mX4_setPiece 1 [vR (some o), vI (hFI h28 401 o), vI z1, vI z7, vI (nI 0), vI z27, vI (nI 0)] h28 0 0 (RV P34) ∧ ∀ h33, P34 h33 → (MO h33 o ∧ (vp_in (hFI h33 419 o) 15 ∧ (∀ h36, h36 = w1 h33 (o + 14) (nt (hFI h33 419 o)) z1 → (vp_in (hFI h36 419 o) 15 ∧ (∀ h37, h37 = w1 h36 (o + 15) (nt (hFI h36 419 o)) z7 → (∀ h38, h38 = sFI h37 419 o ((hFI h37 419 o) + (nI 1)) → Q rV h38)))))))) ∧ (¬ (hFI h28 418 o) < 0 → Q rV h28)))))) ∧ (¬ z21 = 0 → (∃ (P41 : Hp → Prop), Ret mX4_wrong 0 [vR (some o)] h22 0 0 (RV P41) ∧ ∀ h40, P41 h40 → (MO h40 o ∧ Q rV h40)))))))))))))) ∧ (¬ 0 ≤ z1 → (∃ (P45 : Hp → Prop), Ret mX4_wrong 0 [vR (some o)] h2 0 0 (RV P45) ∧ ∀ h44, P45 h44 → (MO h44 o ∧ Q rV h44))))))) : AWP mX4_readPiece 3 0 [vR (some o), vU, vU, vU] [] h b Q := by
  refine go_aload_n 1 0 dX4_readPiece_0 rfl rfl rfl ?_
  obtain ⟨P3, hR, vc⟩ := vc
  refine go_callVI (M' := mX4_letter) (as := []) 4 dX4_readPiece_1 rfl q1742 okX4_letter (MO_k hM) ck_4 rfl rfl rfl rfl rfl hR ?_
  intro z1 h2 p1
  replace vc := vc z1 h2 p1
  have hM := vc.1
  replace vc := vc.2
  refine go_istore_n 5 1 [vR (some o), vI z1, vU, vU] dX4_readPiece_4 rfl rfl rfl rfl ?_
  refine go_iload_n 6 1 dX4_readPiece_5 rfl rfl rfl ?_
  refine go_if_ge 9 14 dX4_readPiece_6 rfl (by decide) (fun e5 => ?_) (fun e5 => ?_)
  · replace vc := vc.1 e5
    refine go_aload_n 15 0 dX4_readPiece_14 rfl rfl rfl ?_
    refine go_dup 16 dX4_readPiece_15 rfl rfl ?_
    refine go_getI 19 dX4_readPiece_16 rfl (MO_k hM) gfX4_217_5 rfl ?_
    refine go_iconst (v := nI 1) 20 dX4_readPiece_19 rfl (by decide) ?_
    refine go_iadd 21 dX4_readPiece_20 rfl ?_
    refine go_putI 24 dX4_readPiece_21 rfl (MO_k hM) (gpX4_217_5 _) rfl ?_
    refine AWP.nm fun h6 eh6 => ?_
    replace vc := vc h6 eh6
    have hM : MO h6 o := by rw [eh6]; exact hM
    refine go_aload_n 25 0 dX4_readPiece_24 rfl rfl rfl ?_
    obtain ⟨P9, hR, vc⟩ := vc
    refine go_callVI (M' := mX4_letter) (as := []) 28 dX4_readPiece_25 rfl q1742 okX4_letter (MO_k hM) ck_4 rfl rfl rfl rfl rfl hR ?_
    intro z7 h8 p1
    replace vc := vc z7 h8 p1
    have hM := vc.1
    replace vc := vc.2
    refine go_istore_n 29 2 [vR (some o), vI z1, vI z7, vU] dX4_readPiece_28 rfl rfl rfl rfl ?_
    refine go_iload_n 30 2 dX4_readPiece_29 rfl rfl rfl ?_
    refine go_if_lt 33 51 dX4_readPiece_30 rfl (by decide) (fun e11 => ?_) (fun e11 => ?_)
    · replace vc := vc.1 e11
      refine go_aload_n 52 0 dX4_readPiece_51 rfl rfl rfl ?_
      obtain ⟨P14, hR, vc⟩ := vc
      refine go_callVV (M' := mX4_wrong) (as := []) 55 dX4_readPiece_52 rfl q1722 okX4_wrong (MO_k hM) ck_4 rfl rfl rfl rfl rfl hR ?_
      intro h13 p1
      replace vc := vc h13 p1
      have hM := vc.1
      replace vc := vc.2
      exact go_return dX4_readPiece_55 rfl vc
    · replace vc := vc.2 e11
      refine go_iload_n 34 2 dX4_readPiece_33 rfl rfl rfl ?_
      refine go_iload_n 35 1 dX4_readPiece_34 rfl rfl rfl ?_
      refine go_icmp_eq 38 51 dX4_readPiece_35 rfl (by decide) (fun e16 => ?_) (fun e16 => ?_)
      · replace vc := vc.1 e16
        refine go_aload_n 52 0 dX4_readPiece_51 rfl rfl rfl ?_
        obtain ⟨P19, hR, vc⟩ := vc
        refine go_callVV (M' := mX4_wrong) (as := []) 55 dX4_readPiece_52 rfl q1722 okX4_wrong (MO_k hM) ck_4 rfl rfl rfl rfl rfl hR ?_
        intro h18 p1
        replace vc := vc h18 p1
        have hM := vc.1
        replace vc := vc.2
        exact go_return dX4_readPiece_55 rfl vc
      · replace vc := vc.2 e16
        refine go_aload_n 39 0 dX4_readPiece_38 rfl rfl rfl ?_
        refine go_aload_n 40 0 dX4_readPiece_39 rfl rfl rfl ?_
        refine go_getI 43 dX4_readPiece_40 rfl (MO_k hM) gfX4_200_5 rfl ?_
        refine go_iload_n 44 1 dX4_readPiece_43 rfl rfl rfl ?_
        refine go_iload_n 45 2 dX4_readPiece_44 rfl rfl rfl ?_
        obtain ⟨P23, hR, vc⟩ := vc
        refine go_callVI (M' := mX4_hasPiece) (as := [vI (hFI h8 401 o), vI z1, vI z7]) 48 dX4_readPiece_45 rfl q1750 okX4_hasPiece (MO_k hM) ck_4 rfl rfl rfl rfl rfl hR ?_
        intro z21 h22 p1
        replace vc := vc z21 h22 p1
        have hM := vc.1
        replace vc := vc.2
        refine go_if_eq 51 56 dX4_readPiece_48 rfl (by decide) (fun e25 => ?_) (fun e25 => ?_)
        · replace vc := vc.1 e25
          refine go_aload_n 57 0 dX4_readPiece_56 rfl rfl rfl ?_
          refine go_dup 58 dX4_readPiece_57 rfl rfl ?_
          refine go_getI 61 dX4_readPiece_58 rfl (MO_k hM) gfX4_217_5 rfl ?_
          refine go_iconst (v := nI 1) 62 dX4_readPiece_61 rfl (by decide) ?_
          refine go_iadd 63 dX4_readPiece_62 rfl ?_
          refine go_putI 66 dX4_readPiece_63 rfl (MO_k hM) (gpX4_217_5 _) rfl ?_
          refine AWP.nm fun h26 eh26 => ?_
          replace vc := vc h26 eh26
          have hM : MO h26 o := by rw [eh26]; exact hM
          refine go_aload_n 67 0 dX4_readPiece_66 rfl rfl rfl ?_
          obtain ⟨P29, hR, vc⟩ := vc
          refine go_callVI (M' := mX4_digit) (as := []) 70 dX4_readPiece_67 rfl q1730 okX4_digit (MO_k hM) ck_4 rfl rfl rfl rfl rfl hR ?_
          intro z27 h28 p1
          replace vc := vc z27 h28 p1
          have hM := vc.1
          replace vc := vc.2
          refine go_istore_n 71 3 [vR (some o), vI z1, vI z7, vI z27] dX4_readPiece_70 rfl rfl rfl rfl ?_
          refine go_aload_n 72 0 dX4_readPiece_71 rfl rfl rfl ?_
          refine go_getI 75 dX4_readPiece_72 rfl (MO_k hM) gfX4_220_5 rfl ?_
          refine go_if_lt 78 79 dX4_readPiece_75 rfl (by decide) (fun e31 => ?_) (fun e31 => ?_)
          · replace vc := vc.1 e31
            refine go_aload_n 80 0 dX4_readPiece_79 rfl rfl rfl ?_
            refine go_aload_n 81 0 dX4_readPiece_80 rfl rfl rfl ?_
            refine go_getI 84 dX4_readPiece_81 rfl (MO_k hM) gfX4_200_5 rfl ?_
            refine go_iload_n 85 1 dX4_readPiece_84 rfl rfl rfl ?_
            refine go_iload_n 86 2 dX4_readPiece_85 rfl rfl rfl ?_
            refine go_iconst (v := nI 0) 87 dX4_readPiece_86 rfl (by decide) ?_
            refine go_iload_n 88 3 dX4_readPiece_87 rfl rfl rfl ?_
            refine go_iconst (v := nI 0) 89 dX4_readPiece_88 rfl (by decide) ?_
            obtain ⟨P34, hR, vc⟩ := vc
            refine go_callVV (M' := mX4_setPiece) (as := [vI (hFI h28 401 o), vI z1, vI z7, vI (nI 0), vI z27, vI (nI 0)]) 92 dX4_readPiece_89 rfl q1757 okX4_setPiece (MO_k hM) ck_4 rfl rfl rfl rfl rfl hR ?_
            intro h33 p1
            replace vc := vc h33 p1
            have hM := vc.1
            replace vc := vc.2
            refine go_aload_n 93 0 dX4_readPiece_92 rfl rfl rfl ?_
            refine go_getRe 96 dX4_readPiece_93 rfl (MO_k hM) gfX4_51_5 rfl (MO_f1420 hM) ?_
            refine go_aload_n 97 0 dX4_readPiece_96 rfl rfl rfl ?_
            refine go_getI 100 dX4_readPiece_97 rfl (MO_k hM) gfX4_248_5 rfl ?_
            refine go_iload_n 101 1 dX4_readPiece_100 rfl rfl rfl ?_
            refine go_iastore 102 dX4_readPiece_101 rfl (MO_k14 hM) vc.1 ?_
            replace vc := vc.2
            refine AWP.nm fun h36 eh36 => ?_
            replace vc := vc h36 eh36
            have hM : MO h36 o := by rw [eh36]; exact hM
            refine go_aload_n 103 0 dX4_readPiece_102 rfl rfl rfl ?_
            refine go_getRe 106 dX4_readPiece_103 rfl (MO_k hM) gfX4_54_5 rfl (MO_f1421 hM) ?_
            refine go_aload_n 107 0 dX4_readPiece_106 rfl rfl rfl ?_
            refine go_getI 110 dX4_readPiece_107 rfl (MO_k hM) gfX4_248_5 rfl ?_
            refine go_iload_n 111 2 dX4_readPiece_110 rfl rfl rfl ?_
            refine go_iastore 112 dX4_readPiece_111 rfl (MO_k15 hM) vc.1 ?_
            replace vc := vc.2
            refine AWP.nm fun h37 eh37 => ?_
            replace vc := vc h37 eh37
            have hM : MO h37 o := by rw [eh37]; exact hM
            refine go_aload_n 113 0 dX4_readPiece_112 rfl rfl rfl ?_
            refine go_dup 114 dX4_readPiece_113 rfl rfl ?_
            refine go_getI 117 dX4_readPiece_114 rfl (MO_k hM) gfX4_248_5 rfl ?_
            refine go_iconst (v := nI 1) 118 dX4_readPiece_117 rfl (by decide) ?_
            refine go_iadd 119 dX4_readPiece_118 rfl ?_
            refine go_putI 122 dX4_readPiece_119 rfl (MO_k hM) (gpX4_248_5 _) rfl ?_
            refine AWP.nm fun h38 eh38 => ?_
            replace vc := vc h38 eh38
            have hM : MO h38 o := by rw [eh38]; exact hM
            exact go_return dX4_readPiece_122 rfl vc
          · replace vc := vc.2 e31
            exact go_return dX4_readPiece_78 rfl vc
        · replace vc := vc.2 e25
          refine go_aload_n 52 0 dX4_readPiece_51 rfl rfl rfl ?_
          obtain ⟨P41, hR, vc⟩ := vc
          refine go_callVV (M' := mX4_wrong) (as := []) 55 dX4_readPiece_52 rfl q1722 okX4_wrong (MO_k hM) ck_4 rfl rfl rfl rfl rfl hR ?_
          intro h40 p1
          replace vc := vc h40 p1
          have hM := vc.1
          replace vc := vc.2
          exact go_return dX4_readPiece_55 rfl vc
  · replace vc := vc.2 e5
    refine go_aload_n 10 0 dX4_readPiece_9 rfl rfl rfl ?_
    obtain ⟨P45, hR, vc⟩ := vc
    refine go_callVV (M' := mX4_wrong) (as := []) 13 dX4_readPiece_10 rfl q1722 okX4_wrong (MO_k hM) ck_4 rfl rfl rfl rfl rfl hR ?_
    intro h44 p1
    replace vc := vc h44 p1
    have hM := vc.1
    replace vc := vc.2
    exact go_return dX4_readPiece_13 rfl vc

theorem bX4_readPart_0 {h : Hp} {b : Nat × Nat} {Q : Rs → Hp → Prop} {o : Nat}  (hM : MO h o) (vc : (∃ (P3 : Int32 → Hp → Prop), Ret mX4_look 0 [vR (some o)] h 0 0 (RI P3) ∧ ∀ z1 h2, P3 z1 h2 → (MO h2 o ∧ ((z1 = (nI 112) → AWP mX4_readPart 4 34 [vR (some o), vI z1, vU, vU, vU, vU] [] h2 b Q) ∧ (¬ z1 = (nI 112) → ((z1 = (nI 115) → AWP mX4_readPart 4 34 [vR (some o), vI z1, vU, vU, vU, vU] [] h2 b Q) ∧ (¬ z1 = (nI 115) → ((z1 = (nI 104) → AWP mX4_readPart 4 34 [vR (some o), vI z1, vU, vU, vU, vU] [] h2 b Q) ∧ (¬ z1 = (nI 104) → ((z1 = (nI 119) → AWP mX4_readPart 4 34 [vR (some o), vI z1, vU, vU, vU, vU] [] h2 b Q) ∧ (¬ z1 = (nI 119) → (∃ (P11 : Hp → Prop), Ret mX4_wrong 0 [vR (some o)] h2 0 0 (RV P11) ∧ ∀ h10, P11 h10 → (MO h10 o ∧ Q rV h10))))))))))))) : AWP mX4_readPart 4 0 [vR (some o), vU, vU, vU, vU, vU] [] h b Q := by
  refine go_aload_n 1 0 dX4_readPart_0 rfl rfl rfl ?_
  obtain ⟨P3, hR, vc⟩ := vc
  refine go_callVI (M' := mX4_look) (as := []) 4 dX4_readPart_1 rfl q1718 okX4_look (MO_k hM) ck_4 rfl rfl rfl rfl rfl hR ?_
  intro z1 h2 p1
  replace vc := vc z1 h2 p1
  have hM := vc.1
  replace vc := vc.2
  refine go_istore_n 5 1 [vR (some o), vI z1, vU, vU, vU, vU] dX4_readPart_4 rfl rfl rfl rfl ?_
  refine go_iload_n 6 1 dX4_readPart_5 rfl rfl rfl ?_
  refine go_bipush (v := nI 112) 8 dX4_readPart_6 rfl (by decide) ?_
  refine go_icmp_eq 11 34 dX4_readPart_8 rfl (by decide) (fun e5 => ?_) (fun e5 => ?_)
  · replace vc := vc.1 e5
    exact vc
  · replace vc := vc.2 e5
    refine go_iload_n 12 1 dX4_readPart_11 rfl rfl rfl ?_
    refine go_bipush (v := nI 115) 14 dX4_readPart_12 rfl (by decide) ?_
    refine go_icmp_eq 17 34 dX4_readPart_14 rfl (by decide) (fun e6 => ?_) (fun e6 => ?_)
    · replace vc := vc.1 e6
      exact vc
    · replace vc := vc.2 e6
      refine go_iload_n 18 1 dX4_readPart_17 rfl rfl rfl ?_
      refine go_bipush (v := nI 104) 20 dX4_readPart_18 rfl (by decide) ?_
      refine go_icmp_eq 23 34 dX4_readPart_20 rfl (by decide) (fun e7 => ?_) (fun e7 => ?_)
      · replace vc := vc.1 e7
        exact vc
      · replace vc := vc.2 e7
        refine go_iload_n 24 1 dX4_readPart_23 rfl rfl rfl ?_
        refine go_bipush (v := nI 119) 26 dX4_readPart_24 rfl (by decide) ?_
        refine go_icmp_eq 29 34 dX4_readPart_26 rfl (by decide) (fun e8 => ?_) (fun e8 => ?_)
        · replace vc := vc.1 e8
          exact vc
        · replace vc := vc.2 e8
          refine go_aload_n 30 0 dX4_readPart_29 rfl rfl rfl ?_
          obtain ⟨P11, hR, vc⟩ := vc
          refine go_callVV (M' := mX4_wrong) (as := []) 33 dX4_readPart_30 rfl q1722 okX4_wrong (MO_k hM) ck_4 rfl rfl rfl rfl rfl hR ?_
          intro h10 p1
          replace vc := vc h10 p1
          have hM := vc.1
          replace vc := vc.2
          exact go_return dX4_readPart_33 rfl vc

theorem bX4_readPart_34 {h : Hp} {b : Nat × Nat} {Q : Rs → Hp → Prop} {o : Nat} {x1 : Int32} (hM : MO h o) (vc : (∀ h1, h1 = sFI h 417 o ((hFI h 417 o) + (nI 1)) → ((¬ x1 = (nI 112) → (∃ (P5 : Int32 → Hp → Prop), Ret mX4_letter 2 [vR (some o)] h1 0 0 (RI P5) ∧ ∀ z3 h4, P5 z3 h4 → (MO h4 o ∧ ((z3 < 0 → AWP mX4_readPart 4 122 [vR (some o), vI x1, vI z3, vU, vU, vU] [vI (nI 0)] h4 b Q) ∧ (¬ z3 < 0 → ((¬ x1 = (nI 115) → ((¬ x1 = (nI 119) → (vp_in (((nI 6) * (hFI h4 401 o)) + z3) 78 ∧ (((hAI h4 (o + 5) (nt (((nI 6) * (hFI h4 401 o)) + z3))) = 0 → AWP mX4_readPart 4 122 [vR (some o), vI x1, vI z3, vU, vU, vU] [vI (nI 0)] h4 b Q) ∧ (¬ (hAI h4 (o + 5) (nt (((nI 6) * (hFI h4 401 o)) + z3))) = 0 → AWP mX4_readPart 4 122 [vR (some o), vI x1, vI z3, vU, vU, vU] [vI (nI 1)] h4 b Q)))) ∧ (x1 = (nI 119) → (vp_in z3 6 ∧ (((hAI h4 (o + 17) (nt z3)) = 0 → AWP mX4_readPart 4 122 [vR (some o), vI x1, vI z3, vU, vU, vU] [vI (nI 0)] h4 b Q) ∧ (¬ (hAI h4 (o + 17) (nt z3)) = 0 → AWP mX4_readPart 4 122 [vR (some o), vI x1, vI z3, vU, vU, vU] [vI (nI 1)] h4 b Q)))))) ∧ (x1 = (nI 115) → (vp_in z3 6 ∧ (((hAI h4 (o + 16) (nt z3)) = 0 → AWP mX4_readPart 4 122 [vR (some o), vI x1, vI z3, vU, vU, vU] [vI (nI 0)] h4 b Q) ∧ (¬ (hAI h4 (o + 16) (nt z3)) = 0 → AWP mX4_readPart 4 122 [vR (some o), vI x1, vI z3, vU, vU, vU] [vI (nI 1)] h4 b Q)))))))))) ∧ (x1 = (nI 112) → (∃ (P15 : Hp → Prop), Ret mX4_readPiece 3 [vR (some o)] h1 0 0 (RV P15) ∧ ∀ h14, P15 h14 → (MO h14 o ∧ Q rV h14)))))) : AWP mX4_readPart 4 34 [vR (some o), vI x1, vU, vU, vU, vU] [] h b Q := by
  refine go_aload_n 35 0 dX4_readPart_34 rfl rfl rfl ?_
  refine go_dup 36 dX4_readPart_35 rfl rfl ?_
  refine go_getI 39 dX4_readPart_36 rfl (MO_k hM) gfX4_217_5 rfl ?_
  refine go_iconst (v := nI 1) 40 dX4_readPart_39 rfl (by decide) ?_
  refine go_iadd 41 dX4_readPart_40 rfl ?_
  refine go_putI 44 dX4_readPart_41 rfl (MO_k hM) (gpX4_217_5 _) rfl ?_
  refine AWP.nm fun h1 eh1 => ?_
  replace vc := vc h1 eh1
  have hM : MO h1 o := by rw [eh1]; exact hM
  refine go_iload_n 45 1 dX4_readPart_44 rfl rfl rfl ?_
  refine go_bipush (v := nI 112) 47 dX4_readPart_45 rfl (by decide) ?_
  refine go_icmp_ne 50 55 dX4_readPart_47 rfl (by decide) (fun e2 => ?_) (fun e2 => ?_)
  · replace vc := vc.1 e2
    refine go_aload_n 56 0 dX4_readPart_55 rfl rfl rfl ?_
    obtain ⟨P5, hR, vc⟩ := vc
    refine go_callVI (M' := mX4_letter) (as := []) 59 dX4_readPart_56 rfl q1742 okX4_letter (MO_k hM) ck_4 rfl rfl rfl rfl rfl hR ?_
    intro z3 h4 p1
    replace vc := vc z3 h4 p1
    have hM := vc.1
    replace vc := vc.2
    refine go_istore_n 60 2 [vR (some o), vI x1, vI z3, vU, vU, vU] dX4_readPart_59 rfl rfl rfl rfl ?_
    refine go_iload_n 61 2 dX4_readPart_60 rfl rfl rfl ?_
    refine go_if_lt 64 121 dX4_readPart_61 rfl (by decide) (fun e7 => ?_) (fun e7 => ?_)
    · replace vc := vc.1 e7
      refine go_iconst (v := nI 0) 122 dX4_readPart_121 rfl (by decide) ?_
      exact vc
    · replace vc := vc.2 e7
      refine go_iload_n 65 1 dX4_readPart_64 rfl rfl rfl ?_
      refine go_bipush (v := nI 115) 67 dX4_readPart_65 rfl (by decide) ?_
      refine go_icmp_ne 70 82 dX4_readPart_67 rfl (by decide) (fun e8 => ?_) (fun e8 => ?_)
      · replace vc := vc.1 e8
        refine go_iload_n 83 1 dX4_readPart_82 rfl rfl rfl ?_
        refine go_bipush (v := nI 119) 85 dX4_readPart_83 rfl (by decide) ?_
        refine go_icmp_ne 88 100 dX4_readPart_85 rfl (by decide) (fun e9 => ?_) (fun e9 => ?_)
        · replace vc := vc.1 e9
          refine go_aload_n 101 0 dX4_readPart_100 rfl rfl rfl ?_
          refine go_getRe 104 dX4_readPart_101 rfl (MO_k hM) gfX4_22_5 rfl (MO_f1406 hM) ?_
          refine go_bipush (v := nI 6) 106 dX4_readPart_104 rfl (by decide) ?_
          refine go_aload_n 107 0 dX4_readPart_106 rfl rfl rfl ?_
          refine go_getI 110 dX4_readPart_107 rfl (MO_k hM) gfX4_200_5 rfl ?_
          refine go_imul 111 dX4_readPart_110 rfl ?_
          refine go_iload_n 112 2 dX4_readPart_111 rfl rfl rfl ?_
          refine go_iadd 113 dX4_readPart_112 rfl ?_
          refine go_baloadZ 114 dX4_readPart_113 rfl (MO_k5 hM) vc.1 ?_
          replace vc := vc.2
          refine go_if_eq 117 121 dX4_readPart_114 rfl (by decide) (fun e10 => ?_) (fun e10 => ?_)
          · replace vc := vc.1 e10
            refine go_iconst (v := nI 0) 122 dX4_readPart_121 rfl (by decide) ?_
            exact vc
          · replace vc := vc.2 e10
            refine go_iconst (v := nI 1) 118 dX4_readPart_117 rfl (by decide) ?_
            refine go_goto 122 dX4_readPart_118 (by decide) ?_
            exact vc
        · replace vc := vc.2 e9
          refine go_aload_n 89 0 dX4_readPart_88 rfl rfl rfl ?_
          refine go_getRe 92 dX4_readPart_89 rfl (MO_k hM) gfX4_60_5 rfl (MO_f1423 hM) ?_
          refine go_iload_n 93 2 dX4_readPart_92 rfl rfl rfl ?_
          refine go_baloadZ 94 dX4_readPart_93 rfl (MO_k17 hM) vc.1 ?_
          replace vc := vc.2
          refine go_if_eq 97 121 dX4_readPart_94 rfl (by decide) (fun e11 => ?_) (fun e11 => ?_)
          · replace vc := vc.1 e11
            refine go_iconst (v := nI 0) 122 dX4_readPart_121 rfl (by decide) ?_
            exact vc
          · replace vc := vc.2 e11
            refine go_goto 117 dX4_readPart_97 (by decide) ?_
            refine go_iconst (v := nI 1) 118 dX4_readPart_117 rfl (by decide) ?_
            refine go_goto 122 dX4_readPart_118 (by decide) ?_
            exact vc
      · replace vc := vc.2 e8
        refine go_aload_n 71 0 dX4_readPart_70 rfl rfl rfl ?_
        refine go_getRe 74 dX4_readPart_71 rfl (MO_k hM) gfX4_57_5 rfl (MO_f1422 hM) ?_
        refine go_iload_n 75 2 dX4_readPart_74 rfl rfl rfl ?_
        refine go_baloadZ 76 dX4_readPart_75 rfl (MO_k16 hM) vc.1 ?_
        replace vc := vc.2
        refine go_if_eq 79 121 dX4_readPart_76 rfl (by decide) (fun e12 => ?_) (fun e12 => ?_)
        · replace vc := vc.1 e12
          refine go_iconst (v := nI 0) 122 dX4_readPart_121 rfl (by decide) ?_
          exact vc
        · replace vc := vc.2 e12
          refine go_goto 117 dX4_readPart_79 (by decide) ?_
          refine go_iconst (v := nI 1) 118 dX4_readPart_117 rfl (by decide) ?_
          refine go_goto 122 dX4_readPart_118 (by decide) ?_
          exact vc
  · replace vc := vc.2 e2
    refine go_aload_n 51 0 dX4_readPart_50 rfl rfl rfl ?_
    obtain ⟨P15, hR, vc⟩ := vc
    refine go_callVV (M' := mX4_readPiece) (as := []) 54 dX4_readPart_51 rfl q1738 okX4_readPiece (MO_k hM) ck_4 rfl rfl rfl rfl rfl hR ?_
    intro h14 p1
    replace vc := vc h14 p1
    have hM := vc.1
    replace vc := vc.2
    exact go_return dX4_readPart_54 rfl vc

theorem bX4_readPart_122 {h : Hp} {b : Nat × Nat} {Q : Rs → Hp → Prop} {o : Nat} {x1 : Int32} {x2 : Int32} {s0 : Int32} (hM : MO h o) (vc : ((x2 < 0 → (∃ (P4 : Hp → Prop), Ret mX4_wrong 0 [vR (some o)] h 0 0 (RV P4) ∧ ∀ h3, P4 h3 → (MO h3 o ∧ Q rV h3))) ∧ (¬ x2 < 0 → ((s0 = 0 → (∀ h7, h7 = sFI h 417 o ((hFI h 417 o) + (nI 1)) → ((¬ x1 = (nI 104) → (∃ (P11 : Int32 → Hp → Prop), Ret mX4_digit 2 [vR (some o)] h7 0 0 (RI P11) ∧ ∀ z9 h10, P11 z9 h10 → (MO h10 o ∧ (((hFI h10 418 o) < 0 → ((¬ x1 = (nI 115) → (vp_in (((nI 6) * (hFI h7 401 o)) + x2) 78 ∧ (∀ h15, h15 = w1 h10 (o + 4) (nt (((nI 6) * (hFI h7 401 o)) + x2)) z9 → (vp_in x2 6 ∧ (∀ h16, h16 = w1 h15 (o + 17) (nt x2) (vp_nar .boolean (nI 1)) → Q rV h16))))) ∧ (x1 = (nI 115) → (vp_in (((nI 6) * (hFI h7 401 o)) + x2) 78 ∧ (∀ h17, h17 = w1 h10 (o + 3) (nt (((nI 6) * (hFI h7 401 o)) + x2)) z9 → (vp_in x2 6 ∧ (∀ h18, h18 = w1 h17 (o + 16) (nt x2) (vp_nar .boolean (nI 1)) → Q rV h18))))))) ∧ (¬ (hFI h10 418 o) < 0 → Q rV h10))))) ∧ (x1 = (nI 104) → (vp_in (((nI 6) * (hFI h7 401 o)) + x2) 78 ∧ (∀ h19, h19 = w1 h7 (o + 5) (nt (((nI 6) * (hFI h7 401 o)) + x2)) (vp_nar .boolean (nI 1)) → Q rV h19)))))) ∧ (¬ s0 = 0 → (∃ (P22 : Hp → Prop), Ret mX4_wrong 0 [vR (some o)] h 0 0 (RV P22) ∧ ∀ h21, P22 h21 → (MO h21 o ∧ Q rV h21))))))) : AWP mX4_readPart 4 122 [vR (some o), vI x1, vI x2, vU, vU, vU] [vI s0] h b Q := by
  refine go_istore_n 123 3 [vR (some o), vI x1, vI x2, vI s0, vU, vU] dX4_readPart_122 rfl rfl rfl rfl ?_
  refine go_iload_n 124 2 dX4_readPart_123 rfl rfl rfl ?_
  refine go_if_lt 127 131 dX4_readPart_124 rfl (by decide) (fun e1 => ?_) (fun e1 => ?_)
  · replace vc := vc.1 e1
    refine go_aload_n 132 0 dX4_readPart_131 rfl rfl rfl ?_
    obtain ⟨P4, hR, vc⟩ := vc
    refine go_callVV (M' := mX4_wrong) (as := []) 135 dX4_readPart_132 rfl q1722 okX4_wrong (MO_k hM) ck_4 rfl rfl rfl rfl rfl hR ?_
    intro h3 p1
    replace vc := vc h3 p1
    have hM := vc.1
    replace vc := vc.2
    exact go_return dX4_readPart_135 rfl vc
  · replace vc := vc.2 e1
    refine go_iload_n 128 3 dX4_readPart_127 rfl rfl rfl ?_
    refine go_if_eq 131 136 dX4_readPart_128 rfl (by decide) (fun e6 => ?_) (fun e6 => ?_)
    · replace vc := vc.1 e6
      refine go_aload_n 137 0 dX4_readPart_136 rfl rfl rfl ?_
      refine go_dup 138 dX4_readPart_137 rfl rfl ?_
      refine go_getI 141 dX4_readPart_138 rfl (MO_k hM) gfX4_217_5 rfl ?_
      refine go_iconst (v := nI 1) 142 dX4_readPart_141 rfl (by decide) ?_
      refine go_iadd 143 dX4_readPart_142 rfl ?_
      refine go_putI 146 dX4_readPart_143 rfl (MO_k hM) (gpX4_217_5 _) rfl ?_
      refine AWP.nm fun h7 eh7 => ?_
      replace vc := vc h7 eh7
      have hM : MO h7 o := by rw [eh7]; exact hM
      refine go_bipush (v := nI 6) 148 dX4_readPart_146 rfl (by decide) ?_
      refine go_aload_n 149 0 dX4_readPart_148 rfl rfl rfl ?_
      refine go_getI 152 dX4_readPart_149 rfl (MO_k hM) gfX4_200_5 rfl ?_
      refine go_imul 153 dX4_readPart_152 rfl ?_
      refine go_iload_n 154 2 dX4_readPart_153 rfl rfl rfl ?_
      refine go_iadd 155 dX4_readPart_154 rfl ?_
      refine go_istore 157 [vR (some o), vI x1, vI x2, vI s0, vI (((nI 6) * (hFI h7 401 o)) + x2), vU] dX4_readPart_155 rfl rfl rfl ?_
      refine go_iload_n 158 1 dX4_readPart_157 rfl rfl rfl ?_
      refine go_bipush (v := nI 104) 160 dX4_readPart_158 rfl (by decide) ?_
      refine go_icmp_ne 163 172 dX4_readPart_160 rfl (by decide) (fun e8 => ?_) (fun e8 => ?_)
      · replace vc := vc.1 e8
        refine go_aload_n 173 0 dX4_readPart_172 rfl rfl rfl ?_
        obtain ⟨P11, hR, vc⟩ := vc
        refine go_callVI (M' := mX4_digit) (as := []) 176 dX4_readPart_173 rfl q1730 okX4_digit (MO_k hM) ck_4 rfl rfl rfl rfl rfl hR ?_
        intro z9 h10 p1
        replace vc := vc z9 h10 p1
        have hM := vc.1
        replace vc := vc.2
        refine go_istore 178 [vR (some o), vI x1, vI x2, vI s0, vI (((nI 6) * (hFI h7 401 o)) + x2), vI z9] dX4_readPart_176 rfl rfl rfl ?_
        refine go_aload_n 179 0 dX4_readPart_178 rfl rfl rfl ?_
        refine go_getI 182 dX4_readPart_179 rfl (MO_k hM) gfX4_220_5 rfl ?_
        refine go_if_lt 185 186 dX4_readPart_182 rfl (by decide) (fun e13 => ?_) (fun e13 => ?_)
        · replace vc := vc.1 e13
          refine go_iload_n 187 1 dX4_readPart_186 rfl rfl rfl ?_
          refine go_bipush (v := nI 115) 189 dX4_readPart_187 rfl (by decide) ?_
          refine go_icmp_ne 192 211 dX4_readPart_189 rfl (by decide) (fun e14 => ?_) (fun e14 => ?_)
          · replace vc := vc.1 e14
            refine go_aload_n 212 0 dX4_readPart_211 rfl rfl rfl ?_
            refine go_getRe 215 dX4_readPart_212 rfl (MO_k hM) gfX4_19_5 rfl (MO_f1405 hM) ?_
            refine go_iload 217 dX4_readPart_215 rfl rfl ?_
            refine go_iload 219 dX4_readPart_217 rfl rfl ?_
            refine go_iastore 220 dX4_readPart_219 rfl (MO_k4 hM) vc.1 ?_
            replace vc := vc.2
            refine AWP.nm fun h15 eh15 => ?_
            replace vc := vc h15 eh15
            have hM : MO h15 o := by rw [eh15]; exact hM
            refine go_aload_n 221 0 dX4_readPart_220 rfl rfl rfl ?_
            refine go_getRe 224 dX4_readPart_221 rfl (MO_k hM) gfX4_60_5 rfl (MO_f1423 hM) ?_
            refine go_iload_n 225 2 dX4_readPart_224 rfl rfl rfl ?_
            refine go_iconst (v := nI 1) 226 dX4_readPart_225 rfl (by decide) ?_
            refine go_bastoreZ 227 dX4_readPart_226 rfl (MO_k17 hM) vc.1 ?_
            replace vc := vc.2
            refine AWP.nm fun h16 eh16 => ?_
            replace vc := vc h16 eh16
            have hM : MO h16 o := by rw [eh16]; exact hM
            exact go_return dX4_readPart_227 rfl vc
          · replace vc := vc.2 e14
            refine go_aload_n 193 0 dX4_readPart_192 rfl rfl rfl ?_
            refine go_getRe 196 dX4_readPart_193 rfl (MO_k hM) gfX4_16_5 rfl (MO_f1404 hM) ?_
            refine go_iload 198 dX4_readPart_196 rfl rfl ?_
            refine go_iload 200 dX4_readPart_198 rfl rfl ?_
            refine go_iastore 201 dX4_readPart_200 rfl (MO_k3 hM) vc.1 ?_
            replace vc := vc.2
            refine AWP.nm fun h17 eh17 => ?_
            replace vc := vc h17 eh17
            have hM : MO h17 o := by rw [eh17]; exact hM
            refine go_aload_n 202 0 dX4_readPart_201 rfl rfl rfl ?_
            refine go_getRe 205 dX4_readPart_202 rfl (MO_k hM) gfX4_57_5 rfl (MO_f1422 hM) ?_
            refine go_iload_n 206 2 dX4_readPart_205 rfl rfl rfl ?_
            refine go_iconst (v := nI 1) 207 dX4_readPart_206 rfl (by decide) ?_
            refine go_bastoreZ 208 dX4_readPart_207 rfl (MO_k16 hM) vc.1 ?_
            replace vc := vc.2
            refine AWP.nm fun h18 eh18 => ?_
            replace vc := vc h18 eh18
            have hM : MO h18 o := by rw [eh18]; exact hM
            refine go_goto 227 dX4_readPart_208 (by decide) ?_
            exact go_return dX4_readPart_227 rfl vc
        · replace vc := vc.2 e13
          exact go_return dX4_readPart_185 rfl vc
      · replace vc := vc.2 e8
        refine go_aload_n 164 0 dX4_readPart_163 rfl rfl rfl ?_
        refine go_getRe 167 dX4_readPart_164 rfl (MO_k hM) gfX4_22_5 rfl (MO_f1406 hM) ?_
        refine go_iload 169 dX4_readPart_167 rfl rfl ?_
        refine go_iconst (v := nI 1) 170 dX4_readPart_169 rfl (by decide) ?_
        refine go_bastoreZ 171 dX4_readPart_170 rfl (MO_k5 hM) vc.1 ?_
        replace vc := vc.2
        refine AWP.nm fun h19 eh19 => ?_
        replace vc := vc h19 eh19
        have hM : MO h19 o := by rw [eh19]; exact hM
        exact go_return dX4_readPart_171 rfl vc
    · replace vc := vc.2 e6
      refine go_aload_n 132 0 dX4_readPart_131 rfl rfl rfl ?_
      obtain ⟨P22, hR, vc⟩ := vc
      refine go_callVV (M' := mX4_wrong) (as := []) 135 dX4_readPart_132 rfl q1722 okX4_wrong (MO_k hM) ck_4 rfl rfl rfl rfl rfl hR ?_
      intro h21 p1
      replace vc := vc h21 p1
      have hM := vc.1
      replace vc := vc.2
      exact go_return dX4_readPart_135 rfl vc

theorem bX4_readShape_0 {h : Hp} {b : Nat × Nat} {Q : Rs → Hp → Prop} {o : Nat}  (hM : MO h o) (vc : (∀ h1, h1 = sFI h 417 o (nI 0) → (∀ h2, h2 = sFI h1 418 o (-1) → (∀ h3, h3 = sFI h2 419 o (nI 0) → (∃ (P6 : Hp → Prop), Ret mX4_clear 0 [vR (some o), vI (hFI h3 401 o)] h3 0 0 (RV P6) ∧ ∀ h5, P6 h5 → (MO h5 o ∧ AWP mX4_readShape 5 25 [vR (some o), vI (nI 0)] [] h5 b Q)))))) : AWP mX4_readShape 5 0 [vR (some o), vU] [] h b Q := by
  refine go_aload_n 1 0 dX4_readShape_0 rfl rfl rfl ?_
  refine go_iconst (v := nI 0) 2 dX4_readShape_1 rfl (by decide) ?_
  refine go_putI 5 dX4_readShape_2 rfl (MO_k hM) (gpX4_217_5 _) rfl ?_
  refine AWP.nm fun h1 eh1 => ?_
  replace vc := vc h1 eh1
  have hM : MO h1 o := by rw [eh1]; exact hM
  refine go_aload_n 6 0 dX4_readShape_5 rfl rfl rfl ?_
  refine go_iconst (v := (-1)) 7 dX4_readShape_6 rfl (by decide) ?_
  refine go_putI 10 dX4_readShape_7 rfl (MO_k hM) (gpX4_220_5 _) rfl ?_
  refine AWP.nm fun h2 eh2 => ?_
  replace vc := vc h2 eh2
  have hM : MO h2 o := by rw [eh2]; exact hM
  refine go_aload_n 11 0 dX4_readShape_10 rfl rfl rfl ?_
  refine go_iconst (v := nI 0) 12 dX4_readShape_11 rfl (by decide) ?_
  refine go_putI 15 dX4_readShape_12 rfl (MO_k hM) (gpX4_248_5 _) rfl ?_
  refine AWP.nm fun h3 eh3 => ?_
  replace vc := vc h3 eh3
  have hM : MO h3 o := by rw [eh3]; exact hM
  refine go_aload_n 16 0 dX4_readShape_15 rfl rfl rfl ?_
  refine go_aload_n 17 0 dX4_readShape_16 rfl rfl rfl ?_
  refine go_getI 20 dX4_readShape_17 rfl (MO_k hM) gfX4_200_5 rfl ?_
  obtain ⟨P6, hR, vc⟩ := vc
  refine go_callVV (M' := mX4_clear) (as := [vI (hFI h3 401 o)]) 23 dX4_readShape_20 rfl q1714 okX4_clear (MO_k hM) ck_4 rfl rfl rfl rfl rfl hR ?_
  intro h5 p1
  replace vc := vc h5 p1
  have hM := vc.1
  replace vc := vc.2
  refine go_iconst (v := nI 0) 24 dX4_readShape_23 rfl (by decide) ?_
  refine go_istore_n 25 1 [vR (some o), vI (nI 0)] dX4_readShape_24 rfl rfl rfl rfl ?_
  exact vc

theorem bX4_readShape_25 {h : Hp} {b : Nat × Nat} {Q : Rs → Hp → Prop} {o : Nat} {x1 : Int32} (hM : MO h o) (vc : (((nI 6) ≤ x1 → (∃ (P4 : Int32 → Hp → Prop), Ret mX4_look 0 [vR (some o)] h 0 0 (RI P4) ∧ ∀ z2 h3, P4 z2 h3 → (MO h3 o ∧ ((z2 = (nI 99) → (∀ h7, h7 = sFI h3 417 o ((hFI h3 417 o) + (nI 1)) → AWP mX4_readShape 5 75 [vR (some o), vI x1] [] h7 b Q)) ∧ (¬ z2 = (nI 99) → (∃ (P10 : Hp → Prop), Ret mX4_wrong 0 [vR (some o)] h3 0 0 (RV P10) ∧ ∀ h9, P10 h9 → (MO h9 o ∧ Q rV h9))))))) ∧ (¬ (nI 6) ≤ x1 → (vp_in x1 6 ∧ (∀ h12, h12 = w1 h (o + 16) (nt x1) (vp_nar .boolean (nI 0)) → (vp_in x1 6 ∧ (∀ h13, h13 = w1 h12 (o + 17) (nt x1) (vp_nar .boolean (nI 0)) → AWP mX4_readShape 5 25 [vR (some o), vI (x1 + nI 1)] [] h13 b Q))))))) : AWP mX4_readShape 5 25 [vR (some o), vI x1] [] h b Q := by
  refine go_iload_n 26 1 dX4_readShape_25 rfl rfl rfl ?_
  refine go_bipush (v := nI 6) 28 dX4_readShape_26 rfl (by decide) ?_
  refine go_icmp_ge 31 51 dX4_readShape_28 rfl (by decide) (fun e1 => ?_) (fun e1 => ?_)
  · replace vc := vc.1 e1
    refine go_aload_n 52 0 dX4_readShape_51 rfl rfl rfl ?_
    obtain ⟨P4, hR, vc⟩ := vc
    refine go_callVI (M' := mX4_look) (as := []) 55 dX4_readShape_52 rfl q1718 okX4_look (MO_k hM) ck_4 rfl rfl rfl rfl rfl hR ?_
    intro z2 h3 p1
    replace vc := vc z2 h3 p1
    have hM := vc.1
    replace vc := vc.2
    refine go_bipush (v := nI 99) 57 dX4_readShape_55 rfl (by decide) ?_
    refine go_icmp_eq 60 65 dX4_readShape_57 rfl (by decide) (fun e6 => ?_) (fun e6 => ?_)
    · replace vc := vc.1 e6
      refine go_aload_n 66 0 dX4_readShape_65 rfl rfl rfl ?_
      refine go_dup 67 dX4_readShape_66 rfl rfl ?_
      refine go_getI 70 dX4_readShape_67 rfl (MO_k hM) gfX4_217_5 rfl ?_
      refine go_iconst (v := nI 1) 71 dX4_readShape_70 rfl (by decide) ?_
      refine go_iadd 72 dX4_readShape_71 rfl ?_
      refine go_putI 75 dX4_readShape_72 rfl (MO_k hM) (gpX4_217_5 _) rfl ?_
      refine AWP.nm fun h7 eh7 => ?_
      replace vc := vc h7 eh7
      have hM : MO h7 o := by rw [eh7]; exact hM
      exact vc
    · replace vc := vc.2 e6
      refine go_aload_n 61 0 dX4_readShape_60 rfl rfl rfl ?_
      obtain ⟨P10, hR, vc⟩ := vc
      refine go_callVV (M' := mX4_wrong) (as := []) 64 dX4_readShape_61 rfl q1722 okX4_wrong (MO_k hM) ck_4 rfl rfl rfl rfl rfl hR ?_
      intro h9 p1
      replace vc := vc h9 p1
      have hM := vc.1
      replace vc := vc.2
      exact go_return dX4_readShape_64 rfl vc
  · replace vc := vc.2 e1
    refine go_aload_n 32 0 dX4_readShape_31 rfl rfl rfl ?_
    refine go_getRe 35 dX4_readShape_32 rfl (MO_k hM) gfX4_57_5 rfl (MO_f1422 hM) ?_
    refine go_iload_n 36 1 dX4_readShape_35 rfl rfl rfl ?_
    refine go_iconst (v := nI 0) 37 dX4_readShape_36 rfl (by decide) ?_
    refine go_bastoreZ 38 dX4_readShape_37 rfl (MO_k16 hM) vc.1 ?_
    replace vc := vc.2
    refine AWP.nm fun h12 eh12 => ?_
    replace vc := vc h12 eh12
    have hM : MO h12 o := by rw [eh12]; exact hM
    refine go_aload_n 39 0 dX4_readShape_38 rfl rfl rfl ?_
    refine go_getRe 42 dX4_readShape_39 rfl (MO_k hM) gfX4_60_5 rfl (MO_f1423 hM) ?_
    refine go_iload_n 43 1 dX4_readShape_42 rfl rfl rfl ?_
    refine go_iconst (v := nI 0) 44 dX4_readShape_43 rfl (by decide) ?_
    refine go_bastoreZ 45 dX4_readShape_44 rfl (MO_k17 hM) vc.1 ?_
    replace vc := vc.2
    refine AWP.nm fun h13 eh13 => ?_
    replace vc := vc h13 eh13
    have hM : MO h13 o := by rw [eh13]; exact hM
    refine go_iinc 48 (x1 + nI 1) [vR (some o), vI (x1 + nI 1)] dX4_readShape_45 rfl rfl (by rfl) rfl rfl ?_
    refine go_goto 25 dX4_readShape_48 (by decide) ?_
    exact vc

theorem bX4_readShape_75 {h : Hp} {b : Nat × Nat} {Q : Rs → Hp → Prop} {o : Nat} {x1 : Int32} (hM : MO h o) (vc : (vp_in (hFI h 401 o) 13 ∧ (((nI 6) ≤ (hAI h (o + 1) (nt (hFI h 401 o))) → (vp_in (hFI h 401 o) 13 ∧ ((¬ (hAI h (o + 1) (nt (hFI h 401 o))) = 0 → AWP mX4_readShape 5 154 [vR (some o), vI x1] [] h b Q) ∧ ((hAI h (o + 1) (nt (hFI h 401 o))) = 0 → (∃ (P5 : Hp → Prop), Ret mX4_wrong 0 [vR (some o)] h 0 0 (RV P5) ∧ ∀ h4, P5 h4 → (MO h4 o ∧ AWP mX4_readShape 5 154 [vR (some o), vI x1] [] h4 b Q)))))) ∧ (¬ (nI 6) ≤ (hAI h (o + 1) (nt (hFI h 401 o))) → (∃ (P9 : Int32 → Hp → Prop), Ret mX4_isDigit 1 [vR (some o)] h 0 0 (RI P9) ∧ ∀ z7 h8, P9 z7 h8 → (MO h8 o ∧ ((z7 = 0 → (vp_in (hFI h8 401 o) 13 ∧ ((¬ (hAI h8 (o + 1) (nt (hFI h8 401 o))) = 0 → AWP mX4_readShape 5 154 [vR (some o), vI x1] [] h8 b Q) ∧ ((hAI h8 (o + 1) (nt (hFI h8 401 o))) = 0 → (∃ (P15 : Hp → Prop), Ret mX4_wrong 0 [vR (some o)] h8 0 0 (RV P15) ∧ ∀ h14, P15 h14 → (MO h14 o ∧ AWP mX4_readShape 5 154 [vR (some o), vI x1] [] h14 b Q)))))) ∧ (¬ z7 = 0 → (vp_in (hFI h8 401 o) 13 ∧ (∃ (P19 : Int32 → Hp → Prop), Ret mX4_digit 2 [vR (some o)] h8 0 0 (RI P19) ∧ ∀ z17 h18, P19 z17 h18 → (MO h18 o ∧ (vp_in (((nI 6) * (hFI h8 401 o)) + (hAI h8 (o + 1) (nt (hFI h8 401 o)))) 78 ∧ (∀ h21, h21 = w1 h18 (o + 2) (nt (((nI 6) * (hFI h8 401 o)) + (hAI h8 (o + 1) (nt (hFI h8 401 o))))) z17 → (vp_in (hFI h21 401 o) 13 ∧ (vp_in (hFI h21 401 o) 13 ∧ (∀ h22, h22 = w1 h21 (o + 1) (nt (hFI h21 401 o)) ((hAI h21 (o + 1) (nt (hFI h21 401 o))) + (nI 1)) → AWP mX4_readShape 5 75 [vR (some o), vI x1] [] h22 b Q)))))))))))))))) : AWP mX4_readShape 5 75 [vR (some o), vI x1] [] h b Q := by
  refine go_aload_n 76 0 dX4_readShape_75 rfl rfl rfl ?_
  refine go_getRe 79 dX4_readShape_76 rfl (MO_k hM) gfX4_7_5 rfl (MO_f1402 hM) ?_
  refine go_aload_n 80 0 dX4_readShape_79 rfl rfl rfl ?_
  refine go_getI 83 dX4_readShape_80 rfl (MO_k hM) gfX4_200_5 rfl ?_
  refine go_iaload 84 dX4_readShape_83 rfl (MO_k1 hM) vc.1 ?_
  replace vc := vc.2
  refine go_bipush (v := nI 6) 86 dX4_readShape_84 rfl (by decide) ?_
  refine go_icmp_ge 89 138 dX4_readShape_86 rfl (by decide) (fun e1 => ?_) (fun e1 => ?_)
  · replace vc := vc.1 e1
    refine go_aload_n 139 0 dX4_readShape_138 rfl rfl rfl ?_
    refine go_getRe 142 dX4_readShape_139 rfl (MO_k hM) gfX4_7_5 rfl (MO_f1402 hM) ?_
    refine go_aload_n 143 0 dX4_readShape_142 rfl rfl rfl ?_
    refine go_getI 146 dX4_readShape_143 rfl (MO_k hM) gfX4_200_5 rfl ?_
    refine go_iaload 147 dX4_readShape_146 rfl (MO_k1 hM) vc.1 ?_
    replace vc := vc.2
    refine go_if_ne 150 154 dX4_readShape_147 rfl (by decide) (fun e2 => ?_) (fun e2 => ?_)
    · replace vc := vc.1 e2
      exact vc
    · replace vc := vc.2 e2
      refine go_aload_n 151 0 dX4_readShape_150 rfl rfl rfl ?_
      obtain ⟨P5, hR, vc⟩ := vc
      refine go_callVV (M' := mX4_wrong) (as := []) 154 dX4_readShape_151 rfl q1722 okX4_wrong (MO_k hM) ck_4 rfl rfl rfl rfl rfl hR ?_
      intro h4 p1
      replace vc := vc h4 p1
      have hM := vc.1
      replace vc := vc.2
      exact vc
  · replace vc := vc.2 e1
    refine go_aload_n 90 0 dX4_readShape_89 rfl rfl rfl ?_
    obtain ⟨P9, hR, vc⟩ := vc
    refine go_callVI (M' := mX4_isDigit) (as := []) 93 dX4_readShape_90 rfl q1726 okX4_isDigit (MO_k hM) ck_4 rfl rfl rfl rfl rfl hR ?_
    intro z7 h8 p1
    replace vc := vc z7 h8 p1
    have hM := vc.1
    replace vc := vc.2
    refine go_if_eq 96 138 dX4_readShape_93 rfl (by decide) (fun e11 => ?_) (fun e11 => ?_)
    · replace vc := vc.1 e11
      refine go_aload_n 139 0 dX4_readShape_138 rfl rfl rfl ?_
      refine go_getRe 142 dX4_readShape_139 rfl (MO_k hM) gfX4_7_5 rfl (MO_f1402 hM) ?_
      refine go_aload_n 143 0 dX4_readShape_142 rfl rfl rfl ?_
      refine go_getI 146 dX4_readShape_143 rfl (MO_k hM) gfX4_200_5 rfl ?_
      refine go_iaload 147 dX4_readShape_146 rfl (MO_k1 hM) vc.1 ?_
      replace vc := vc.2
      refine go_if_ne 150 154 dX4_readShape_147 rfl (by decide) (fun e12 => ?_) (fun e12 => ?_)
      · replace vc := vc.1 e12
        exact vc
      · replace vc := vc.2 e12
        refine go_aload_n 151 0 dX4_readShape_150 rfl rfl rfl ?_
        obtain ⟨P15, hR, vc⟩ := vc
        refine go_callVV (M' := mX4_wrong) (as := []) 154 dX4_readShape_151 rfl q1722 okX4_wrong (MO_k hM) ck_4 rfl rfl rfl rfl rfl hR ?_
        intro h14 p1
        replace vc := vc h14 p1
        have hM := vc.1
        replace vc := vc.2
        exact vc
    · replace vc := vc.2 e11
      refine go_aload_n 97 0 dX4_readShape_96 rfl rfl rfl ?_
      refine go_getRe 100 dX4_readShape_97 rfl (MO_k hM) gfX4_13_5 rfl (MO_f1403 hM) ?_
      refine go_bipush (v := nI 6) 102 dX4_readShape_100 rfl (by decide) ?_
      refine go_aload_n 103 0 dX4_readShape_102 rfl rfl rfl ?_
      refine go_getI 106 dX4_readShape_103 rfl (MO_k hM) gfX4_200_5 rfl ?_
      refine go_imul 107 dX4_readShape_106 rfl ?_
      refine go_aload_n 108 0 dX4_readShape_107 rfl rfl rfl ?_
      refine go_getRe 111 dX4_readShape_108 rfl (MO_k hM) gfX4_7_5 rfl (MO_f1402 hM) ?_
      refine go_aload_n 112 0 dX4_readShape_111 rfl rfl rfl ?_
      refine go_getI 115 dX4_readShape_112 rfl (MO_k hM) gfX4_200_5 rfl ?_
      refine go_iaload 116 dX4_readShape_115 rfl (MO_k1 hM) vc.1 ?_
      replace vc := vc.2
      refine go_iadd 117 dX4_readShape_116 rfl ?_
      refine go_aload_n 118 0 dX4_readShape_117 rfl rfl rfl ?_
      obtain ⟨P19, hR, vc⟩ := vc
      refine go_callVI (M' := mX4_digit) (as := []) 121 dX4_readShape_118 rfl q1730 okX4_digit (MO_k hM) ck_4 rfl rfl rfl rfl rfl hR ?_
      intro z17 h18 p1
      replace vc := vc z17 h18 p1
      have hM := vc.1
      replace vc := vc.2
      refine go_iastore 122 dX4_readShape_121 rfl (MO_k2 hM) vc.1 ?_
      replace vc := vc.2
      refine AWP.nm fun h21 eh21 => ?_
      replace vc := vc h21 eh21
      have hM : MO h21 o := by rw [eh21]; exact hM
      refine go_aload_n 123 0 dX4_readShape_122 rfl rfl rfl ?_
      refine go_getRe 126 dX4_readShape_123 rfl (MO_k hM) gfX4_7_5 rfl (MO_f1402 hM) ?_
      refine go_aload_n 127 0 dX4_readShape_126 rfl rfl rfl ?_
      refine go_getI 130 dX4_readShape_127 rfl (MO_k hM) gfX4_200_5 rfl ?_
      refine go_dup2 131 dX4_readShape_130 rfl rfl rfl ?_
      refine go_iaload 132 dX4_readShape_131 rfl (MO_k1 hM) vc.1 ?_
      replace vc := vc.2
      refine go_iconst (v := nI 1) 133 dX4_readShape_132 rfl (by decide) ?_
      refine go_iadd 134 dX4_readShape_133 rfl ?_
      refine go_iastore 135 dX4_readShape_134 rfl (MO_k1 hM) vc.1 ?_
      replace vc := vc.2
      refine AWP.nm fun h22 eh22 => ?_
      replace vc := vc h22 eh22
      have hM : MO h22 o := by rw [eh22]; exact hM
      refine go_goto 75 dX4_readShape_135 (by decide) ?_
      exact vc

theorem bX4_readShape_154 {h : Hp} {b : Nat × Nat} {Q : Rs → Hp → Prop} {o : Nat} {x1 : Int32} (hM : MO h o) (vc : ((0 ≤ (hFI h 418 o) → ((0 ≤ (hFI h 418 o) → Q rV h) ∧ (¬ 0 ≤ (hFI h 418 o) → (((hFI h 416 o) ≤ (hFI h 417 o) → Q rV h) ∧ (¬ (hFI h 416 o) ≤ (hFI h 417 o) → (∃ (P6 : Hp → Prop), Ret mX4_wrong 0 [vR (some o)] h 0 0 (RV P6) ∧ ∀ h5, P6 h5 → (MO h5 o ∧ Q rV h5))))))) ∧ (¬ 0 ≤ (hFI h 418 o) → (∃ (P10 : Int32 → Hp → Prop), Ret mX4_look 0 [vR (some o)] h 0 0 (RI P10) ∧ ∀ z8 h9, P10 z8 h9 → (MO h9 o ∧ ((¬ z8 = (nI 59) → ((0 ≤ (hFI h9 418 o) → Q rV h9) ∧ (¬ 0 ≤ (hFI h9 418 o) → (((hFI h9 416 o) ≤ (hFI h9 417 o) → Q rV h9) ∧ (¬ (hFI h9 416 o) ≤ (hFI h9 417 o) → (∃ (P17 : Hp → Prop), Ret mX4_wrong 0 [vR (some o)] h9 0 0 (RV P17) ∧ ∀ h16, P17 h16 → (MO h16 o ∧ Q rV h16))))))) ∧ (z8 = (nI 59) → (∀ h19, h19 = sFI h9 417 o ((hFI h9 417 o) + (nI 1)) → (∃ (P22 : Hp → Prop), Ret mX4_readPart 4 [vR (some o)] h19 0 0 (RV P22) ∧ ∀ h21, P22 h21 → (MO h21 o ∧ AWP mX4_readShape 5 154 [vR (some o), vI x1] [] h21 b Q)))))))))) : AWP mX4_readShape 5 154 [vR (some o), vI x1] [] h b Q := by
  refine go_aload_n 155 0 dX4_readShape_154 rfl rfl rfl ?_
  refine go_getI 158 dX4_readShape_155 rfl (MO_k hM) gfX4_220_5 rfl ?_
  refine go_if_ge 161 187 dX4_readShape_158 rfl (by decide) (fun e1 => ?_) (fun e1 => ?_)
  · replace vc := vc.1 e1
    refine go_aload_n 188 0 dX4_readShape_187 rfl rfl rfl ?_
    refine go_getI 191 dX4_readShape_188 rfl (MO_k hM) gfX4_220_5 rfl ?_
    refine go_if_ge 194 209 dX4_readShape_191 rfl (by decide) (fun e2 => ?_) (fun e2 => ?_)
    · replace vc := vc.1 e2
      exact go_return dX4_readShape_209 rfl vc
    · replace vc := vc.2 e2
      refine go_aload_n 195 0 dX4_readShape_194 rfl rfl rfl ?_
      refine go_getI 198 dX4_readShape_195 rfl (MO_k hM) gfX4_217_5 rfl ?_
      refine go_aload_n 199 0 dX4_readShape_198 rfl rfl rfl ?_
      refine go_getI 202 dX4_readShape_199 rfl (MO_k hM) gfX4_214_5 rfl ?_
      refine go_icmp_ge 205 209 dX4_readShape_202 rfl (by decide) (fun e3 => ?_) (fun e3 => ?_)
      · replace vc := vc.1 e3
        exact go_return dX4_readShape_209 rfl vc
      · replace vc := vc.2 e3
        refine go_aload_n 206 0 dX4_readShape_205 rfl rfl rfl ?_
        obtain ⟨P6, hR, vc⟩ := vc
        refine go_callVV (M' := mX4_wrong) (as := []) 209 dX4_readShape_206 rfl q1722 okX4_wrong (MO_k hM) ck_4 rfl rfl rfl rfl rfl hR ?_
        intro h5 p1
        replace vc := vc h5 p1
        have hM := vc.1
        replace vc := vc.2
        exact go_return dX4_readShape_209 rfl vc
  · replace vc := vc.2 e1
    refine go_aload_n 162 0 dX4_readShape_161 rfl rfl rfl ?_
    obtain ⟨P10, hR, vc⟩ := vc
    refine go_callVI (M' := mX4_look) (as := []) 165 dX4_readShape_162 rfl q1718 okX4_look (MO_k hM) ck_4 rfl rfl rfl rfl rfl hR ?_
    intro z8 h9 p1
    replace vc := vc z8 h9 p1
    have hM := vc.1
    replace vc := vc.2
    refine go_bipush (v := nI 59) 167 dX4_readShape_165 rfl (by decide) ?_
    refine go_icmp_ne 170 187 dX4_readShape_167 rfl (by decide) (fun e12 => ?_) (fun e12 => ?_)
    · replace vc := vc.1 e12
      refine go_aload_n 188 0 dX4_readShape_187 rfl rfl rfl ?_
      refine go_getI 191 dX4_readShape_188 rfl (MO_k hM) gfX4_220_5 rfl ?_
      refine go_if_ge 194 209 dX4_readShape_191 rfl (by decide) (fun e13 => ?_) (fun e13 => ?_)
      · replace vc := vc.1 e13
        exact go_return dX4_readShape_209 rfl vc
      · replace vc := vc.2 e13
        refine go_aload_n 195 0 dX4_readShape_194 rfl rfl rfl ?_
        refine go_getI 198 dX4_readShape_195 rfl (MO_k hM) gfX4_217_5 rfl ?_
        refine go_aload_n 199 0 dX4_readShape_198 rfl rfl rfl ?_
        refine go_getI 202 dX4_readShape_199 rfl (MO_k hM) gfX4_214_5 rfl ?_
        refine go_icmp_ge 205 209 dX4_readShape_202 rfl (by decide) (fun e14 => ?_) (fun e14 => ?_)
        · replace vc := vc.1 e14
          exact go_return dX4_readShape_209 rfl vc
        · replace vc := vc.2 e14
          refine go_aload_n 206 0 dX4_readShape_205 rfl rfl rfl ?_
          obtain ⟨P17, hR, vc⟩ := vc
          refine go_callVV (M' := mX4_wrong) (as := []) 209 dX4_readShape_206 rfl q1722 okX4_wrong (MO_k hM) ck_4 rfl rfl rfl rfl rfl hR ?_
          intro h16 p1
          replace vc := vc h16 p1
          have hM := vc.1
          replace vc := vc.2
          exact go_return dX4_readShape_209 rfl vc
    · replace vc := vc.2 e12
      refine go_aload_n 171 0 dX4_readShape_170 rfl rfl rfl ?_
      refine go_dup 172 dX4_readShape_171 rfl rfl ?_
      refine go_getI 175 dX4_readShape_172 rfl (MO_k hM) gfX4_217_5 rfl ?_
      refine go_iconst (v := nI 1) 176 dX4_readShape_175 rfl (by decide) ?_
      refine go_iadd 177 dX4_readShape_176 rfl ?_
      refine go_putI 180 dX4_readShape_177 rfl (MO_k hM) (gpX4_217_5 _) rfl ?_
      refine AWP.nm fun h19 eh19 => ?_
      replace vc := vc h19 eh19
      have hM : MO h19 o := by rw [eh19]; exact hM
      refine go_aload_n 181 0 dX4_readShape_180 rfl rfl rfl ?_
      obtain ⟨P22, hR, vc⟩ := vc
      refine go_callVV (M' := mX4_readPart) (as := []) 184 dX4_readShape_181 rfl q1734 okX4_readPart (MO_k hM) ck_4 rfl rfl rfl rfl rfl hR ?_
      intro h21 p1
      replace vc := vc h21 p1
      have hM := vc.1
      replace vc := vc.2
      refine go_goto 154 dX4_readShape_184 (by decide) ?_
      exact vc

theorem bX4_shape_0 {h : Hp} {b : Nat × Nat} {Q : Rs → Hp → Prop} {o : Nat}  (hM : MO h o) (vc : ((¬ (hFI h 401 o) = (nI 12) → (∃ (P4 : Hp → Prop), Ret mX4_readShape 5 [vR (some o)] h 0 0 (RV P4) ∧ ∀ h3, P4 h3 → (MO h3 o ∧ (((hFI h3 418 o) < 0 → ((((hFI h3 412 o) + (hFI h3 419 o)) ≤ (nI 200) → (∀ h8, h8 = sFI h3 416 o (nI 0) → AWP mX4_shape 6 61 [vR (some o), vI (nI 0)] [] h8 b Q)) ∧ (¬ ((hFI h3 412 o) + (hFI h3 419 o)) ≤ (nI 200) → Q (rI (-3)) h3))) ∧ (¬ (hFI h3 418 o) < 0 → (∀ h9, h9 = sFI h3 416 o (nI 0) → Q (rI ((-100) - (hFI h9 418 o))) h9)))))) ∧ ((hFI h 401 o) = (nI 12) → Q (rI (-3)) h))) : AWP mX4_shape 6 0 [vR (some o), vU] [] h b Q := by
  refine go_aload_n 1 0 dX4_shape_0 rfl rfl rfl ?_
  refine go_getI 4 dX4_shape_1 rfl (MO_k hM) gfX4_200_5 rfl ?_
  refine go_bipush (v := nI 12) 6 dX4_shape_4 rfl (by decide) ?_
  refine go_icmp_ne 9 12 dX4_shape_6 rfl (by decide) (fun e1 => ?_) (fun e1 => ?_)
  · replace vc := vc.1 e1
    refine go_aload_n 13 0 dX4_shape_12 rfl rfl rfl ?_
    obtain ⟨P4, hR, vc⟩ := vc
    refine go_callVV (M' := mX4_readShape) (as := []) 16 dX4_shape_13 rfl q1710 okX4_readShape (MO_k hM) ck_4 rfl rfl rfl rfl rfl hR ?_
    intro h3 p1
    replace vc := vc h3 p1
    have hM := vc.1
    replace vc := vc.2
    refine go_aload_n 17 0 dX4_shape_16 rfl rfl rfl ?_
    refine go_getI 20 dX4_shape_17 rfl (MO_k hM) gfX4_220_5 rfl ?_
    refine go_if_lt 23 36 dX4_shape_20 rfl (by decide) (fun e6 => ?_) (fun e6 => ?_)
    · replace vc := vc.1 e6
      refine go_aload_n 37 0 dX4_shape_36 rfl rfl rfl ?_
      refine go_getI 40 dX4_shape_37 rfl (MO_k hM) gfX4_261_5 rfl ?_
      refine go_aload_n 41 0 dX4_shape_40 rfl rfl rfl ?_
      refine go_getI 44 dX4_shape_41 rfl (MO_k hM) gfX4_248_5 rfl ?_
      refine go_iadd 45 dX4_shape_44 rfl ?_
      refine go_sipush (v := nI 200) 48 dX4_shape_45 rfl (by decide) ?_
      refine go_icmp_le 51 54 dX4_shape_48 rfl (by decide) (fun e7 => ?_) (fun e7 => ?_)
      · replace vc := vc.1 e7
        refine go_aload_n 55 0 dX4_shape_54 rfl rfl rfl ?_
        refine go_iconst (v := nI 0) 56 dX4_shape_55 rfl (by decide) ?_
        refine go_putI 59 dX4_shape_56 rfl (MO_k hM) (gpX4_214_5 _) rfl ?_
        refine AWP.nm fun h8 eh8 => ?_
        replace vc := vc h8 eh8
        have hM : MO h8 o := by rw [eh8]; exact hM
        refine go_iconst (v := nI 0) 60 dX4_shape_59 rfl (by decide) ?_
        refine go_istore_n 61 1 [vR (some o), vI (nI 0)] dX4_shape_60 rfl rfl rfl rfl ?_
        exact vc
      · replace vc := vc.2 e7
        refine go_bipush (v := (-3)) 53 dX4_shape_51 rfl (by decide) ?_
        exact go_ireturn dX4_shape_53 rfl vc
    · replace vc := vc.2 e6
      refine go_aload_n 24 0 dX4_shape_23 rfl rfl rfl ?_
      refine go_iconst (v := nI 0) 25 dX4_shape_24 rfl (by decide) ?_
      refine go_putI 28 dX4_shape_25 rfl (MO_k hM) (gpX4_214_5 _) rfl ?_
      refine AWP.nm fun h9 eh9 => ?_
      replace vc := vc h9 eh9
      have hM : MO h9 o := by rw [eh9]; exact hM
      refine go_bipush (v := (-100)) 30 dX4_shape_28 rfl (by decide) ?_
      refine go_aload_n 31 0 dX4_shape_30 rfl rfl rfl ?_
      refine go_getI 34 dX4_shape_31 rfl (MO_k hM) gfX4_220_5 rfl ?_
      refine go_isub 35 dX4_shape_34 rfl ?_
      exact go_ireturn dX4_shape_35 rfl vc
  · replace vc := vc.2 e1
    refine go_bipush (v := (-3)) 11 dX4_shape_9 rfl (by decide) ?_
    exact go_ireturn dX4_shape_11 rfl vc

theorem bX4_shape_61 {h : Hp} {b : Nat × Nat} {Q : Rs → Hp → Prop} {o : Nat} {x1 : Int32} (hM : MO h o) (vc : (((hFI h 419 o) ≤ x1 → (vp_in (hFI h 401 o) 12 ∧ (∀ h2, h2 = w1 h (o + 9) (nt (hFI h 401 o)) (-1) → (∀ h3, h3 = sFI h2 401 o ((hFI h2 401 o) + (nI 1)) → Q (rI ((hFI h3 401 o) - (nI 1))) h3)))) ∧ (¬ (hFI h 419 o) ≤ x1 → (vp_in x1 15 ∧ (vp_in x1 15 ∧ (∃ (P6 : Hp → Prop), Ret mX4_bear 2 [vR (some o), vI (hFI h 401 o), vI (hAI h (o + 14) (nt x1)), vI (hAI h (o + 15) (nt x1))] h 0 0 (RV P6) ∧ ∀ h5, P6 h5 → (MO h5 o ∧ AWP mX4_shape 6 61 [vR (some o), vI (x1 + nI 1)] [] h5 b Q))))))) : AWP mX4_shape 6 61 [vR (some o), vI x1] [] h b Q := by
  refine go_iload_n 62 1 dX4_shape_61 rfl rfl rfl ?_
  refine go_aload_n 63 0 dX4_shape_62 rfl rfl rfl ?_
  refine go_getI 66 dX4_shape_63 rfl (MO_k hM) gfX4_248_5 rfl ?_
  refine go_icmp_ge 69 95 dX4_shape_66 rfl (by decide) (fun e1 => ?_) (fun e1 => ?_)
  · replace vc := vc.1 e1
    refine go_aload_n 96 0 dX4_shape_95 rfl rfl rfl ?_
    refine go_getRe 99 dX4_shape_96 rfl (MO_k hM) gfX4_35_5 rfl (MO_f1410 hM) ?_
    refine go_aload_n 100 0 dX4_shape_99 rfl rfl rfl ?_
    refine go_getI 103 dX4_shape_100 rfl (MO_k hM) gfX4_200_5 rfl ?_
    refine go_iconst (v := (-1)) 104 dX4_shape_103 rfl (by decide) ?_
    refine go_iastore 105 dX4_shape_104 rfl (MO_k9 hM) vc.1 ?_
    replace vc := vc.2
    refine AWP.nm fun h2 eh2 => ?_
    replace vc := vc h2 eh2
    have hM : MO h2 o := by rw [eh2]; exact hM
    refine go_aload_n 106 0 dX4_shape_105 rfl rfl rfl ?_
    refine go_dup 107 dX4_shape_106 rfl rfl ?_
    refine go_getI 110 dX4_shape_107 rfl (MO_k hM) gfX4_200_5 rfl ?_
    refine go_iconst (v := nI 1) 111 dX4_shape_110 rfl (by decide) ?_
    refine go_iadd 112 dX4_shape_111 rfl ?_
    refine go_putI 115 dX4_shape_112 rfl (MO_k hM) (gpX4_200_5 _) rfl ?_
    refine AWP.nm fun h3 eh3 => ?_
    replace vc := vc h3 eh3
    have hM : MO h3 o := by rw [eh3]; exact hM
    refine go_aload_n 116 0 dX4_shape_115 rfl rfl rfl ?_
    refine go_getI 119 dX4_shape_116 rfl (MO_k hM) gfX4_200_5 rfl ?_
    refine go_iconst (v := nI 1) 120 dX4_shape_119 rfl (by decide) ?_
    refine go_isub 121 dX4_shape_120 rfl ?_
    exact go_ireturn dX4_shape_121 rfl vc
  · replace vc := vc.2 e1
    refine go_aload_n 70 0 dX4_shape_69 rfl rfl rfl ?_
    refine go_aload_n 71 0 dX4_shape_70 rfl rfl rfl ?_
    refine go_getI 74 dX4_shape_71 rfl (MO_k hM) gfX4_200_5 rfl ?_
    refine go_aload_n 75 0 dX4_shape_74 rfl rfl rfl ?_
    refine go_getRe 78 dX4_shape_75 rfl (MO_k hM) gfX4_51_5 rfl (MO_f1420 hM) ?_
    refine go_iload_n 79 1 dX4_shape_78 rfl rfl rfl ?_
    refine go_iaload 80 dX4_shape_79 rfl (MO_k14 hM) vc.1 ?_
    replace vc := vc.2
    refine go_aload_n 81 0 dX4_shape_80 rfl rfl rfl ?_
    refine go_getRe 84 dX4_shape_81 rfl (MO_k hM) gfX4_54_5 rfl (MO_f1421 hM) ?_
    refine go_iload_n 85 1 dX4_shape_84 rfl rfl rfl ?_
    refine go_iaload 86 dX4_shape_85 rfl (MO_k15 hM) vc.1 ?_
    replace vc := vc.2
    obtain ⟨P6, hR, vc⟩ := vc
    refine go_callVV (M' := mX4_bear) (as := [vI (hFI h 401 o), vI (hAI h (o + 14) (nt x1)), vI (hAI h (o + 15) (nt x1))]) 89 dX4_shape_86 rfl q1761 okX4_bear (MO_k hM) ck_4 rfl rfl rfl rfl rfl hR ?_
    intro h5 p1
    replace vc := vc h5 p1
    have hM := vc.1
    replace vc := vc.2
    refine go_iinc 92 (x1 + nI 1) [vR (some o), vI (x1 + nI 1)] dX4_shape_89 rfl rfl (by rfl) rfl rfl ?_
    refine go_goto 61 dX4_shape_92 (by decide) ?_
    exact vc
