theorem bX4_ran_0 {h : Hp} {b : Nat × Nat} {Q : Rs → Hp → Prop} {o : Nat} {x1 : Int32} {t : St} {g : Nat} (hM : MS h o t g) (vc : (((nI 24) ≤ (nI (tr t)) → (∀ h2, h2 = sFI h 488 o ((nI (tr t)) + (nI 1)) → Q rV h2)) ∧ (¬ (nI 24) ≤ (nI (tr t)) → (vp_in (nI (tr t)) 24 ∧ (∀ h3, h3 = w1 h (o + 57) (nt (nI (tr t))) x1 → (∀ h4, h4 = sFI h3 488 o ((hFI h3 488 o) + (nI 1)) → Q rV h4)))))) : AWP mX4_ran 0 0 [vR (some o), vI x1] [] h b Q := by
  refine go_aload_n 1 0 dX4_ran_0 rfl rfl rfl ?_
  refine go_getI 4 dX4_ran_1 rfl (MO_k hM.1) gfX4_522_5 rfl ?_
  rw [hM.f488]
  refine go_bipush (v := nI 24) 6 dX4_ran_4 rfl (by decide) ?_
  refine go_icmp_ge 9 19 dX4_ran_6 rfl (by decide) (fun e1 => ?_) (fun e1 => ?_)
  · replace vc := vc.1 e1
    refine go_aload_n 20 0 dX4_ran_19 rfl rfl rfl ?_
    refine go_dup 21 dX4_ran_20 rfl rfl ?_
    refine go_getI 24 dX4_ran_21 rfl (MO_k hM.1) gfX4_522_5 rfl ?_
    rw [hM.f488]
    refine go_iconst (v := nI 1) 25 dX4_ran_24 rfl (by decide) ?_
    refine go_iadd 26 dX4_ran_25 rfl ?_
    refine go_putI 29 dX4_ran_26 rfl (MO_k hM.1) (gpX4_522_5 _) rfl ?_
    refine AWP.nm fun h2 eh2 => ?_
    replace vc := vc h2 eh2
    have hM : MO h2 o := by rw [eh2]; exact hM.1
    exact go_return dX4_ran_29 rfl vc
  · replace vc := vc.2 e1
    refine go_aload_n 10 0 dX4_ran_9 rfl rfl rfl ?_
    refine go_getRe 13 dX4_ran_10 rfl (MO_k hM.1) gfX4_181_5 rfl (MO_f1489 hM.1) ?_
    refine go_aload_n 14 0 dX4_ran_13 rfl rfl rfl ?_
    refine go_getI 17 dX4_ran_14 rfl (MO_k hM.1) gfX4_522_5 rfl ?_
    rw [hM.f488]
    refine go_iload_n 18 1 dX4_ran_17 rfl rfl rfl ?_
    refine go_iastore 19 dX4_ran_18 rfl (MO_k57 hM.1) vc.1 ?_
    replace vc := vc.2
    refine AWP.nm fun h3 eh3 => ?_
    replace vc := vc h3 eh3
    have hM : MO h3 o := by rw [eh3]; exact hM.1
    refine go_aload_n 20 0 dX4_ran_19 rfl rfl rfl ?_
    refine go_dup 21 dX4_ran_20 rfl rfl ?_
    refine go_getI 24 dX4_ran_21 rfl (MO_k hM) gfX4_522_5 rfl ?_
    refine go_iconst (v := nI 1) 25 dX4_ran_24 rfl (by decide) ?_
    refine go_iadd 26 dX4_ran_25 rfl ?_
    refine go_putI 29 dX4_ran_26 rfl (MO_k hM) (gpX4_522_5 _) rfl ?_
    refine AWP.nm fun h4 eh4 => ?_
    replace vc := vc h4 eh4
    have hM : MO h4 o := by rw [eh4]; exact hM
    exact go_return dX4_ran_29 rfl vc

theorem bX4_plainStiffens_0 {h : Hp} {b : Nat × Nat} {Q : Rs → Hp → Prop} {o : Nat} {x1 : Int32} {x2 : Int32} {t : St} {g : Nat} (hM : MS h o t g) (vc : (∃ (P3 : Hp → Prop), Ret mX4_ran 0 [vR (some o), vI (nI 1)] h 0 0 (RV P3) ∧ ∀ h2, P3 h2 → (∃ t5 g6, MS h2 o t5 g6 ∧ (vp_in x1 200 ∧ (nt x1) < nb t5 ∧ (((nI (li t5 (nt x1))) ≤ 0 → Q (rI (x2 + (nI 0))) h2) ∧ (¬ (nI (li t5 (nt x1))) ≤ 0 → (vp_in x1 200 ∧ (nt x1) < nb t5 ∧ (vp_in ((nI (li t5 (nt x1))) - (nI 1)) 468 ∧ (nt ((nI (li t5 (nt x1))) - (nI 1))) < 36 * ns t5 ∧ Q (rI (x2 + (sf t5 (nt ((nI (li t5 (nt x1))) - (nI 1)))))) h2)))))))) : AWP mX4_plainStiffens 1 0 [vR (some o), vI x1, vI x2] [] h b Q := by
  refine go_aload_n 1 0 dX4_plainStiffens_0 rfl rfl rfl ?_
  refine go_iconst (v := nI 1) 2 dX4_plainStiffens_1 rfl (by decide) ?_
  obtain ⟨P3, hR, vc⟩ := vc
  refine go_callVV (M' := mX4_ran) (as := [vI (nI 1)]) 5 dX4_plainStiffens_2 rfl q2157 okX4_ran (MO_k hM.1) ck_4 rfl rfl rfl rfl rfl hR ?_
  intro h2 p1
  replace vc := vc h2 p1
  obtain ⟨t5, g6, hM, vc⟩ := vc
  refine go_iload_n 6 2 dX4_plainStiffens_5 rfl rfl rfl ?_
  refine go_aload_n 7 0 dX4_plainStiffens_6 rfl rfl rfl ?_
  refine go_getRe 10 dX4_plainStiffens_7 rfl (MO_k hM.1) gfX4_44_5 rfl (MO_f1414 hM.1) ?_
  refine go_iload_n 11 1 dX4_plainStiffens_10 rfl rfl rfl ?_
  refine go_iaload 12 dX4_plainStiffens_11 rfl (MO_k12 hM.1) vc.1 ?_
  replace vc := vc.2
  rw [hM.a12 vc.1]
  replace vc := vc.2
  refine go_if_le 15 31 dX4_plainStiffens_12 rfl (by decide) (fun e7 => ?_) (fun e7 => ?_)
  · replace vc := vc.1 e7
    refine go_iconst (v := nI 0) 32 dX4_plainStiffens_31 rfl (by decide) ?_
    refine go_iadd 33 dX4_plainStiffens_32 rfl ?_
    exact go_ireturn dX4_plainStiffens_33 rfl vc
  · replace vc := vc.2 e7
    refine go_aload_n 16 0 dX4_plainStiffens_15 rfl rfl rfl ?_
    refine go_getRe 19 dX4_plainStiffens_16 rfl (MO_k hM.1) gfX4_26_5 rfl (MO_f1407 hM.1) ?_
    refine go_aload_n 20 0 dX4_plainStiffens_19 rfl rfl rfl ?_
    refine go_getRe 23 dX4_plainStiffens_20 rfl (MO_k hM.1) gfX4_44_5 rfl (MO_f1414 hM.1) ?_
    refine go_iload_n 24 1 dX4_plainStiffens_23 rfl rfl rfl ?_
    refine go_iaload 25 dX4_plainStiffens_24 rfl (MO_k12 hM.1) vc.1 ?_
    replace vc := vc.2
    rw [hM.a12 vc.1]
    replace vc := vc.2
    refine go_iconst (v := nI 1) 26 dX4_plainStiffens_25 rfl (by decide) ?_
    refine go_isub 27 dX4_plainStiffens_26 rfl ?_
    refine go_iaload 28 dX4_plainStiffens_27 rfl (MO_k6 hM.1) vc.1 ?_
    replace vc := vc.2
    rw [hM.a6 vc.1]
    replace vc := vc.2
    refine go_goto 32 dX4_plainStiffens_28 (by decide) ?_
    refine go_iadd 33 dX4_plainStiffens_32 rfl ?_
    exact go_ireturn dX4_plainStiffens_33 rfl vc

theorem bX4_pieceStiffens_0 {h : Hp} {b : Nat × Nat} {Q : Rs → Hp → Prop} {o : Nat} {x1 : Int32} {x2 : Int32} {t : St} {g : Nat} (hM : MS h o t g) (vc : (∃ (P3 : Hp → Prop), Ret mX4_ran 0 [vR (some o), vI (nI 20)] h 0 0 (RV P3) ∧ ∀ h2, P3 h2 → (∃ t5 g6, MS h2 o t5 g6 ∧ (∃ (P9 : Int32 → Hp → Prop), Ret mX4_plainStiffens 1 [vR (some o), vI x1, vI x2] h2 0 0 (RI P9) ∧ ∀ z7 h8, P9 z7 h8 → (∃ t11 g12, MS h8 o t11 g12 ∧ Q (rI (z7 - (nI 1))) h8))))) : AWP mX4_pieceStiffens 2 0 [vR (some o), vI x1, vI x2] [] h b Q := by
  refine go_aload_n 1 0 dX4_pieceStiffens_0 rfl rfl rfl ?_
  refine go_bipush (v := nI 20) 3 dX4_pieceStiffens_1 rfl (by decide) ?_
  obtain ⟨P3, hR, vc⟩ := vc
  refine go_callVV (M' := mX4_ran) (as := [vI (nI 20)]) 6 dX4_pieceStiffens_3 rfl q2157 okX4_ran (MO_k hM.1) ck_4 rfl rfl rfl rfl rfl hR ?_
  intro h2 p1
  replace vc := vc h2 p1
  obtain ⟨t5, g6, hM, vc⟩ := vc
  refine go_aload_n 7 0 dX4_pieceStiffens_6 rfl rfl rfl ?_
  refine go_iload_n 8 1 dX4_pieceStiffens_7 rfl rfl rfl ?_
  refine go_iload_n 9 2 dX4_pieceStiffens_8 rfl rfl rfl ?_
  obtain ⟨P9, hR, vc⟩ := vc
  refine go_callVI (M' := mX4_plainStiffens) (as := [vI x1, vI x2]) 12 dX4_pieceStiffens_9 rfl q2165 okX4_plainStiffens (MO_k hM.1) ck_4 rfl rfl rfl rfl rfl hR ?_
  intro z7 h8 p1
  replace vc := vc z7 h8 p1
  obtain ⟨t11, g12, hM, vc⟩ := vc
  refine go_iconst (v := nI 1) 13 dX4_pieceStiffens_12 rfl (by decide) ?_
  refine go_isub 14 dX4_pieceStiffens_13 rfl ?_
  exact go_ireturn dX4_pieceStiffens_14 rfl vc

theorem bX4_stiffens_0 {h : Hp} {b : Nat × Nat} {Q : Rs → Hp → Prop} {o : Nat} {x1 : Int32} {x2 : Int32} {t : St} {g : Nat} (hM : MS h o t g) (vc : (vp_in x1 200 ∧ (nt x1) < nb t ∧ (∃ (P3 : Int32 → Hp → Prop), Ret mX4_isUnder 0 [vI (nI (bk t (nt x1))), vI (nI 4)] h 0 0 (RI P3) ∧ ∀ z1 h2, P3 z1 h2 → (∃ t5 g6, MS h2 o t5 g6 ∧ ((z1 = 0 → (vp_in x1 200 ∧ (nt x1) < nb t5 ∧ (∃ (P10 : Int32 → Hp → Prop), Ret mX4_isUnder 0 [vI (nI (bk t5 (nt x1))), vI (nI 1)] h2 0 0 (RI P10) ∧ ∀ z8 h9, P10 z8 h9 → (∃ t12 g13, MS h9 o t12 g13 ∧ ((z8 = 0 → (∃ (P17 : Int32 → Hp → Prop), Ret mX4_plainStiffens 1 [vR (some o), vI x1, vI x2] h9 0 0 (RI P17) ∧ ∀ z15 h16, P17 z15 h16 → (∃ t19 g20, MS h16 o t19 g20 ∧ Q (rI z15) h16))) ∧ (¬ z8 = 0 → (∃ (P23 : Int32 → Hp → Prop), Ret mX4_pieceStiffens 2 [vR (some o), vI x1, vI x2] h9 0 0 (RI P23) ∧ ∀ z21 h22, P23 z21 h22 → (∃ t25 g26, MS h22 o t25 g26 ∧ Q (rI z21) h22)))))))) ∧ (¬ z1 = 0 → (∃ (P29 : Hp → Prop), Ret mX4_ran 0 [vR (some o), vI (nI 50)] h2 0 0 (RV P29) ∧ ∀ h28, P29 h28 → (∃ t31 g32, MS h28 o t31 g32 ∧ (∃ (P35 : Int32 → Hp → Prop), Ret mX4_pieceStiffens 2 [vR (some o), vI x1, vI x2] h28 0 0 (RI P35) ∧ ∀ z33 h34, P35 z33 h34 → (∃ t37 g38, MS h34 o t37 g38 ∧ Q (rI (z33 ^^^ (nI 3))) h34)))))))))) : AWP mX4_stiffens 3 0 [vR (some o), vI x1, vI x2] [] h b Q := by
  refine go_aload_n 1 0 dX4_stiffens_0 rfl rfl rfl ?_
  refine go_getRe 4 dX4_stiffens_1 rfl (MO_k hM.1) gfX4_41_5 rfl (MO_f1413 hM.1) ?_
  refine go_iload_n 5 1 dX4_stiffens_4 rfl rfl rfl ?_
  refine go_iaload 6 dX4_stiffens_5 rfl (MO_k11 hM.1) vc.1 ?_
  replace vc := vc.2
  rw [hM.a11 vc.1]
  replace vc := vc.2
  refine go_iconst (v := nI 4) 7 dX4_stiffens_6 rfl (by decide) ?_
  obtain ⟨P3, hR, vc⟩ := vc
  refine go_callSI (M' := mX4_isUnder) (as := [vI (nI (bk t (nt x1))), vI (nI 4)]) 10 dX4_stiffens_7 rfl q2154 okX4_isUnder rfl rfl rfl rfl rfl hR ?_
  intro z1 h2 p1
  replace vc := vc z1 h2 p1
  obtain ⟨t5, g6, hM, vc⟩ := vc
  refine go_if_eq 13 28 dX4_stiffens_10 rfl (by decide) (fun e7 => ?_) (fun e7 => ?_)
  · replace vc := vc.1 e7
    refine go_aload_n 29 0 dX4_stiffens_28 rfl rfl rfl ?_
    refine go_getRe 32 dX4_stiffens_29 rfl (MO_k hM.1) gfX4_41_5 rfl (MO_f1413 hM.1) ?_
    refine go_iload_n 33 1 dX4_stiffens_32 rfl rfl rfl ?_
    refine go_iaload 34 dX4_stiffens_33 rfl (MO_k11 hM.1) vc.1 ?_
    replace vc := vc.2
    rw [hM.a11 vc.1]
    replace vc := vc.2
    refine go_iconst (v := nI 1) 35 dX4_stiffens_34 rfl (by decide) ?_
    obtain ⟨P10, hR, vc⟩ := vc
    refine go_callSI (M' := mX4_isUnder) (as := [vI (nI (bk t5 (nt x1))), vI (nI 1)]) 38 dX4_stiffens_35 rfl q2154 okX4_isUnder rfl rfl rfl rfl rfl hR ?_
    intro z8 h9 p1
    replace vc := vc z8 h9 p1
    obtain ⟨t12, g13, hM, vc⟩ := vc
    refine go_if_eq 41 50 dX4_stiffens_38 rfl (by decide) (fun e14 => ?_) (fun e14 => ?_)
    · replace vc := vc.1 e14
      refine go_aload_n 51 0 dX4_stiffens_50 rfl rfl rfl ?_
      refine go_iload_n 52 1 dX4_stiffens_51 rfl rfl rfl ?_
      refine go_iload_n 53 2 dX4_stiffens_52 rfl rfl rfl ?_
      obtain ⟨P17, hR, vc⟩ := vc
      refine go_callVI (M' := mX4_plainStiffens) (as := [vI x1, vI x2]) 56 dX4_stiffens_53 rfl q2165 okX4_plainStiffens (MO_k hM.1) ck_4 rfl rfl rfl rfl rfl hR ?_
      intro z15 h16 p1
      replace vc := vc z15 h16 p1
      obtain ⟨t19, g20, hM, vc⟩ := vc
      exact go_ireturn dX4_stiffens_56 rfl vc
    · replace vc := vc.2 e14
      refine go_aload_n 42 0 dX4_stiffens_41 rfl rfl rfl ?_
      refine go_iload_n 43 1 dX4_stiffens_42 rfl rfl rfl ?_
      refine go_iload_n 44 2 dX4_stiffens_43 rfl rfl rfl ?_
      obtain ⟨P23, hR, vc⟩ := vc
      refine go_callVI (M' := mX4_pieceStiffens) (as := [vI x1, vI x2]) 47 dX4_stiffens_44 rfl q2161 okX4_pieceStiffens (MO_k hM.1) ck_4 rfl rfl rfl rfl rfl hR ?_
      intro z21 h22 p1
      replace vc := vc z21 h22 p1
      obtain ⟨t25, g26, hM, vc⟩ := vc
      refine go_goto 56 dX4_stiffens_47 (by decide) ?_
      exact go_ireturn dX4_stiffens_56 rfl vc
  · replace vc := vc.2 e7
    refine go_aload_n 14 0 dX4_stiffens_13 rfl rfl rfl ?_
    refine go_bipush (v := nI 50) 16 dX4_stiffens_14 rfl (by decide) ?_
    obtain ⟨P29, hR, vc⟩ := vc
    refine go_callVV (M' := mX4_ran) (as := [vI (nI 50)]) 19 dX4_stiffens_16 rfl q2157 okX4_ran (MO_k hM.1) ck_4 rfl rfl rfl rfl rfl hR ?_
    intro h28 p1
    replace vc := vc h28 p1
    obtain ⟨t31, g32, hM, vc⟩ := vc
    refine go_aload_n 20 0 dX4_stiffens_19 rfl rfl rfl ?_
    refine go_iload_n 21 1 dX4_stiffens_20 rfl rfl rfl ?_
    refine go_iload_n 22 2 dX4_stiffens_21 rfl rfl rfl ?_
    obtain ⟨P35, hR, vc⟩ := vc
    refine go_callVI (M' := mX4_pieceStiffens) (as := [vI x1, vI x2]) 25 dX4_stiffens_22 rfl q2161 okX4_pieceStiffens (MO_k hM.1) ck_4 rfl rfl rfl rfl rfl hR ?_
    intro z33 h34 p1
    replace vc := vc z33 h34 p1
    obtain ⟨t37, g38, hM, vc⟩ := vc
    refine go_iconst (v := nI 3) 26 dX4_stiffens_25 rfl (by decide) ?_
    refine go_ixor 27 dX4_stiffens_26 rfl ?_
    exact go_ireturn dX4_stiffens_27 rfl vc

theorem bX4_plainWeighs_0 {h : Hp} {b : Nat × Nat} {Q : Rs → Hp → Prop} {o : Nat} {x1 : Int32} {x2 : Int32} {t : St} {g : Nat} (hM : MS h o t g) (vc : (∃ (P3 : Hp → Prop), Ret mX4_ran 0 [vR (some o), vI (nI 10)] h 0 0 (RV P3) ∧ ∀ h2, P3 h2 → (∃ t5 g6, MS h2 o t5 g6 ∧ (∃ (P9 : Int32 → Hp → Prop), Ret mX4_stiffens 3 [vR (some o), vI x1, vI x2] h2 0 0 (RI P9) ∧ ∀ z7 h8, P9 z7 h8 → (∃ t11 g12, MS h8 o t11 g12 ∧ Q (rI (z7 * (nI 2))) h8))))) : AWP mX4_plainWeighs 4 0 [vR (some o), vI x1, vI x2] [] h b Q := by
  refine go_aload_n 1 0 dX4_plainWeighs_0 rfl rfl rfl ?_
  refine go_bipush (v := nI 10) 3 dX4_plainWeighs_1 rfl (by decide) ?_
  obtain ⟨P3, hR, vc⟩ := vc
  refine go_callVV (M' := mX4_ran) (as := [vI (nI 10)]) 6 dX4_plainWeighs_3 rfl q2157 okX4_ran (MO_k hM.1) ck_4 rfl rfl rfl rfl rfl hR ?_
  intro h2 p1
  replace vc := vc h2 p1
  obtain ⟨t5, g6, hM, vc⟩ := vc
  refine go_aload_n 7 0 dX4_plainWeighs_6 rfl rfl rfl ?_
  refine go_iload_n 8 1 dX4_plainWeighs_7 rfl rfl rfl ?_
  refine go_iload_n 9 2 dX4_plainWeighs_8 rfl rfl rfl ?_
  obtain ⟨P9, hR, vc⟩ := vc
  refine go_callVI (M' := mX4_stiffens) (as := [vI x1, vI x2]) 12 dX4_plainWeighs_9 rfl q2150 okX4_stiffens (MO_k hM.1) ck_4 rfl rfl rfl rfl rfl hR ?_
  intro z7 h8 p1
  replace vc := vc z7 h8 p1
  obtain ⟨t11, g12, hM, vc⟩ := vc
  refine go_iconst (v := nI 2) 13 dX4_plainWeighs_12 rfl (by decide) ?_
  refine go_imul 14 dX4_plainWeighs_13 rfl ?_
  exact go_ireturn dX4_plainWeighs_14 rfl vc

theorem bX4_weighs_0 {h : Hp} {b : Nat × Nat} {Q : Rs → Hp → Prop} {o : Nat} {x1 : Int32} {x2 : Int32} {t : St} {g : Nat} (hM : MS h o t g) (vc : (vp_in x1 200 ∧ (nt x1) < nb t ∧ ((¬ (nI (bk t (nt x1))) = (nI 2) → (vp_in x1 200 ∧ (nt x1) < nb t ∧ ((¬ (nI (bk t (nt x1))) = (nI 3) → (∃ (P5 : Int32 → Hp → Prop), Ret mX4_plainWeighs 4 [vR (some o), vI x1, vI x2] h 0 0 (RI P5) ∧ ∀ z3 h4, P5 z3 h4 → (∃ t7 g8, MS h4 o t7 g8 ∧ Q (rI z3) h4))) ∧ ((nI (bk t (nt x1))) = (nI 3) → (∃ (P11 : Hp → Prop), Ret mX4_ran 0 [vR (some o), vI (nI 40)] h 0 0 (RV P11) ∧ ∀ h10, P11 h10 → (∃ t13 g14, MS h10 o t13 g14 ∧ (∃ (P17 : Int32 → Hp → Prop), Ret mX4_plainWeighs 4 [vR (some o), vI x1, vI x2] h10 0 0 (RI P17) ∧ ∀ z15 h16, P17 z15 h16 → (∃ t19 g20, MS h16 o t19 g20 ∧ Q (rI (-z15)) h16)))))))) ∧ ((nI (bk t (nt x1))) = (nI 2) → (∃ (P23 : Hp → Prop), Ret mX4_ran 0 [vR (some o), vI (nI 31)] h 0 0 (RV P23) ∧ ∀ h22, P23 h22 → (∃ t25 g26, MS h22 o t25 g26 ∧ (∃ (P29 : Int32 → Hp → Prop), Ret mX4_plainWeighs 4 [vR (some o), vI x1, vI x2] h22 0 0 (RI P29) ∧ ∀ z27 h28, P29 z27 h28 → (∃ t31 g32, MS h28 o t31 g32 ∧ (∃ (P35 : Int32 → Hp → Prop), Ret mX4_stiffens 3 [vR (some o), vI x1, vI (nI 2)] h28 0 0 (RI P35) ∧ ∀ z33 h34, P35 z33 h34 → (∃ t37 g38, MS h34 o t37 g38 ∧ Q (rI (z27 + z33)) h34)))))))))) : AWP mX4_weighs 5 0 [vR (some o), vI x1, vI x2, vU] [] h b Q := by
  refine go_aload_n 1 0 dX4_weighs_0 rfl rfl rfl ?_
  refine go_getRe 4 dX4_weighs_1 rfl (MO_k hM.1) gfX4_41_5 rfl (MO_f1413 hM.1) ?_
  refine go_iload_n 5 1 dX4_weighs_4 rfl rfl rfl ?_
  refine go_iaload 6 dX4_weighs_5 rfl (MO_k11 hM.1) vc.1 ?_
  replace vc := vc.2
  rw [hM.a11 vc.1]
  replace vc := vc.2
  refine go_iconst (v := nI 2) 7 dX4_weighs_6 rfl (by decide) ?_
  refine go_icmp_ne 10 32 dX4_weighs_7 rfl (by decide) (fun e1 => ?_) (fun e1 => ?_)
  · replace vc := vc.1 e1
    refine go_aload_n 33 0 dX4_weighs_32 rfl rfl rfl ?_
    refine go_getRe 36 dX4_weighs_33 rfl (MO_k hM.1) gfX4_41_5 rfl (MO_f1413 hM.1) ?_
    refine go_iload_n 37 1 dX4_weighs_36 rfl rfl rfl ?_
    refine go_iaload 38 dX4_weighs_37 rfl (MO_k11 hM.1) vc.1 ?_
    replace vc := vc.2
    rw [hM.a11 vc.1]
    replace vc := vc.2
    refine go_iconst (v := nI 3) 39 dX4_weighs_38 rfl (by decide) ?_
    refine go_icmp_ne 42 56 dX4_weighs_39 rfl (by decide) (fun e2 => ?_) (fun e2 => ?_)
    · replace vc := vc.1 e2
      refine go_aload_n 57 0 dX4_weighs_56 rfl rfl rfl ?_
      refine go_iload_n 58 1 dX4_weighs_57 rfl rfl rfl ?_
      refine go_iload_n 59 2 dX4_weighs_58 rfl rfl rfl ?_
      obtain ⟨P5, hR, vc⟩ := vc
      refine go_callVI (M' := mX4_plainWeighs) (as := [vI x1, vI x2]) 62 dX4_weighs_59 rfl q2173 okX4_plainWeighs (MO_k hM.1) ck_4 rfl rfl rfl rfl rfl hR ?_
      intro z3 h4 p1
      replace vc := vc z3 h4 p1
      obtain ⟨t7, g8, hM, vc⟩ := vc
      exact go_ireturn dX4_weighs_62 rfl vc
    · replace vc := vc.2 e2
      refine go_aload_n 43 0 dX4_weighs_42 rfl rfl rfl ?_
      refine go_bipush (v := nI 40) 45 dX4_weighs_43 rfl (by decide) ?_
      obtain ⟨P11, hR, vc⟩ := vc
      refine go_callVV (M' := mX4_ran) (as := [vI (nI 40)]) 48 dX4_weighs_45 rfl q2157 okX4_ran (MO_k hM.1) ck_4 rfl rfl rfl rfl rfl hR ?_
      intro h10 p1
      replace vc := vc h10 p1
      obtain ⟨t13, g14, hM, vc⟩ := vc
      refine go_aload_n 49 0 dX4_weighs_48 rfl rfl rfl ?_
      refine go_iload_n 50 1 dX4_weighs_49 rfl rfl rfl ?_
      refine go_iload_n 51 2 dX4_weighs_50 rfl rfl rfl ?_
      obtain ⟨P17, hR, vc⟩ := vc
      refine go_callVI (M' := mX4_plainWeighs) (as := [vI x1, vI x2]) 54 dX4_weighs_51 rfl q2173 okX4_plainWeighs (MO_k hM.1) ck_4 rfl rfl rfl rfl rfl hR ?_
      intro z15 h16 p1
      replace vc := vc z15 h16 p1
      obtain ⟨t19, g20, hM, vc⟩ := vc
      refine go_ineg 55 dX4_weighs_54 rfl ?_
      exact go_ireturn dX4_weighs_55 rfl vc
  · replace vc := vc.2 e1
    refine go_aload_n 11 0 dX4_weighs_10 rfl rfl rfl ?_
    refine go_bipush (v := nI 31) 13 dX4_weighs_11 rfl (by decide) ?_
    obtain ⟨P23, hR, vc⟩ := vc
    refine go_callVV (M' := mX4_ran) (as := [vI (nI 31)]) 16 dX4_weighs_13 rfl q2157 okX4_ran (MO_k hM.1) ck_4 rfl rfl rfl rfl rfl hR ?_
    intro h22 p1
    replace vc := vc h22 p1
    obtain ⟨t25, g26, hM, vc⟩ := vc
    refine go_aload_n 17 0 dX4_weighs_16 rfl rfl rfl ?_
    refine go_iload_n 18 1 dX4_weighs_17 rfl rfl rfl ?_
    refine go_iload_n 19 2 dX4_weighs_18 rfl rfl rfl ?_
    obtain ⟨P29, hR, vc⟩ := vc
    refine go_callVI (M' := mX4_plainWeighs) (as := [vI x1, vI x2]) 22 dX4_weighs_19 rfl q2173 okX4_plainWeighs (MO_k hM.1) ck_4 rfl rfl rfl rfl rfl hR ?_
    intro z27 h28 p1
    replace vc := vc z27 h28 p1
    obtain ⟨t31, g32, hM, vc⟩ := vc
    refine go_istore_n 23 3 [vR (some o), vI x1, vI x2, vI z27] dX4_weighs_22 rfl rfl rfl rfl ?_
    refine go_iload_n 24 3 dX4_weighs_23 rfl rfl rfl ?_
    refine go_aload_n 25 0 dX4_weighs_24 rfl rfl rfl ?_
    refine go_iload_n 26 1 dX4_weighs_25 rfl rfl rfl ?_
    refine go_iconst (v := nI 2) 27 dX4_weighs_26 rfl (by decide) ?_
    obtain ⟨P35, hR, vc⟩ := vc
    refine go_callVI (M' := mX4_stiffens) (as := [vI x1, vI (nI 2)]) 30 dX4_weighs_27 rfl q2150 okX4_stiffens (MO_k hM.1) ck_4 rfl rfl rfl rfl rfl hR ?_
    intro z33 h34 p1
    replace vc := vc z33 h34 p1
    obtain ⟨t37, g38, hM, vc⟩ := vc
    refine go_iadd 31 dX4_weighs_30 rfl ?_
    exact go_ireturn dX4_weighs_31 rfl vc

theorem bX4_plainSounds_0 {h : Hp} {b : Nat × Nat} {Q : Rs → Hp → Prop} {o : Nat} {x1 : Int32} {x2 : Int32} {t : St} {g : Nat} (hM : MS h o t g) (vc : (∃ (P3 : Hp → Prop), Ret mX4_ran 0 [vR (some o), vI (nI 11)] h 0 0 (RV P3) ∧ ∀ h2, P3 h2 → (∃ t5 g6, MS h2 o t5 g6 ∧ Q (rI (x2 ^^^ x1)) h2))) : AWP mX4_plainSounds 1 0 [vR (some o), vI x1, vI x2] [] h b Q := by
  refine go_aload_n 1 0 dX4_plainSounds_0 rfl rfl rfl ?_
  refine go_bipush (v := nI 11) 3 dX4_plainSounds_1 rfl (by decide) ?_
  obtain ⟨P3, hR, vc⟩ := vc
  refine go_callVV (M' := mX4_ran) (as := [vI (nI 11)]) 6 dX4_plainSounds_3 rfl q2157 okX4_ran (MO_k hM.1) ck_4 rfl rfl rfl rfl rfl hR ?_
  intro h2 p1
  replace vc := vc h2 p1
  obtain ⟨t5, g6, hM, vc⟩ := vc
  refine go_iload_n 7 2 dX4_plainSounds_6 rfl rfl rfl ?_
  refine go_iload_n 8 1 dX4_plainSounds_7 rfl rfl rfl ?_
  refine go_ixor 9 dX4_plainSounds_8 rfl ?_
  exact go_ireturn dX4_plainSounds_9 rfl vc

theorem bX4_sounds_0 {h : Hp} {b : Nat × Nat} {Q : Rs → Hp → Prop} {o : Nat} {x1 : Int32} {x2 : Int32} {t : St} {g : Nat} (hM : MS h o t g) (vc : (vp_in x1 200 ∧ (nt x1) < nb t ∧ ((¬ (nI (bk t (nt x1))) = (nI 2) → (vp_in x1 200 ∧ (nt x1) < nb t ∧ ((¬ (nI (bk t (nt x1))) = (nI 5) → (∃ (P5 : Int32 → Hp → Prop), Ret mX4_plainSounds 1 [vR (some o), vI x1, vI x2] h 0 0 (RI P5) ∧ ∀ z3 h4, P5 z3 h4 → (∃ t7 g8, MS h4 o t7 g8 ∧ Q (rI z3) h4))) ∧ ((nI (bk t (nt x1))) = (nI 5) → (∃ (P11 : Hp → Prop), Ret mX4_ran 0 [vR (some o), vI (nI 60)] h 0 0 (RV P11) ∧ ∀ h10, P11 h10 → (∃ t13 g14, MS h10 o t13 g14 ∧ (∃ (P17 : Int32 → Hp → Prop), Ret mX4_plainSounds 1 [vR (some o), vI x1, vI x2] h10 0 0 (RI P17) ∧ ∀ z15 h16, P17 z15 h16 → (∃ t19 g20, MS h16 o t19 g20 ∧ (∃ (P23 : Int32 → Hp → Prop), Ret mX4_weighs 5 [vR (some o), vI x1, vI (nI 1)] h16 0 0 (RI P23) ∧ ∀ z21 h22, P23 z21 h22 → (∃ t25 g26, MS h22 o t25 g26 ∧ Q (rI (z15 + z21)) h22)))))))))) ∧ ((nI (bk t (nt x1))) = (nI 2) → (∃ (P29 : Hp → Prop), Ret mX4_ran 0 [vR (some o), vI (nI 30)] h 0 0 (RV P29) ∧ ∀ h28, P29 h28 → (∃ t31 g32, MS h28 o t31 g32 ∧ (∃ (P35 : Int32 → Hp → Prop), Ret mX4_plainSounds 1 [vR (some o), vI x1, vI x2] h28 0 0 (RI P35) ∧ ∀ z33 h34, P35 z33 h34 → (∃ t37 g38, MS h34 o t37 g38 ∧ Q (rI (z33 * (nI 5))) h34)))))))) : AWP mX4_sounds 6 0 [vR (some o), vI x1, vI x2, vU] [] h b Q := by
  refine go_aload_n 1 0 dX4_sounds_0 rfl rfl rfl ?_
  refine go_getRe 4 dX4_sounds_1 rfl (MO_k hM.1) gfX4_41_5 rfl (MO_f1413 hM.1) ?_
  refine go_iload_n 5 1 dX4_sounds_4 rfl rfl rfl ?_
  refine go_iaload 6 dX4_sounds_5 rfl (MO_k11 hM.1) vc.1 ?_
  replace vc := vc.2
  rw [hM.a11 vc.1]
  replace vc := vc.2
  refine go_iconst (v := nI 2) 7 dX4_sounds_6 rfl (by decide) ?_
  refine go_icmp_ne 10 25 dX4_sounds_7 rfl (by decide) (fun e1 => ?_) (fun e1 => ?_)
  · replace vc := vc.1 e1
    refine go_aload_n 26 0 dX4_sounds_25 rfl rfl rfl ?_
    refine go_getRe 29 dX4_sounds_26 rfl (MO_k hM.1) gfX4_41_5 rfl (MO_f1413 hM.1) ?_
    refine go_iload_n 30 1 dX4_sounds_29 rfl rfl rfl ?_
    refine go_iaload 31 dX4_sounds_30 rfl (MO_k11 hM.1) vc.1 ?_
    replace vc := vc.2
    rw [hM.a11 vc.1]
    replace vc := vc.2
    refine go_iconst (v := nI 5) 32 dX4_sounds_31 rfl (by decide) ?_
    refine go_icmp_ne 35 57 dX4_sounds_32 rfl (by decide) (fun e2 => ?_) (fun e2 => ?_)
    · replace vc := vc.1 e2
      refine go_aload_n 58 0 dX4_sounds_57 rfl rfl rfl ?_
      refine go_iload_n 59 1 dX4_sounds_58 rfl rfl rfl ?_
      refine go_iload_n 60 2 dX4_sounds_59 rfl rfl rfl ?_
      obtain ⟨P5, hR, vc⟩ := vc
      refine go_callVI (M' := mX4_plainSounds) (as := [vI x1, vI x2]) 63 dX4_sounds_60 rfl q2181 okX4_plainSounds (MO_k hM.1) ck_4 rfl rfl rfl rfl rfl hR ?_
      intro z3 h4 p1
      replace vc := vc z3 h4 p1
      obtain ⟨t7, g8, hM, vc⟩ := vc
      exact go_ireturn dX4_sounds_63 rfl vc
    · replace vc := vc.2 e2
      refine go_aload_n 36 0 dX4_sounds_35 rfl rfl rfl ?_
      refine go_bipush (v := nI 60) 38 dX4_sounds_36 rfl (by decide) ?_
      obtain ⟨P11, hR, vc⟩ := vc
      refine go_callVV (M' := mX4_ran) (as := [vI (nI 60)]) 41 dX4_sounds_38 rfl q2157 okX4_ran (MO_k hM.1) ck_4 rfl rfl rfl rfl rfl hR ?_
      intro h10 p1
      replace vc := vc h10 p1
      obtain ⟨t13, g14, hM, vc⟩ := vc
      refine go_aload_n 42 0 dX4_sounds_41 rfl rfl rfl ?_
      refine go_iload_n 43 1 dX4_sounds_42 rfl rfl rfl ?_
      refine go_iload_n 44 2 dX4_sounds_43 rfl rfl rfl ?_
      obtain ⟨P17, hR, vc⟩ := vc
      refine go_callVI (M' := mX4_plainSounds) (as := [vI x1, vI x2]) 47 dX4_sounds_44 rfl q2181 okX4_plainSounds (MO_k hM.1) ck_4 rfl rfl rfl rfl rfl hR ?_
      intro z15 h16 p1
      replace vc := vc z15 h16 p1
      obtain ⟨t19, g20, hM, vc⟩ := vc
      refine go_istore_n 48 3 [vR (some o), vI x1, vI x2, vI z15] dX4_sounds_47 rfl rfl rfl rfl ?_
      refine go_iload_n 49 3 dX4_sounds_48 rfl rfl rfl ?_
      refine go_aload_n 50 0 dX4_sounds_49 rfl rfl rfl ?_
      refine go_iload_n 51 1 dX4_sounds_50 rfl rfl rfl ?_
      refine go_iconst (v := nI 1) 52 dX4_sounds_51 rfl (by decide) ?_
      obtain ⟨P23, hR, vc⟩ := vc
      refine go_callVI (M' := mX4_weighs) (as := [vI x1, vI (nI 1)]) 55 dX4_sounds_52 rfl q2169 okX4_weighs (MO_k hM.1) ck_4 rfl rfl rfl rfl rfl hR ?_
      intro z21 h22 p1
      replace vc := vc z21 h22 p1
      obtain ⟨t25, g26, hM, vc⟩ := vc
      refine go_iadd 56 dX4_sounds_55 rfl ?_
      exact go_ireturn dX4_sounds_56 rfl vc
  · replace vc := vc.2 e1
    refine go_aload_n 11 0 dX4_sounds_10 rfl rfl rfl ?_
    refine go_bipush (v := nI 30) 13 dX4_sounds_11 rfl (by decide) ?_
    obtain ⟨P29, hR, vc⟩ := vc
    refine go_callVV (M' := mX4_ran) (as := [vI (nI 30)]) 16 dX4_sounds_13 rfl q2157 okX4_ran (MO_k hM.1) ck_4 rfl rfl rfl rfl rfl hR ?_
    intro h28 p1
    replace vc := vc h28 p1
    obtain ⟨t31, g32, hM, vc⟩ := vc
    refine go_aload_n 17 0 dX4_sounds_16 rfl rfl rfl ?_
    refine go_iload_n 18 1 dX4_sounds_17 rfl rfl rfl ?_
    refine go_iload_n 19 2 dX4_sounds_18 rfl rfl rfl ?_
    obtain ⟨P35, hR, vc⟩ := vc
    refine go_callVI (M' := mX4_plainSounds) (as := [vI x1, vI x2]) 22 dX4_sounds_19 rfl q2181 okX4_plainSounds (MO_k hM.1) ck_4 rfl rfl rfl rfl rfl hR ?_
    intro z33 h34 p1
    replace vc := vc z33 h34 p1
    obtain ⟨t37, g38, hM, vc⟩ := vc
    refine go_iconst (v := nI 5) 23 dX4_sounds_22 rfl (by decide) ?_
    refine go_imul 24 dX4_sounds_23 rfl ?_
    exact go_ireturn dX4_sounds_24 rfl vc

theorem bX4_plainTells_0 {h : Hp} {b : Nat × Nat} {Q : Rs → Hp → Prop} {o : Nat} {x1 : Int32} {x2 : Int32} {t : St} {g : Nat} (hM : MS h o t g) (vc : (∃ (P3 : Hp → Prop), Ret mX4_ran 0 [vR (some o), vI (nI 2)] h 0 0 (RV P3) ∧ ∀ h2, P3 h2 → (∃ t5 g6, MS h2 o t5 g6 ∧ (∃ (P9 : Int32 → Hp → Prop), Ret mX4_weighs 5 [vR (some o), vI x1, vI x2] h2 0 0 (RI P9) ∧ ∀ z7 h8, P9 z7 h8 → (∃ t11 g12, MS h8 o t11 g12 ∧ (∃ (P15 : Int32 → Hp → Prop), Ret mX4_sounds 6 [vR (some o), vI x1, vI (nI 1)] h8 0 0 (RI P15) ∧ ∀ z13 h14, P15 z13 h14 → (∃ t17 g18, MS h14 o t17 g18 ∧ Q (rI (z7 + z13)) h14))))))) : AWP mX4_plainTells 7 0 [vR (some o), vI x1, vI x2, vU] [] h b Q := by
  refine go_aload_n 1 0 dX4_plainTells_0 rfl rfl rfl ?_
  refine go_iconst (v := nI 2) 2 dX4_plainTells_1 rfl (by decide) ?_
  obtain ⟨P3, hR, vc⟩ := vc
  refine go_callVV (M' := mX4_ran) (as := [vI (nI 2)]) 5 dX4_plainTells_2 rfl q2157 okX4_ran (MO_k hM.1) ck_4 rfl rfl rfl rfl rfl hR ?_
  intro h2 p1
  replace vc := vc h2 p1
  obtain ⟨t5, g6, hM, vc⟩ := vc
  refine go_aload_n 6 0 dX4_plainTells_5 rfl rfl rfl ?_
  refine go_iload_n 7 1 dX4_plainTells_6 rfl rfl rfl ?_
  refine go_iload_n 8 2 dX4_plainTells_7 rfl rfl rfl ?_
  obtain ⟨P9, hR, vc⟩ := vc
  refine go_callVI (M' := mX4_weighs) (as := [vI x1, vI x2]) 11 dX4_plainTells_8 rfl q2169 okX4_weighs (MO_k hM.1) ck_4 rfl rfl rfl rfl rfl hR ?_
  intro z7 h8 p1
  replace vc := vc z7 h8 p1
  obtain ⟨t11, g12, hM, vc⟩ := vc
  refine go_istore_n 12 3 [vR (some o), vI x1, vI x2, vI z7] dX4_plainTells_11 rfl rfl rfl rfl ?_
  refine go_iload_n 13 3 dX4_plainTells_12 rfl rfl rfl ?_
  refine go_aload_n 14 0 dX4_plainTells_13 rfl rfl rfl ?_
  refine go_iload_n 15 1 dX4_plainTells_14 rfl rfl rfl ?_
  refine go_iconst (v := nI 1) 16 dX4_plainTells_15 rfl (by decide) ?_
  obtain ⟨P15, hR, vc⟩ := vc
  refine go_callVI (M' := mX4_sounds) (as := [vI x1, vI (nI 1)]) 19 dX4_plainTells_16 rfl q2177 okX4_sounds (MO_k hM.1) ck_4 rfl rfl rfl rfl rfl hR ?_
  intro z13 h14 p1
  replace vc := vc z13 h14 p1
  obtain ⟨t17, g18, hM, vc⟩ := vc
  refine go_iadd 20 dX4_plainTells_19 rfl ?_
  exact go_ireturn dX4_plainTells_20 rfl vc

theorem bX4_crackedTells_0 {h : Hp} {b : Nat × Nat} {Q : Rs → Hp → Prop} {o : Nat} {x1 : Int32} {x2 : Int32} {t : St} {g : Nat} (hM : MS h o t g) (vc : (∃ (P3 : Hp → Prop), Ret mX4_ran 0 [vR (some o), vI (nI 51)] h 0 0 (RV P3) ∧ ∀ h2, P3 h2 → (∃ t5 g6, MS h2 o t5 g6 ∧ (∃ (P9 : Int32 → Hp → Prop), Ret mX4_plainTells 7 [vR (some o), vI x1, vI (x2 + (nI 1))] h2 0 0 (RI P9) ∧ ∀ z7 h8, P9 z7 h8 → (∃ t11 g12, MS h8 o t11 g12 ∧ Q (rI z7) h8))))) : AWP mX4_crackedTells 8 0 [vR (some o), vI x1, vI x2] [] h b Q := by
  refine go_aload_n 1 0 dX4_crackedTells_0 rfl rfl rfl ?_
  refine go_bipush (v := nI 51) 3 dX4_crackedTells_1 rfl (by decide) ?_
  obtain ⟨P3, hR, vc⟩ := vc
  refine go_callVV (M' := mX4_ran) (as := [vI (nI 51)]) 6 dX4_crackedTells_3 rfl q2157 okX4_ran (MO_k hM.1) ck_4 rfl rfl rfl rfl rfl hR ?_
  intro h2 p1
  replace vc := vc h2 p1
  obtain ⟨t5, g6, hM, vc⟩ := vc
  refine go_aload_n 7 0 dX4_crackedTells_6 rfl rfl rfl ?_
  refine go_iload_n 8 1 dX4_crackedTells_7 rfl rfl rfl ?_
  refine go_iload_n 9 2 dX4_crackedTells_8 rfl rfl rfl ?_
  refine go_iconst (v := nI 1) 10 dX4_crackedTells_9 rfl (by decide) ?_
  refine go_iadd 11 dX4_crackedTells_10 rfl ?_
  obtain ⟨P9, hR, vc⟩ := vc
  refine go_callVI (M' := mX4_plainTells) (as := [vI x1, vI (x2 + (nI 1))]) 14 dX4_crackedTells_11 rfl q2193 okX4_plainTells (MO_k hM.1) ck_4 rfl rfl rfl rfl rfl hR ?_
  intro z7 h8 p1
  replace vc := vc z7 h8 p1
  obtain ⟨t11, g12, hM, vc⟩ := vc
  exact go_ireturn dX4_crackedTells_14 rfl vc

theorem bX4_tells_0 {h : Hp} {b : Nat × Nat} {Q : Rs → Hp → Prop} {o : Nat} {x1 : Int32} {x2 : Int32} {t : St} {g : Nat} (hM : MS h o t g) (vc : (vp_in x1 200 ∧ (nt x1) < nb t ∧ ((¬ (nI (bk t (nt x1))) = (nI 5) → (vp_in x1 200 ∧ (nt x1) < nb t ∧ ((¬ (nI (bk t (nt x1))) = (nI 4) → (∃ (P5 : Int32 → Hp → Prop), Ret mX4_plainTells 7 [vR (some o), vI x1, vI x2] h 0 0 (RI P5) ∧ ∀ z3 h4, P5 z3 h4 → (∃ t7 g8, MS h4 o t7 g8 ∧ Q (rI z3) h4))) ∧ ((nI (bk t (nt x1))) = (nI 4) → (∃ (P11 : Int32 → Hp → Prop), Ret mX4_crackedTells 8 [vR (some o), vI x1, vI x2] h 0 0 (RI P11) ∧ ∀ z9 h10, P11 z9 h10 → (∃ t13 g14, MS h10 o t13 g14 ∧ Q (rI z9) h10)))))) ∧ ((nI (bk t (nt x1))) = (nI 5) → (∃ (P17 : Hp → Prop), Ret mX4_ran 0 [vR (some o), vI (nI 61)] h 0 0 (RV P17) ∧ ∀ h16, P17 h16 → (∃ t19 g20, MS h16 o t19 g20 ∧ (∃ (P23 : Int32 → Hp → Prop), Ret mX4_crackedTells 8 [vR (some o), vI x1, vI x2] h16 0 0 (RI P23) ∧ ∀ z21 h22, P23 z21 h22 → (∃ t25 g26, MS h22 o t25 g26 ∧ Q (rI (z21 * (nI 2))) h22)))))))) : AWP mX4_tells 9 0 [vR (some o), vI x1, vI x2] [] h b Q := by
  refine go_aload_n 1 0 dX4_tells_0 rfl rfl rfl ?_
  refine go_getRe 4 dX4_tells_1 rfl (MO_k hM.1) gfX4_41_5 rfl (MO_f1413 hM.1) ?_
  refine go_iload_n 5 1 dX4_tells_4 rfl rfl rfl ?_
  refine go_iaload 6 dX4_tells_5 rfl (MO_k11 hM.1) vc.1 ?_
  replace vc := vc.2
  rw [hM.a11 vc.1]
  replace vc := vc.2
  refine go_iconst (v := nI 5) 7 dX4_tells_6 rfl (by decide) ?_
  refine go_icmp_ne 10 25 dX4_tells_7 rfl (by decide) (fun e1 => ?_) (fun e1 => ?_)
  · replace vc := vc.1 e1
    refine go_aload_n 26 0 dX4_tells_25 rfl rfl rfl ?_
    refine go_getRe 29 dX4_tells_26 rfl (MO_k hM.1) gfX4_41_5 rfl (MO_f1413 hM.1) ?_
    refine go_iload_n 30 1 dX4_tells_29 rfl rfl rfl ?_
    refine go_iaload 31 dX4_tells_30 rfl (MO_k11 hM.1) vc.1 ?_
    replace vc := vc.2
    rw [hM.a11 vc.1]
    replace vc := vc.2
    refine go_iconst (v := nI 4) 32 dX4_tells_31 rfl (by decide) ?_
    refine go_icmp_ne 35 44 dX4_tells_32 rfl (by decide) (fun e2 => ?_) (fun e2 => ?_)
    · replace vc := vc.1 e2
      refine go_aload_n 45 0 dX4_tells_44 rfl rfl rfl ?_
      refine go_iload_n 46 1 dX4_tells_45 rfl rfl rfl ?_
      refine go_iload_n 47 2 dX4_tells_46 rfl rfl rfl ?_
      obtain ⟨P5, hR, vc⟩ := vc
      refine go_callVI (M' := mX4_plainTells) (as := [vI x1, vI x2]) 50 dX4_tells_47 rfl q2193 okX4_plainTells (MO_k hM.1) ck_4 rfl rfl rfl rfl rfl hR ?_
      intro z3 h4 p1
      replace vc := vc z3 h4 p1
      obtain ⟨t7, g8, hM, vc⟩ := vc
      exact go_ireturn dX4_tells_50 rfl vc
    · replace vc := vc.2 e2
      refine go_aload_n 36 0 dX4_tells_35 rfl rfl rfl ?_
      refine go_iload_n 37 1 dX4_tells_36 rfl rfl rfl ?_
      refine go_iload_n 38 2 dX4_tells_37 rfl rfl rfl ?_
      obtain ⟨P11, hR, vc⟩ := vc
      refine go_callVI (M' := mX4_crackedTells) (as := [vI x1, vI x2]) 41 dX4_tells_38 rfl q2189 okX4_crackedTells (MO_k hM.1) ck_4 rfl rfl rfl rfl rfl hR ?_
      intro z9 h10 p1
      replace vc := vc z9 h10 p1
      obtain ⟨t13, g14, hM, vc⟩ := vc
      refine go_goto 50 dX4_tells_41 (by decide) ?_
      exact go_ireturn dX4_tells_50 rfl vc
  · replace vc := vc.2 e1
    refine go_aload_n 11 0 dX4_tells_10 rfl rfl rfl ?_
    refine go_bipush (v := nI 61) 13 dX4_tells_11 rfl (by decide) ?_
    obtain ⟨P17, hR, vc⟩ := vc
    refine go_callVV (M' := mX4_ran) (as := [vI (nI 61)]) 16 dX4_tells_13 rfl q2157 okX4_ran (MO_k hM.1) ck_4 rfl rfl rfl rfl rfl hR ?_
    intro h16 p1
    replace vc := vc h16 p1
    obtain ⟨t19, g20, hM, vc⟩ := vc
    refine go_aload_n 17 0 dX4_tells_16 rfl rfl rfl ?_
    refine go_iload_n 18 1 dX4_tells_17 rfl rfl rfl ?_
    refine go_iload_n 19 2 dX4_tells_18 rfl rfl rfl ?_
    obtain ⟨P23, hR, vc⟩ := vc
    refine go_callVI (M' := mX4_crackedTells) (as := [vI x1, vI x2]) 22 dX4_tells_19 rfl q2189 okX4_crackedTells (MO_k hM.1) ck_4 rfl rfl rfl rfl rfl hR ?_
    intro z21 h22 p1
    replace vc := vc z21 h22 p1
    obtain ⟨t25, g26, hM, vc⟩ := vc
    refine go_iconst (v := nI 2) 23 dX4_tells_22 rfl (by decide) ?_
    refine go_imul 24 dX4_tells_23 rfl ?_
    exact go_ireturn dX4_tells_24 rfl vc

theorem bX4_act_0 {h : Hp} {b : Nat × Nat} {Q : Rs → Hp → Prop} {o : Nat} {x1 : Int32} {x2 : Int32} {x3 : Int32} {t : St} {g : Nat} (hM : MS h o t g) (vc : (∀ h1, h1 = sFI h 488 o (nI 0) → (∃ (P4 : Int32 → Hp → Prop), Ret mX4_isBody 1 [vR (some o), vI x1] h1 0 0 (RI P4) ∧ ∀ z2 h3, P4 z2 h3 → (MO h3 o ∧ ((z2 = 0 → Q (rI (nI 0)) h3) ∧ (¬ z2 = 0 → (((bt x2 0 3) → ((¬ x2 = 0 → ((¬ x2 = (nI 1) → ((¬ x2 = (nI 2) → (∃ (P13 : Int32 → Hp → Prop), Ret mX4_tells 9 [vR (some o), vI x1, vI x3] h3 0 0 (RI P13) ∧ ∀ z11 h12, P13 z11 h12 → (MO h12 o ∧ Q (rI z11) h12))) ∧ (x2 = (nI 2) → (∃ (P17 : Int32 → Hp → Prop), Ret mX4_sounds 6 [vR (some o), vI x1, vI x3] h3 0 0 (RI P17) ∧ ∀ z15 h16, P17 z15 h16 → (MO h16 o ∧ Q (rI z15) h16))))) ∧ (x2 = (nI 1) → (∃ (P21 : Int32 → Hp → Prop), Ret mX4_weighs 5 [vR (some o), vI x1, vI x3] h3 0 0 (RI P21) ∧ ∀ z19 h20, P21 z19 h20 → (MO h20 o ∧ Q (rI z19) h20))))) ∧ (x2 = 0 → (∃ (P25 : Int32 → Hp → Prop), Ret mX4_stiffens 3 [vR (some o), vI x1, vI x3] h3 0 0 (RI P25) ∧ ∀ z23 h24, P25 z23 h24 → (MO h24 o ∧ Q (rI z23) h24))))) ∧ (¬ (bt x2 0 3) → Q (rI (nI 0)) h3)))))))) : AWP mX4_act 10 0 [vR (some o), vI x1, vI x2, vI x3] [] h b Q := by
  refine go_aload_n 1 0 dX4_act_0 rfl rfl rfl ?_
  refine go_iconst (v := nI 0) 2 dX4_act_1 rfl (by decide) ?_
  refine go_putI 5 dX4_act_2 rfl (MO_k hM.1) (gpX4_522_5 _) rfl ?_
  refine AWP.nm fun h1 eh1 => ?_
  replace vc := vc h1 eh1
  have hM : MO h1 o := by rw [eh1]; exact hM.1
  refine go_aload_n 6 0 dX4_act_5 rfl rfl rfl ?_
  refine go_iload_n 7 1 dX4_act_6 rfl rfl rfl ?_
  obtain ⟨P4, hR, vc⟩ := vc
  refine go_callVI (M' := mX4_isBody) (as := [vI x1]) 10 dX4_act_7 rfl q2146 okX4_isBody (MO_k hM) ck_4 rfl rfl rfl rfl rfl hR ?_
  intro z2 h3 p1
  replace vc := vc z2 h3 p1
  have hM := vc.1
  replace vc := vc.2
  refine go_if_eq 13 22 dX4_act_10 rfl (by decide) (fun e6 => ?_) (fun e6 => ?_)
  · replace vc := vc.1 e6
    refine go_iconst (v := nI 0) 23 dX4_act_22 rfl (by decide) ?_
    exact go_ireturn dX4_act_23 rfl vc
  · replace vc := vc.2 e6
    refine go_iload_n 14 2 dX4_act_13 rfl rfl rfl ?_
    refine go_iconst (v := nI 0) 15 dX4_act_14 rfl (by decide) ?_
    refine go_iconst (v := nI 3) 16 dX4_act_15 rfl (by decide) ?_
    refine go_callSI (M' := mX4_in) (as := [vI x2, vI (nI 0), vI (nI 3)]) 19 dX4_act_16 rfl q1703 okX4_in rfl rfl rfl rfl rfl (ctX4_inL rfl rfl) ?_
    intro x0 h0 p0
    rw [p0.1, p0.2]
    refine go_if_ne 22 24 dX4_act_19 rfl (by decide) (fun e7 => ?_) (fun e7 => ?_)
    · replace vc := vc.1 (bI_n0.mp e7)
      refine go_iload_n 25 2 dX4_act_24 rfl rfl rfl ?_
      refine go_if_ne 28 37 dX4_act_25 rfl (by decide) (fun e8 => ?_) (fun e8 => ?_)
      · replace vc := vc.1 e8
        refine go_iload_n 38 2 dX4_act_37 rfl rfl rfl ?_
        refine go_iconst (v := nI 1) 39 dX4_act_38 rfl (by decide) ?_
        refine go_icmp_ne 42 51 dX4_act_39 rfl (by decide) (fun e9 => ?_) (fun e9 => ?_)
        · replace vc := vc.1 e9
          refine go_iload_n 52 2 dX4_act_51 rfl rfl rfl ?_
          refine go_iconst (v := nI 2) 53 dX4_act_52 rfl (by decide) ?_
          refine go_icmp_ne 56 65 dX4_act_53 rfl (by decide) (fun e10 => ?_) (fun e10 => ?_)
          · replace vc := vc.1 e10
            refine go_aload_n 66 0 dX4_act_65 rfl rfl rfl ?_
            refine go_iload_n 67 1 dX4_act_66 rfl rfl rfl ?_
            refine go_iload_n 68 3 dX4_act_67 rfl rfl rfl ?_
            obtain ⟨P13, hR, vc⟩ := vc
            refine go_callVI (M' := mX4_tells) (as := [vI x1, vI x3]) 71 dX4_act_68 rfl q2185 okX4_tells (MO_k hM) ck_4 rfl rfl rfl rfl rfl hR ?_
            intro z11 h12 p1
            replace vc := vc z11 h12 p1
            have hM := vc.1
            replace vc := vc.2
            exact go_ireturn dX4_act_71 rfl vc
          · replace vc := vc.2 e10
            refine go_aload_n 57 0 dX4_act_56 rfl rfl rfl ?_
            refine go_iload_n 58 1 dX4_act_57 rfl rfl rfl ?_
            refine go_iload_n 59 3 dX4_act_58 rfl rfl rfl ?_
            obtain ⟨P17, hR, vc⟩ := vc
            refine go_callVI (M' := mX4_sounds) (as := [vI x1, vI x3]) 62 dX4_act_59 rfl q2177 okX4_sounds (MO_k hM) ck_4 rfl rfl rfl rfl rfl hR ?_
            intro z15 h16 p1
            replace vc := vc z15 h16 p1
            have hM := vc.1
            replace vc := vc.2
            refine go_goto 71 dX4_act_62 (by decide) ?_
            exact go_ireturn dX4_act_71 rfl vc
        · replace vc := vc.2 e9
          refine go_aload_n 43 0 dX4_act_42 rfl rfl rfl ?_
          refine go_iload_n 44 1 dX4_act_43 rfl rfl rfl ?_
          refine go_iload_n 45 3 dX4_act_44 rfl rfl rfl ?_
          obtain ⟨P21, hR, vc⟩ := vc
          refine go_callVI (M' := mX4_weighs) (as := [vI x1, vI x3]) 48 dX4_act_45 rfl q2169 okX4_weighs (MO_k hM) ck_4 rfl rfl rfl rfl rfl hR ?_
          intro z19 h20 p1
          replace vc := vc z19 h20 p1
          have hM := vc.1
          replace vc := vc.2
          refine go_goto 71 dX4_act_48 (by decide) ?_
          exact go_ireturn dX4_act_71 rfl vc
      · replace vc := vc.2 e8
        refine go_aload_n 29 0 dX4_act_28 rfl rfl rfl ?_
        refine go_iload_n 30 1 dX4_act_29 rfl rfl rfl ?_
        refine go_iload_n 31 3 dX4_act_30 rfl rfl rfl ?_
        obtain ⟨P25, hR, vc⟩ := vc
        refine go_callVI (M' := mX4_stiffens) (as := [vI x1, vI x3]) 34 dX4_act_31 rfl q2150 okX4_stiffens (MO_k hM) ck_4 rfl rfl rfl rfl rfl hR ?_
        intro z23 h24 p1
        replace vc := vc z23 h24 p1
        have hM := vc.1
        replace vc := vc.2
        refine go_goto 71 dX4_act_34 (by decide) ?_
        exact go_ireturn dX4_act_71 rfl vc
    · replace vc := vc.2 (bI_0.mp e7)
      refine go_iconst (v := nI 0) 23 dX4_act_22 rfl (by decide) ?_
      exact go_ireturn dX4_act_23 rfl vc
