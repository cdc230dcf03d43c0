theorem bX4_in_0 {h : Hp} {b : Nat × Nat} {Q : Rs → Hp → Prop} {x0 : Int32} {x1 : Int32} {x2 : Int32} (vc : ((x0 < x1 → Q (rI (nI 0)) h) ∧ (¬ x0 < x1 → ((x2 < x0 → Q (rI (nI 0)) h) ∧ (¬ x2 < x0 → Q (rI (nI 1)) h))))) : AWP mX4_in 0 0 [vI x0, vI x1, vI x2] [] h b Q := by
  refine go_iload_n 1 0 dX4_in_0 rfl rfl rfl ?_
  refine go_iload_n 2 1 dX4_in_1 rfl rfl rfl ?_
  refine go_icmp_lt 5 14 dX4_in_2 rfl (by decide) (fun e1 => ?_) (fun e1 => ?_)
  · replace vc := vc.1 e1
    refine go_iconst (v := nI 0) 15 dX4_in_14 rfl (by decide) ?_
    exact go_zreturn dX4_in_15 rfl (by decide) vc
  · replace vc := vc.2 e1
    refine go_iload_n 6 0 dX4_in_5 rfl rfl rfl ?_
    refine go_iload_n 7 2 dX4_in_6 rfl rfl rfl ?_
    refine go_icmp_gt 10 14 dX4_in_7 rfl (by decide) (fun e2 => ?_) (fun e2 => ?_)
    · replace vc := vc.1 e2
      refine go_iconst (v := nI 0) 15 dX4_in_14 rfl (by decide) ?_
      exact go_zreturn dX4_in_15 rfl (by decide) vc
    · replace vc := vc.2 e2
      refine go_iconst (v := nI 1) 11 dX4_in_10 rfl (by decide) ?_
      refine go_goto 15 dX4_in_11 (by decide) ?_
      exact go_zreturn dX4_in_15 rfl (by decide) vc

theorem bX4_lesser_0 {h : Hp} {b : Nat × Nat} {Q : Rs → Hp → Prop} {x0 : Int32} {x1 : Int32} (vc : ((x1 ≤ x0 → Q (rI x1) h) ∧ (¬ x1 ≤ x0 → Q (rI x0) h))) : AWP mX4_lesser 0 0 [vI x0, vI x1] [] h b Q := by
  refine go_iload_n 1 0 dX4_lesser_0 rfl rfl rfl ?_
  refine go_iload_n 2 1 dX4_lesser_1 rfl rfl rfl ?_
  refine go_icmp_ge 5 9 dX4_lesser_2 rfl (by decide) (fun e1 => ?_) (fun e1 => ?_)
  · replace vc := vc.1 e1
    refine go_iload_n 10 1 dX4_lesser_9 rfl rfl rfl ?_
    exact go_ireturn dX4_lesser_10 rfl vc
  · replace vc := vc.2 e1
    refine go_iload_n 6 0 dX4_lesser_5 rfl rfl rfl ?_
    refine go_goto 10 dX4_lesser_6 (by decide) ?_
    exact go_ireturn dX4_lesser_10 rfl vc

theorem bX4_greater_0 {h : Hp} {b : Nat × Nat} {Q : Rs → Hp → Prop} {x0 : Int32} {x1 : Int32} (vc : ((x0 ≤ x1 → Q (rI x1) h) ∧ (¬ x0 ≤ x1 → Q (rI x0) h))) : AWP mX4_greater 0 0 [vI x0, vI x1] [] h b Q := by
  refine go_iload_n 1 0 dX4_greater_0 rfl rfl rfl ?_
  refine go_iload_n 2 1 dX4_greater_1 rfl rfl rfl ?_
  refine go_icmp_le 5 9 dX4_greater_2 rfl (by decide) (fun e1 => ?_) (fun e1 => ?_)
  · replace vc := vc.1 e1
    refine go_iload_n 10 1 dX4_greater_9 rfl rfl rfl ?_
    exact go_ireturn dX4_greater_10 rfl vc
  · replace vc := vc.2 e1
    refine go_iload_n 6 0 dX4_greater_5 rfl rfl rfl ?_
    refine go_goto 10 dX4_greater_6 (by decide) ?_
    exact go_ireturn dX4_greater_10 rfl vc

theorem bX4_sizeOf_0 {h : Hp} {b : Nat × Nat} {Q : Rs → Hp → Prop} {x0 : Int32} (vc : ((0 ≤ x0 → Q (rI x0) h) ∧ (¬ 0 ≤ x0 → Q (rI (-x0)) h))) : AWP mX4_sizeOf 0 0 [vI x0] [] h b Q := by
  refine go_iload_n 1 0 dX4_sizeOf_0 rfl rfl rfl ?_
  refine go_if_ge 4 9 dX4_sizeOf_1 rfl (by decide) (fun e1 => ?_) (fun e1 => ?_)
  · replace vc := vc.1 e1
    refine go_iload_n 10 0 dX4_sizeOf_9 rfl rfl rfl ?_
    exact go_ireturn dX4_sizeOf_10 rfl vc
  · replace vc := vc.2 e1
    refine go_iload_n 5 0 dX4_sizeOf_4 rfl rfl rfl ?_
    refine go_ineg 6 dX4_sizeOf_5 rfl ?_
    refine go_goto 10 dX4_sizeOf_6 (by decide) ?_
    exact go_ireturn dX4_sizeOf_10 rfl vc

theorem bX4_at_0 {h : Hp} {b : Nat × Nat} {Q : Rs → Hp → Prop} {x0 : Int32} {x1 : Int32} {x2 : Int32} (vc : Q (rI ((((nI 36) * x0) + ((nI 6) * x1)) + x2)) h) : AWP mX4_at 0 0 [vI x0, vI x1, vI x2] [] h b Q := by
  refine go_bipush (v := nI 36) 2 dX4_at_0 rfl (by decide) ?_
  refine go_iload_n 3 0 dX4_at_2 rfl rfl rfl ?_
  refine go_imul 4 dX4_at_3 rfl ?_
  refine go_bipush (v := nI 6) 6 dX4_at_4 rfl (by decide) ?_
  refine go_iload_n 7 1 dX4_at_6 rfl rfl rfl ?_
  refine go_imul 8 dX4_at_7 rfl ?_
  refine go_iadd 9 dX4_at_8 rfl ?_
  refine go_iload_n 10 2 dX4_at_9 rfl rfl rfl ?_
  refine go_iadd 11 dX4_at_10 rfl ?_
  exact go_ireturn dX4_at_11 rfl vc

theorem bX4_massOf_0 {h : Hp} {b : Nat × Nat} {Q : Rs → Hp → Prop} {x0 : Int32} {x1 : Int32} (vc : (((x0 + x1) ≤ (nI 9) → Q (rI (x0 + x1)) h) ∧ (¬ (x0 + x1) ≤ (nI 9) → Q (rI (nI 9)) h))) : AWP mX4_massOf 0 0 [vI x0, vI x1] [] h b Q := by
  refine go_iload_n 1 0 dX4_massOf_0 rfl rfl rfl ?_
  refine go_iload_n 2 1 dX4_massOf_1 rfl rfl rfl ?_
  refine go_iadd 3 dX4_massOf_2 rfl ?_
  refine go_bipush (v := nI 9) 5 dX4_massOf_3 rfl (by decide) ?_
  refine go_icmp_le 8 13 dX4_massOf_5 rfl (by decide) (fun e1 => ?_) (fun e1 => ?_)
  · replace vc := vc.1 e1
    refine go_iload_n 14 0 dX4_massOf_13 rfl rfl rfl ?_
    refine go_iload_n 15 1 dX4_massOf_14 rfl rfl rfl ?_
    refine go_iadd 16 dX4_massOf_15 rfl ?_
    exact go_ireturn dX4_massOf_16 rfl vc
  · replace vc := vc.2 e1
    refine go_bipush (v := nI 9) 10 dX4_massOf_8 rfl (by decide) ?_
    refine go_goto 16 dX4_massOf_10 (by decide) ?_
    exact go_ireturn dX4_massOf_16 rfl vc

theorem bX4_mostOf_0 {h : Hp} {b : Nat × Nat} {Q : Rs → Hp → Prop} {x0 : Int32} (vc : ((¬ x0 = 0 → ((¬ x0 = (nI 1) → Q (rI 2147483647) h) ∧ (x0 = (nI 1) → Q (rI (nI 32767)) h))) ∧ (x0 = 0 → Q (rI (nI 127)) h))) : AWP mX4_mostOf 0 0 [vI x0] [] h b Q := by
  refine go_iload_n 1 0 dX4_mostOf_0 rfl rfl rfl ?_
  refine go_if_ne 4 9 dX4_mostOf_1 rfl (by decide) (fun e1 => ?_) (fun e1 => ?_)
  · replace vc := vc.1 e1
    refine go_iload_n 10 0 dX4_mostOf_9 rfl rfl rfl ?_
    refine go_iconst (v := nI 1) 11 dX4_mostOf_10 rfl (by decide) ?_
    refine go_icmp_ne 14 20 dX4_mostOf_11 rfl (by decide) (fun e2 => ?_) (fun e2 => ?_)
    · replace vc := vc.1 e2
      refine go_ldcw 23 dX4_mostOf_20 rfl q2070 ?_
      exact go_ireturn dX4_mostOf_23 rfl vc
    · replace vc := vc.2 e2
      refine go_sipush (v := nI 32767) 17 dX4_mostOf_14 rfl (by decide) ?_
      refine go_goto 23 dX4_mostOf_17 (by decide) ?_
      exact go_ireturn dX4_mostOf_23 rfl vc
  · replace vc := vc.2 e1
    refine go_bipush (v := nI 127) 6 dX4_mostOf_4 rfl (by decide) ?_
    refine go_goto 23 dX4_mostOf_6 (by decide) ?_
    exact go_ireturn dX4_mostOf_23 rfl vc

theorem bX4_signOf_0 {h : Hp} {b : Nat × Nat} {Q : Rs → Hp → Prop} {x0 : Int32} {x1 : Int32} (vc : (¬ x0 = 0 ∧ (((x0 - ((nI 2) * (x1 - x1 / x0 * x0))) ≤ 0 → ((0 ≤ (x0 - ((nI 2) * (x1 - x1 / x0 * x0))) → Q (rI (nI 0)) h) ∧ (¬ 0 ≤ (x0 - ((nI 2) * (x1 - x1 / x0 * x0))) → Q (rI (-1)) h))) ∧ (¬ (x0 - ((nI 2) * (x1 - x1 / x0 * x0))) ≤ 0 → Q (rI (nI 1)) h)))) : AWP mX4_signOf 0 0 [vI x0, vI x1, vU] [] h b Q := by
  refine go_iload_n 1 0 dX4_signOf_0 rfl rfl rfl ?_
  refine go_iconst (v := nI 2) 2 dX4_signOf_1 rfl (by decide) ?_
  refine go_iload_n 3 1 dX4_signOf_2 rfl rfl rfl ?_
  refine go_iload_n 4 0 dX4_signOf_3 rfl rfl rfl ?_
  refine go_irem 5 dX4_signOf_4 rfl vc.1 ?_
  replace vc := vc.2
  refine go_imul 6 dX4_signOf_5 rfl ?_
  refine go_isub 7 dX4_signOf_6 rfl ?_
  refine go_istore_n 8 2 [vI x0, vI x1, vI (x0 - ((nI 2) * (x1 - x1 / x0 * x0)))] dX4_signOf_7 rfl rfl rfl rfl ?_
  refine go_iload_n 9 2 dX4_signOf_8 rfl rfl rfl ?_
  refine go_if_le 12 16 dX4_signOf_9 rfl (by decide) (fun e1 => ?_) (fun e1 => ?_)
  · replace vc := vc.1 e1
    refine go_iload_n 17 2 dX4_signOf_16 rfl rfl rfl ?_
    refine go_if_ge 20 24 dX4_signOf_17 rfl (by decide) (fun e2 => ?_) (fun e2 => ?_)
    · replace vc := vc.1 e2
      refine go_iconst (v := nI 0) 25 dX4_signOf_24 rfl (by decide) ?_
      exact go_ireturn dX4_signOf_25 rfl vc
    · replace vc := vc.2 e2
      refine go_iconst (v := (-1)) 21 dX4_signOf_20 rfl (by decide) ?_
      refine go_goto 25 dX4_signOf_21 (by decide) ?_
      exact go_ireturn dX4_signOf_25 rfl vc
  · replace vc := vc.2 e1
    refine go_iconst (v := nI 1) 13 dX4_signOf_12 rfl (by decide) ?_
    refine go_goto 25 dX4_signOf_13 (by decide) ?_
    exact go_ireturn dX4_signOf_25 rfl vc

theorem bX4_isUnder_0 {h : Hp} {b : Nat × Nat} {Q : Rs → Hp → Prop} {x0 : Int32} {x1 : Int32} (vc : ((x1 = 0 → Q (rI (nI 1)) h) ∧ (¬ x1 = 0 → ((¬ x0 = x1 → ((¬ x1 = (nI 1) → ((¬ x1 = (nI 4) → Q (rI (nI 0)) h) ∧ (x1 = (nI 4) → ((¬ x0 = (nI 5) → Q (rI (nI 0)) h) ∧ (x0 = (nI 5) → Q (rI (nI 1)) h))))) ∧ (x1 = (nI 1) → ((x0 = (nI 2) → Q (rI (nI 1)) h) ∧ (¬ x0 = (nI 2) → ((x0 = (nI 4) → Q (rI (nI 1)) h) ∧ (¬ x0 = (nI 4) → ((x0 = (nI 5) → Q (rI (nI 1)) h) ∧ (¬ x0 = (nI 5) → ((¬ x1 = (nI 4) → Q (rI (nI 0)) h) ∧ (x1 = (nI 4) → ((¬ x0 = (nI 5) → Q (rI (nI 0)) h) ∧ (x0 = (nI 5) → Q (rI (nI 1)) h))))))))))))) ∧ (x0 = x1 → Q (rI (nI 1)) h))))) : AWP mX4_isUnder 0 0 [vI x0, vI x1] [] h b Q := by
  refine go_iload_n 1 1 dX4_isUnder_0 rfl rfl rfl ?_
  refine go_if_eq 4 9 dX4_isUnder_1 rfl (by decide) (fun e1 => ?_) (fun e1 => ?_)
  · replace vc := vc.1 e1
    refine go_iconst (v := nI 1) 10 dX4_isUnder_9 rfl (by decide) ?_
    exact go_zreturn dX4_isUnder_10 rfl (by decide) vc
  · replace vc := vc.2 e1
    refine go_iload_n 5 0 dX4_isUnder_4 rfl rfl rfl ?_
    refine go_iload_n 6 1 dX4_isUnder_5 rfl rfl rfl ?_
    refine go_icmp_ne 9 11 dX4_isUnder_6 rfl (by decide) (fun e2 => ?_) (fun e2 => ?_)
    · replace vc := vc.1 e2
      refine go_iload_n 12 1 dX4_isUnder_11 rfl rfl rfl ?_
      refine go_iconst (v := nI 1) 13 dX4_isUnder_12 rfl (by decide) ?_
      refine go_icmp_ne 16 31 dX4_isUnder_13 rfl (by decide) (fun e3 => ?_) (fun e3 => ?_)
      · replace vc := vc.1 e3
        refine go_iload_n 32 1 dX4_isUnder_31 rfl rfl rfl ?_
        refine go_iconst (v := nI 4) 33 dX4_isUnder_32 rfl (by decide) ?_
        refine go_icmp_ne 36 45 dX4_isUnder_33 rfl (by decide) (fun e4 => ?_) (fun e4 => ?_)
        · replace vc := vc.1 e4
          refine go_iconst (v := nI 0) 46 dX4_isUnder_45 rfl (by decide) ?_
          exact go_zreturn dX4_isUnder_46 rfl (by decide) vc
        · replace vc := vc.2 e4
          refine go_iload_n 37 0 dX4_isUnder_36 rfl rfl rfl ?_
          refine go_iconst (v := nI 5) 38 dX4_isUnder_37 rfl (by decide) ?_
          refine go_icmp_ne 41 45 dX4_isUnder_38 rfl (by decide) (fun e5 => ?_) (fun e5 => ?_)
          · replace vc := vc.1 e5
            refine go_iconst (v := nI 0) 46 dX4_isUnder_45 rfl (by decide) ?_
            exact go_zreturn dX4_isUnder_46 rfl (by decide) vc
          · replace vc := vc.2 e5
            refine go_iconst (v := nI 1) 42 dX4_isUnder_41 rfl (by decide) ?_
            refine go_goto 46 dX4_isUnder_42 (by decide) ?_
            exact go_zreturn dX4_isUnder_46 rfl (by decide) vc
      · replace vc := vc.2 e3
        refine go_iload_n 17 0 dX4_isUnder_16 rfl rfl rfl ?_
        refine go_iconst (v := nI 2) 18 dX4_isUnder_17 rfl (by decide) ?_
        refine go_icmp_eq 21 41 dX4_isUnder_18 rfl (by decide) (fun e6 => ?_) (fun e6 => ?_)
        · replace vc := vc.1 e6
          refine go_iconst (v := nI 1) 42 dX4_isUnder_41 rfl (by decide) ?_
          refine go_goto 46 dX4_isUnder_42 (by decide) ?_
          exact go_zreturn dX4_isUnder_46 rfl (by decide) vc
        · replace vc := vc.2 e6
          refine go_iload_n 22 0 dX4_isUnder_21 rfl rfl rfl ?_
          refine go_iconst (v := nI 4) 23 dX4_isUnder_22 rfl (by decide) ?_
          refine go_icmp_eq 26 41 dX4_isUnder_23 rfl (by decide) (fun e7 => ?_) (fun e7 => ?_)
          · replace vc := vc.1 e7
            refine go_iconst (v := nI 1) 42 dX4_isUnder_41 rfl (by decide) ?_
            refine go_goto 46 dX4_isUnder_42 (by decide) ?_
            exact go_zreturn dX4_isUnder_46 rfl (by decide) vc
          · replace vc := vc.2 e7
            refine go_iload_n 27 0 dX4_isUnder_26 rfl rfl rfl ?_
            refine go_iconst (v := nI 5) 28 dX4_isUnder_27 rfl (by decide) ?_
            refine go_icmp_eq 31 41 dX4_isUnder_28 rfl (by decide) (fun e8 => ?_) (fun e8 => ?_)
            · replace vc := vc.1 e8
              refine go_iconst (v := nI 1) 42 dX4_isUnder_41 rfl (by decide) ?_
              refine go_goto 46 dX4_isUnder_42 (by decide) ?_
              exact go_zreturn dX4_isUnder_46 rfl (by decide) vc
            · replace vc := vc.2 e8
              refine go_iload_n 32 1 dX4_isUnder_31 rfl rfl rfl ?_
              refine go_iconst (v := nI 4) 33 dX4_isUnder_32 rfl (by decide) ?_
              refine go_icmp_ne 36 45 dX4_isUnder_33 rfl (by decide) (fun e9 => ?_) (fun e9 => ?_)
              · replace vc := vc.1 e9
                refine go_iconst (v := nI 0) 46 dX4_isUnder_45 rfl (by decide) ?_
                exact go_zreturn dX4_isUnder_46 rfl (by decide) vc
              · replace vc := vc.2 e9
                refine go_iload_n 37 0 dX4_isUnder_36 rfl rfl rfl ?_
                refine go_iconst (v := nI 5) 38 dX4_isUnder_37 rfl (by decide) ?_
                refine go_icmp_ne 41 45 dX4_isUnder_38 rfl (by decide) (fun e10 => ?_) (fun e10 => ?_)
                · replace vc := vc.1 e10
                  refine go_iconst (v := nI 0) 46 dX4_isUnder_45 rfl (by decide) ?_
                  exact go_zreturn dX4_isUnder_46 rfl (by decide) vc
                · replace vc := vc.2 e10
                  refine go_iconst (v := nI 1) 42 dX4_isUnder_41 rfl (by decide) ?_
                  refine go_goto 46 dX4_isUnder_42 (by decide) ?_
                  exact go_zreturn dX4_isUnder_46 rfl (by decide) vc
    · replace vc := vc.2 e2
      refine go_iconst (v := nI 1) 10 dX4_isUnder_9 rfl (by decide) ?_
      exact go_zreturn dX4_isUnder_10 rfl (by decide) vc

theorem bX4_bitsOf_0 {h : Hp} {b : Nat × Nat} {Q : Rs → Hp → Prop} {x0 : Int32} (vc : AWP mX4_bitsOf 0 4 [vI x0, vI (nI 0), vI x0] [] h b Q) : AWP mX4_bitsOf 0 0 [vI x0, vU, vU] [] h b Q := by
  refine go_iconst (v := nI 0) 1 dX4_bitsOf_0 rfl (by decide) ?_
  refine go_istore_n 2 1 [vI x0, vI (nI 0), vU] dX4_bitsOf_1 rfl rfl rfl rfl ?_
  refine go_iload_n 3 0 dX4_bitsOf_2 rfl rfl rfl ?_
  refine go_istore_n 4 2 [vI x0, vI (nI 0), vI x0] dX4_bitsOf_3 rfl rfl rfl rfl ?_
  exact vc

theorem bX4_bitsOf_4 {h : Hp} {b : Nat × Nat} {Q : Rs → Hp → Prop} {x0 : Int32} {x1 : Int32} {x2 : Int32} (vc : ((x2 = 0 → Q (rI x1) h) ∧ (¬ x2 = 0 → AWP mX4_bitsOf 0 4 [vI x0, vI (x1 + nI 1), vI (x2 &&& (x2 - (nI 1)))] [] h b Q))) : AWP mX4_bitsOf 0 4 [vI x0, vI x1, vI x2] [] h b Q := by
  refine go_iload_n 5 2 dX4_bitsOf_4 rfl rfl rfl ?_
  refine go_if_eq 8 20 dX4_bitsOf_5 rfl (by decide) (fun e1 => ?_) (fun e1 => ?_)
  · replace vc := vc.1 e1
    refine go_iload_n 21 1 dX4_bitsOf_20 rfl rfl rfl ?_
    exact go_ireturn dX4_bitsOf_21 rfl vc
  · replace vc := vc.2 e1
    refine go_iinc 11 (x1 + nI 1) [vI x0, vI (x1 + nI 1), vI x2] dX4_bitsOf_8 rfl rfl (by rfl) rfl rfl ?_
    refine go_iload_n 12 2 dX4_bitsOf_11 rfl rfl rfl ?_
    refine go_iload_n 13 2 dX4_bitsOf_12 rfl rfl rfl ?_
    refine go_iconst (v := nI 1) 14 dX4_bitsOf_13 rfl (by decide) ?_
    refine go_isub 15 dX4_bitsOf_14 rfl ?_
    refine go_iand 16 dX4_bitsOf_15 rfl ?_
    refine go_istore_n 17 2 [vI x0, vI (x1 + nI 1), vI (x2 &&& (x2 - (nI 1)))] dX4_bitsOf_16 rfl rfl rfl rfl ?_
    refine go_goto 4 dX4_bitsOf_17 (by decide) ?_
    exact vc
