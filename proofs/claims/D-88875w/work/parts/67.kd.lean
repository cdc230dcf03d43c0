theorem pop_le : ∀ r < 7, ∀ n < 2 ^ r, pop7 n ≤ r := by decide +kernel
abbrev SF (h h' : Hp) (o : Nat) : Prop := FR h h' o [442, 437] [29, 31] [27, 28, 30]
theorem ctX4_findSums {h : Hp} {o g : Nat} {t : St} {k : Tk} {p q : Int32} (m : MS h o t (g + 1)) (K : TK h o k) : Ret mX4_findSums 13 [vR (some o), vI p, vI q] h 0 0 (RV fun h' => MS h' o t g ∧ hFI h' 437 o = nI (rws k).length ∧ (∀ j ≤ (rws k).length, hAL h' (o + 28) j = sms k p q j) ∧ SF h h' o) := by
  have h6 := K.1
  have hr := rws_le k
  refine Ret.go (by decide) rfl rfl RV.ret (bX4_findSums_0 m ⟨_, ctX4_layMatrix m K, ?_⟩)
  rintro h2 ⟨m2, mt2, nw, F2⟩
  have mm2 : MM h2 o (mt k p q) (rws k).length := fun s hs c hc z => absurd z (nw _ (by omega))
  have F2 : SF h h2 o := F2.mono rfl rfl rfl
  refine ⟨t, g, m2, ?_⟩
  have e64 : 2 ^ (rws k).length ≤ 64 := Nat.pow_le_pow_right (n := 2) (by omega) (show (rws k).length ≤ 6 by omega)
  have L2 : ∀ n, n ≤ 2 ^ (rws k).length → ∀ h', MS h' o t g → MT h' o (mt k p q) (rws k).length → MM h' o (mt k p q) (rws k).length → (∀ j ≤ (rws k).length, hAL h' (o + 28) j = smL (mt k p q) (rws k).length n j) → SF h h' o → AWP mX4_findSums 13 31 [vR (some o), vI p, vI q, vI (nI n)] [] h' (0, 0) (RV fun h' => MS h' o t g ∧ hFI h' 437 o = nI (rws k).length ∧ (∀ j ≤ (rws k).length, hAL h' (o + 28) j = sms k p q j) ∧ SF h h' o) := by
    refine lo_up ?_ ?_
    · intro n hn hS h' M T P R F
      refine bX4_findSums_31 M ?_
      rw [T.2.1, bitB6 _ (by omega)]
      refine ⟨fun z => absurd z (nI_ge hn (by omega)), fun _ => ⟨_, ctX4_bitsOf (by omega), ?_⟩⟩
      rintro z2 h3 ⟨rfl, rfl⟩
      have hp : pop7 n ≤ (rws k).length := pop_le _ (by omega) n hn
      have ep : nt (nI (pop7 n)) = pop7 n := nt_nI (by omega)
      refine ⟨t, g, M, vp_in_nI (by omega) (by omega), _, 12, rfl, ctX4_minor (M := mt k p q) (by omega) 12 n n h3 (by rw [← pop_7 n (by omega)]; omega) hn hn M T P, ?_⟩
      rintro z8 h9 ⟨rfl, m9, mm9, F9⟩
      refine ⟨t, g, m9, vp_in_nI (by omega) (by omega), fun h14 q14 => ?_⟩
      rw [ep] at q14
      rw [nI_add]
      have F14 : FR h9 h14 o [] [] [28] := by rw [q14]; exact FR.wl rfl
      refine hS h14 (by rw [q14]; exact m9.fr (PE.wl (by decide))) ((T.fr F9 rfl rfl).fr F14 rfl rfl) ?_ (fun j hj => ?_) ((F.tr (F9.mono rfl rfl rfl)).tr (F14.mono rfl rfl rfl))
      · intro s hs c hc
        rw [F14.2.1 31 rfl, F14.1 442 rfl, F14.2.2 30 rfl]
        exact mm9 s hs c hc
      · rw [q14, hAL_wL, F9.2.2 28 rfl, smL, R _ hp, ← pop_7 n (by omega)]
        by_cases c : j = pop7 n
        · rw [if_pos c, if_pos c.symm, c]
        · rw [if_neg c, if_neg (fun z => c z.symm), R j hj, Int64.add_zero]
    · intro h' M T P R F
      refine bX4_findSums_31 M ?_
      rw [T.2.1, bitB6 _ (by omega)]
      exact ⟨fun _ => RV.i ⟨M, T.2.1, R, F⟩, fun z => absurd (nI_le (Nat.le_refl _) (by omega)) z⟩
  have L1 : ∀ n, n ≤ (rws k).length + 1 → ∀ h', MS h' o t g → FR h2 h' o [] [] [28] → (∀ j < n, hAL h' (o + 28) j = 0) → AWP mX4_findSums 13 8 [vR (some o), vI p, vI q, vI (nI n)] [] h' (0, 0) (RV fun h' => MS h' o t g ∧ hFI h' 437 o = nI (rws k).length ∧ (∀ j ≤ (rws k).length, hAL h' (o + 28) j = sms k p q j) ∧ SF h h' o) := by
    refine lo_up ?_ ?_
    · intro n hn hS h' M F R
      refine bX4_findSums_8 M ?_
      rw [F.1 437 rfl, mt2.2.1, nt_nI (by omega)]
      refine ⟨fun z => absurd z (nI_nlt (by omega) (by omega)), fun _ => ⟨vp_in_nI (by omega) (by omega), fun h3 q3 => ?_⟩⟩
      rw [nI_add, q3]
      refine hS _ (M.fr (PE.wl (by decide))) (F.tr (FR.wl rfl)) (fun j hj => ?_)
      rw [hAL_wL]
      by_cases c : j = n
      · rw [if_pos c]
      · rw [if_neg c]; exact R j (by omega)
    · intro h' M F R
      refine bX4_findSums_8 M ?_
      rw [F.1 437 rfl, mt2.2.1]
      refine ⟨fun _ => L2 0 (Nat.zero_le _) h' M (mt2.fr F rfl rfl) ?_ (fun j hj => R j (by omega)) (F2.tr (F.mono rfl rfl rfl)), fun z => absurd (nI_lt (Nat.lt_succ_self _) (by omega)) z⟩
      intro s hs c hc
      rw [F.2.1 31 rfl, F.1 442 rfl, F.2.2 30 rfl]
      exact mm2 s hs c hc
  exact L1 0 (by omega) h2 m2 FR.rf (fun j hj => absurd hj (Nat.not_lt_zero j))
theorem chL_le (S : Nat → Int64) : ∀ n, (chL S n).1 ≤ n
  | 0 => Nat.le_refl _
  | n + 1 => by have := chL_le S n; unfold chL; split <;> first | exact Nat.le_succ_of_le this | exact Nat.succ_le_succ this
theorem zrL_le (S : Nat → Int64) : ∀ n, zrL S n ≤ n
  | 0 => Nat.le_refl _
  | n + 1 => by have := zrL_le S n; unfold zrL; split <;> omega
theorem ctX4_changes {h : Hp} {o g : Nat} {t : St} {k : Tk} {p q : Int32} (m : MS h o t (g + 1)) (K : TK h o k) : Ret mX4_changes 14 [vR (some o), vI p, vI q] h 0 0 (RI fun x h' => x = nI (chg k p q) ∧ MS h' o t g ∧ SF h h' o) := by
  have h6 := K.1
  have hr := rws_le k
  refine Ret.go (by decide) rfl rfl RI.ret (bX4_changes_0 m ⟨_, ctX4_findSums m K, ?_⟩)
  rintro h2 ⟨m2, e7, S2, F2⟩
  refine ⟨t, g, m2, ?_⟩
  have L : ∀ n, n ≤ (rws k).length → AWP mX4_changes 14 14 [vR (some o), vI p, vI q, vI (nI (chL (sms k p q) n).1), vI (if (chL (sms k p q) n).2 then nI 1 else nI 0), vI (nI (n + 1))] [] h2 (0, 0) (RI fun x h' => x = nI (chg k p q) ∧ MS h' o t g ∧ SF h h' o) := by
    refine lo_up ?_ ?_
    · intro n hn hS
      refine bX4_changes_14 m2 ?_
      rw [e7, nt_nI (by omega), S2 _ (by omega), lg_cmp_eq, lg_cmp_le, nI_add]
      have vv := vp_in_nI (n := n + 1) (N := 7) (by omega) (by omega)
      have P0 : ∀ x : Int64, (x ≤ 0 ↔ ¬ 0 < x) := by intro x; rw [Int64.le_iff_toInt_le, Int64.lt_iff_toInt_lt]; omega
      have K52 : ¬ sms k p q (n + 1) = 0 → ∀ s0, s0 = (if decide (0 < sms k p q (n + 1)) then nI 1 else nI 0) → AWP mX4_changes 14 52 [vR (some o), vI p, vI q, vI (nI (chL (sms k p q) n).1), vI (if (chL (sms k p q) n).2 then nI 1 else nI 0), vI (nI (n + 1))] [vI s0] h2 (0, 0) (RI fun x h' => x = nI (chg k p q) ∧ MS h' o t g ∧ SF h h' o) := by
        intro z s0 e0
        rw [chL] at hS
        refine bX4_changes_52 m2 ?_
        rw [e0, nI_add, nI_add]
        generalize chL (sms k p q) n = u at hS ⊢
        obtain ⟨u1, u2⟩ := u
        cases hd : decide (0 < sms k p q (n + 1)) <;> cases u2 <;> rw [hd] at hS
        · rw [if_pos (Or.inr rfl)] at hS
          exact ⟨fun z => absurd rfl z, fun _ => hS⟩
        · rw [if_neg (by rintro (c | c); exact z c; cases c)] at hS
          exact ⟨fun _ => ⟨fun _ => hS, fun y => absurd (show nI 1 = 0 from y) (by decide)⟩, fun y => absurd (show nI 0 = nI 1 from y) (by decide)⟩
        · rw [if_neg (by rintro (c | c); exact z c; cases c)] at hS
          exact ⟨fun _ => ⟨fun y => absurd rfl y, fun _ => hS⟩, fun y => absurd (show nI 1 = nI 0 from y) (by decide)⟩
        · rw [if_pos (Or.inr rfl)] at hS
          exact ⟨fun z => absurd rfl z, fun _ => hS⟩
      refine ⟨fun z => absurd z (nI_nlt (by omega) (by omega)), fun _ => ⟨vv, fun z => ?_, fun z => ⟨vv, fun y => K52 z _ ?_, fun y => K52 z _ ?_⟩⟩⟩
      · rw [chL, if_pos (Or.inl z)] at hS
        exact hS
      · rw [P0] at y
        rw [decide_eq_false y]
        rfl
      · rw [P0] at y
        rw [decide_eq_true (Classical.not_not.mp y)]
        rfl
    · refine bX4_changes_14 m2 ?_
      rw [e7]
      exact ⟨fun _ => RI.i ⟨rfl, m2, F2⟩, fun z => absurd (nI_lt (Nat.lt_succ_self _) (by omega)) z⟩
  exact L 0 (Nat.zero_le _)
theorem ctX4_atMark {h : Hp} {o g : Nat} {t : St} {k : Tk} {p q : Int32} (m : MS h o t (g + 1)) (K : TK h o k) : Ret mX4_atMark 14 [vR (some o), vI p, vI q] h 0 0 (RI fun x h' => x = nI (zer k p q) ∧ MS h' o t g ∧ SF h h' o) := by
  have h6 := K.1
  have hr := rws_le k
  refine Ret.go (by decide) rfl rfl RI.ret (bX4_atMark_0 m ⟨_, ctX4_findSums m K, ?_⟩)
  rintro h2 ⟨m2, e7, S2, F2⟩
  refine ⟨t, g, m2, ?_⟩
  rw [e7]
  have L : ∀ n, n ≤ (rws k).length → ∀ y, y + zrL (sms k p q) n = zer k p q → AWP mX4_atMark 14 14 [vR (some o), vI p, vI q, vI (nI y), vI (nI n)] [] h2 (0, 0) (RI fun x h' => x = nI (zer k p q) ∧ MS h' o t g ∧ SF h h' o) := by
    intro n
    induction n with
    | zero =>
      intro _ y e
      refine bX4_atMark_14 m2 ⟨fun _ => RI.i ⟨by rw [← e]; rfl, m2, F2⟩, fun z => absurd (by decide) z⟩
    | succ n ih =>
      intro hn y e
      refine bX4_atMark_14 m2 ?_
      rw [nt_nI (by omega), S2 _ hn, lg_cmp_eq, nI_add, show nI (n + 1) + (-1) = nI n from by rw [nI_succ, ← Int32.sub_eq_add_neg, Int32.add_sub_cancel]]
      rw [zrL] at e
      refine ⟨fun z => absurd z (nI_nle (by omega) (by omega)), fun _ => ⟨vp_in_nI (by omega) (by omega), fun z => RI.i ⟨?_, m2, F2⟩, fun z => ih (by omega) _ ?_⟩⟩
      · rw [if_neg z] at e
        rw [← e]
        rfl
      · rw [if_pos z] at e
        omega
  exact L _ (Nat.le_refl _) 0 (by rw [zer]; omega)
def CB (h : Hp) (o : Nat) (k : Tk) (q : Int32) : Prop := ∀ p < 100, hAI h (o + 32) p = 0 ∨ hAI h (o + 32) p = nI (1 + chg k (nI p) q)
abbrev ZF (h h' : Hp) (o : Nat) : Prop := FR h h' o [442, 437] [29, 31, 32] [27, 28, 30]
theorem ctX4_forgetChanges {h : Hp} {o g : Nat} {t : St} (m : MS h o t g) : Ret mX4_forgetChanges 0 [vR (some o)] h 0 0 (RV fun h' => MS h' o t g ∧ (∀ k q, CB h' o k q) ∧ FR h h' o [] [32] []) := by
  refine Ret.go (by decide) rfl rfl RV.ret (bX4_forgetChanges_0 m ?_)
  have L : ∀ n, n ≤ 100 → ∀ h', MS h' o t g → (∀ j < n, hAI h' (o + 32) j = 0) → FR h h' o [] [32] [] → AWP mX4_forgetChanges 0 2 [vR (some o), vI (nI n)] [] h' (0, 0) (RV fun h' => MS h' o t g ∧ (∀ k q, CB h' o k q) ∧ FR h h' o [] [32] []) := by
    refine lo_up ?_ ?_
    · intro n hn hS h' M R F
      refine bX4_forgetChanges_2 M ?_
      rw [nt_nI (by omega), nI_add]
      refine ⟨fun z => absurd z (nI_ge hn (by omega)), fun _ => ⟨vp_in_nI (by omega) (by omega), fun h2 q2 => ?_⟩⟩
      rw [q2]
      refine hS _ (M.fr (PE.w rfl)) (fun j hj => ?_) (F.tr (FR.w rfl))
      rw [hAI_w1]
      by_cases c : j = n
      · rw [if_pos c]; rfl
      · rw [if_neg c]; exact R j (by omega)
    · intro h' M R F
      exact bX4_forgetChanges_2 M ⟨fun _ => RV.i ⟨M, fun k q p hp => Or.inl (R p hp), F⟩, fun z => absurd (nI_le (Nat.le_refl _) (by omega)) z⟩
  exact L 0 (by omega) h m (fun j hj => absurd hj (Nat.not_lt_zero j)) FR.rf
theorem chg_le {h : Hp} {o : Nat} {k : Tk} {p q : Int32} (K : TK h o k) : chg k p q ≤ 6 := by
  have := chL_le (sms k p q) (rws k).length
  have := rws_le k
  have := K.1
  unfold chg
  omega
theorem ctX4_shutOf {h : Hp} {o g i : Nat} {t : St} {k : Tk} {q : Int32} (m : MS h o t (g + 7)) (K : TK h o k) (C : CB h o k q) (hi : i < 2 ^ 31) : Ret mX4_shutOf 15 [vR (some o), vI (nI i), vI q] h 0 0 (RI fun x h' => x = nI (sht k q i) ∧ MS h' o t g ∧ CB h' o k q ∧ ZF h h' o) := by
  refine Ret.go (by decide) rfl rfl RI.ret (bX4_shutOf_0 m ?_)
  have L : ∀ f lo hh h' y, lo < hh → hh ≤ 100 → hh - lo ≤ 2 ^ f → shL (fun p => chg k (nI p) q) i f lo hh = sht k q i → MS h' o t (g + f) → TK h' o k → CB h' o k q → ZF h h' o → AWP mX4_shutOf 15 6 [vR (some o), vI (nI i), vI q, vI (nI lo), vI (nI hh), y] [] h' (0, 0) (RI fun x h' => x = nI (sht k q i) ∧ MS h' o t g ∧ CB h' o k q ∧ ZF h h' o) := by
    intro f
    induction f with
    | zero =>
      intro lo hh h' y hl h100 h2 e M K1 C1 F
      refine bX4_shutOf_6 M ?_
      rw [nI_sub (by omega), nI_leI (by omega) (by omega)]
      have h2 : hh - lo ≤ 1 := h2
      exact ⟨fun _ => RI.i ⟨by rw [← e]; rfl, M, C1, F⟩, fun z => absurd h2 z⟩
    | succ f ih =>
      intro lo hh h' y hl h100 h2 e M K1 C1 F
      have h2 : hh - lo ≤ 2 * 2 ^ f := by rw [Nat.pow_succ] at h2; omega
      have hp1 : 1 ≤ 2 ^ f := Nat.one_le_two_pow
      refine bX4_shutOf_6 M ?_
      rw [nI_sub (by omega), nI_leI (by omega) (by omega), nI_add, nI_div (by omega) (by omega), nt_nI (by omega)]
      rw [shL] at e
      have vv := vp_in_nI (n := (lo + hh) / 2) (N := 100) (by omega) (by omega)
      refine ⟨fun z => RI.i ⟨by rw [if_pos z] at e; rw [← e], M.le (by omega), C1, F⟩, fun z => ⟨vv, ?_⟩⟩
      rw [if_neg z] at e
      have c6 := chg_le (p := nI ((lo + hh) / 2)) (q := q) K1
      have go : ∀ h', hAI h' (o + 32) ((lo + hh) / 2) = nI (1 + chg k (nI ((lo + hh) / 2)) q) → MS h' o t (g + f) → TK h' o k → CB h' o k q → ZF h h' o → AWP mX4_shutOf 15 48 [vR (some o), vI (nI i), vI q, vI (nI lo), vI (nI hh), vI (nI ((lo + hh) / 2))] [] h' (0, 0) (RI fun x h' => x = nI (sht k q i) ∧ MS h' o t g ∧ CB h' o k q ∧ ZF h h' o) := by
        intro h' ec M K1 C1 F
        refine bX4_shutOf_48 M ?_
        rw [nt_nI (by omega), ec, nI_sub (by omega), nI_ltI hi (by omega)]
        refine ⟨vv, fun y => ih _ _ _ _ (by omega) (by omega) (by omega) ?_ M K1 C1 F, fun y => ih _ _ _ _ (by omega) (by omega) (by omega) ?_ M K1 C1 F⟩
        · rw [if_neg (by omega)] at e
          exact e
        · rw [if_pos (by omega)] at e
          exact e
      refine ⟨fun y => go h' ((C1 _ (by omega)).resolve_left y) (M.le (by omega)) K1 C1 F, fun y => ⟨_, ctX4_changes M K1, ?_⟩⟩
      rintro z3 h4 ⟨rfl, m4, F4⟩
      refine ⟨t, g + f, m4, vv, fun h9 q9 => ?_⟩
      rw [nI_add] at q9
      have F9 : FR h4 h9 o [] [32] [] := by rw [q9]; exact FR.w rfl
      refine go h9 (by rw [q9, hAI_w1, if_pos rfl]) (by rw [q9]; exact m4.fr (PE.w rfl)) ((K1.fr F4 rfl rfl rfl rfl rfl).fr F9 rfl rfl rfl rfl rfl) (fun p hp => ?_) ((F.tr (F4.mono rfl rfl rfl)).tr (F9.mono rfl rfl rfl))
      rw [q9, hAI_w1]
      by_cases c : p = (lo + hh) / 2
      · rw [if_pos c, c]; exact Or.inr rfl
      · rw [if_neg c, F4.2.1 32 rfl]; exact C1 p hp
  exact L 7 0 100 h vU (by omega) (by omega) (by decide) rfl m K C FR.rf
theorem ctX4_shutNow {h : Hp} {o g i : Nat} {t : St} {k : Tk} {q : Int32} (m : MS h o t (g + 7)) (K : TK h o k) (hi : i < 2 ^ 31) : Ret mX4_shutNow 16 [vR (some o), vI (nI i), vI q] h 0 0 (RI fun x h' => x = nI (sht k q i) ∧ MS h' o t g ∧ CB h' o k q ∧ ZF h h' o) := by
  refine Ret.go (by decide) rfl rfl RI.ret (bX4_shutNow_0 m ⟨_, ctX4_forgetChanges m, ?_⟩)
  rintro h2 ⟨m2, C2, F2⟩
  refine ⟨_, _, m2, _, ctX4_shutOf m2 (K.fr F2 rfl rfl rfl rfl rfl) (C2 k q) hi, ?_⟩
  rintro z h3 ⟨rfl, m3, C3, F3⟩
  exact ⟨_, _, m3, RI.i ⟨rfl, m3, C3, (F2.mono rfl rfl rfl).tr F3⟩⟩
