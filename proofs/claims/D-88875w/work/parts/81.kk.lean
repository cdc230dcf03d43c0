def TN (h : Hp) (o : Nat) (x : Tn) : Prop := hFI h 461 o = x.1 ∧ hFI h 462 o = x.2.1 ∧ hFI h 463 o = x.2.2.1 ∧ hFI h 464 o = x.2.2.2
theorem stkL_ext {t : St} {r r' : Nat → Nat} : ∀ n, (∀ k < n, r k = r' k) → stkL t r n = stkL t r' n
  | 0, _ => rfl
  | n + 1, e => by rw [stkL, stkL, stkL_ext n (fun k hk => e k (by omega)), e n (by omega)]
theorem tnD_ext {r r' : Nat → Nat} : ∀ n, (∀ k < n, r k = r' k) → tnD r n = tnD r' n
  | 0, _ => rfl
  | n + 1, e => by rw [tnD, tnD, tnD_ext n (fun k hk => e k (by omega)), e n (by omega)]
theorem foldl_stop {α : Type} {f : α → Nat → α} {x : α} {n : Nat} : ∀ d, (∀ i, n ≤ i → ∀ y, f y i = y) → (List.range (n + d)).foldl f x = (List.range n).foldl f x
  | 0, _ => rfl
  | d + 1, e => by rw [← Nat.add_assoc, List.range_succ, List.foldl_append, foldl_stop d e]; exact e _ (by omega) _
theorem ctX4_tuneOn {o : Nat} {t : St} (W : WF t) (h0 : pm t ≠ 0) : ∀ f d g r done h x, f ≤ pm t → 17 + f ≤ d → done ≤ 4 → MS h o t (g + 42 * 4 ^ f) → TR h o (pm t - f) r → (∀ k < pm t, r k ≤ 3) → TN h o x → Ret mX4_tuneOn d [vR (some o), vI (nI (pm t - f)), vI (nI done)] h 0 0 (RV fun h' => MS h' o t g ∧ TR h' o (pm t - f) r ∧ TN h' o (tnR t f r done x)) := by
  intro f
  induction f with
  | zero =>
    intro d g r done h x hf hd hdn m T hr N
    have hp := m.b_pm
    refine Ret.go (by decide) rfl rfl RV.ret (bX4_tuneOn_0 (by omega) m ⟨fun z => absurd rfl z, fun _ => ⟨_, ctX4_lacks (g := g) m W h0 T hr, ?_⟩⟩)
    rintro z2 h3 ⟨E, m3, F3⟩
    refine ⟨_, _, m3, ?_⟩
    obtain ⟨n1, n2, n3, n4⟩ := N
    have e1 : hFI h3 461 o = x.1 := by rw [F3.1 461 rfl]; exact n1
    have e2 : hFI h3 462 o = x.2.1 := by rw [F3.1 462 rfl]; exact n2
    have e3 : hFI h3 463 o = x.2.2.1 := by rw [F3.1 463 rfl]; exact n3
    have e4 : hFI h3 464 o = x.2.2.2 := by rw [F3.1 464 rfl]; exact n4
    have T3 : TR h3 o (pm t - 0) r := fun k hk => by rw [F3.2.1 41 rfl]; exact T k hk
    show _ ∧ _
    rw [e3, e4]
    cases hs : stkL t r (pm t) with
    | none =>
      rw [hs] at E
      have E : z2 = -1 := E
      rw [E]
      refine ⟨fun z => absurd z (by decide), fun _ => RV.i ⟨m3, T3, ?_⟩⟩
      show TN h3 o (tnU t x r done)
      rw [tnU, hs]
      exact ⟨e1, e2, e3, e4⟩
    | some k =>
      rw [hs] at E
      have E : z2 = apt t k (wm t) := E
      obtain ⟨a1, a2⟩ := apt_small W.Pl (wm t) (Nat.le_refl _) m.b_wm (x := k)
      have z0 : 0 ≤ z2 := by rw [E, le_i]; exact a1
      have U : tnU t x r done = (let y : Tn := if x.2.2.1 < 0 ∨ apt t k (wm t) < x.2.2.1 ∨ apt t k (wm t) = x.2.2.1 ∧ nI done < x.2.2.2 then (x.1, x.2.1, apt t k (wm t), nI done) else x
        if 0 < apt t k (wm t) ∨ 0 ≤ x.1 ∧ (x.1 < nI done ∨ nI done = x.1 ∧ x.2.1 ≤ tnD r (pm t)) then y else (nI done, tnD r (pm t), y.2.2.1, y.2.2.2)) := by rw [tnU, hs]
      rw [← E] at U
      -- the second half
      have go : ∀ (y : Tn), y.1 = x.1 → y.2.1 = x.2.1 → (y = if x.2.2.1 < 0 ∨ z2 < x.2.2.1 ∨ z2 = x.2.2.1 ∧ nI done < x.2.2.2 then (x.1, x.2.1, z2, nI done) else x) → ∀ h', MS h' o t g → TR h' o (pm t - 0) r → TN h' o y → AWP mX4_tuneOn d 59 [vR (some o), vI (nI (pm t - 0)), vI (nI done), vI z2] [] h' (0, 0) (RV fun h' => MS h' o t g ∧ TR h' o (pm t - 0) r ∧ TN h' o (tnR t 0 r done x)) := by
        intro y y1 y2 ey h' M T N
        have U : tnR t 0 r done x = if 0 < z2 ∨ 0 ≤ x.1 ∧ (x.1 < nI done ∨ nI done = x.1 ∧ x.2.1 ≤ tnD r (pm t)) then y else (nI done, tnD r (pm t), y.2.2.1, y.2.2.2) := by
          show tnU t x r done = _
          rw [U, ey]
        obtain ⟨c1, c2, c3, c4⟩ := N
        have set : ¬ (0 < z2 ∨ 0 ≤ x.1 ∧ (x.1 < nI done ∨ nI done = x.1 ∧ x.2.1 ≤ tnD r (pm t))) → ∀ h' , MS h' o t g → TR h' o (pm t - 0) r → TN h' o y → ∀ h3, h3 = sFI h' 461 o (nI done) → (∃ (P6 : Int32 → Hp → Prop), Ret mX4_digitsOf 0 [vR (some o)] h3 0 0 (RI P6) ∧ ∀ z4 h5, P6 z4 h5 → (∃ t8 g9, MS h5 o t8 g9 ∧ (∀ h10, h10 = sFI h5 462 o z4 → RV (fun h' => MS h' o t g ∧ TR h' o (pm t - 0) r ∧ TN h' o (tnR t 0 r done x)) rV h10))) := by
          intro c h' M T N h3 q3
          have m3 : MS h3 o t g := by rw [q3]; exact M.fr (PE.F rfl)
          have T3 : TR h3 o (pm t - 0) r := by rw [q3]; exact T
          refine ⟨_, ctX4_digitsOf m3 T3 hr, ?_⟩
          rintro z4 h5 ⟨rfl, rfl⟩
          refine ⟨_, _, m3, fun h10 q10 => ?_⟩
          rw [q10]
          refine RV.i ⟨m3.fr (PE.F rfl), T3, ?_⟩
          rw [U, if_neg c]
          obtain ⟨c1, c2, c3, c4⟩ := N
          refine ⟨?_, hFI_s, ?_, ?_⟩
          · rw [hFI_sn (by decide), q3]; exact hFI_s
          · rw [hFI_sn (by decide), q3, hFI_sn (by decide)]; exact c3
          · rw [hFI_sn (by decide), q3, hFI_sn (by decide)]; exact c4
        refine bX4_tuneOn_59 (by omega) M ?_
        rw [c1, y1]
        have keep : (0 < z2 ∨ 0 ≤ x.1 ∧ (x.1 < nI done ∨ nI done = x.1 ∧ x.2.1 ≤ tnD r (pm t))) → RV (fun h' => MS h' o t g ∧ TR h' o (pm t - 0) r ∧ TN h' o (tnR t 0 r done x)) rV h' := by
          intro c
          refine RV.i ⟨M, T, ?_⟩
          rw [U, if_pos c]
          exact ⟨c1, c2, c3, c4⟩
        refine ⟨fun z => keep (Or.inl z), fun z => ⟨fun z1 => set ?_ h' M T ⟨c1, c2, c3, c4⟩, fun z1 => ⟨fun z2 => keep (Or.inr ⟨lt0_of.mp z1, Or.inl z2⟩), fun z2 => ⟨fun z3 => set ?_ h' M T ⟨c1, c2, c3, c4⟩, fun z3 => ⟨_, ctX4_digitsOf M T hr, ?_⟩⟩⟩⟩⟩
        · rintro (c | c)
          · exact z c
          · exact lt0_of.mpr c.1 z1
        · rintro (c | c)
          · exact z c
          · rcases c.2 with c | c
            · exact z2 c
            · exact z3 c.1
        · rintro z21 h22 ⟨rfl, rfl⟩
          rw [c2, y2]
          refine ⟨_, _, M, fun z4 => set ?_ h22 M T ⟨c1, c2, c3, c4⟩, fun z4 => keep (Or.inr ⟨lt0_of.mp z1, Or.inr ⟨z3, ?_⟩⟩)⟩
          · rintro (c | c)
            · exact z c
            · rcases c.2 with c | c
              · exact z2 c
              · have := c.2
                rw [le_i] at this
                rw [lt_i] at z4
                omega
          · rw [le_i]
            rw [lt_i] at z4
            omega
      have upd : (x.2.2.1 < 0 ∨ z2 < x.2.2.1 ∨ z2 = x.2.2.1 ∧ nI done < x.2.2.2) → ∀ h10, h10 = sFI h3 463 o z2 → ∀ h11, h11 = sFI h10 464 o (nI done) → AWP mX4_tuneOn d 59 [vR (some o), vI (nI (pm t - 0)), vI (nI done), vI z2] [] h11 (0, 0) (RV fun h' => MS h' o t g ∧ TR h' o (pm t - 0) r ∧ TN h' o (tnR t 0 r done x)) := by
        intro c h10 q10 h11 q11
        refine go (x.1, x.2.1, z2, nI done) rfl rfl (by rw [if_pos c]) h11 (by rw [q11, q10]; exact (m3.fr (PE.F rfl)).fr (PE.F rfl)) (by rw [q11, q10]; exact T3) ?_
        rw [q11, q10]
        exact ⟨by rw [hFI_sn (by decide), hFI_sn (by decide)]; exact e1, by rw [hFI_sn (by decide), hFI_sn (by decide)]; exact e2, by rw [hFI_sn (by decide)]; exact hFI_s, hFI_s⟩
      have same : ¬ (x.2.2.1 < 0 ∨ z2 < x.2.2.1 ∨ z2 = x.2.2.1 ∧ nI done < x.2.2.2) → AWP mX4_tuneOn d 59 [vR (some o), vI (nI (pm t - 0)), vI (nI done), vI z2] [] h3 (0, 0) (RV fun h' => MS h' o t g ∧ TR h' o (pm t - 0) r ∧ TN h' o (tnR t 0 r done x)) := by
        intro c
        exact go x rfl rfl (by rw [if_neg c]) h3 m3 T3 ⟨e1, e2, e3, e4⟩
      refine ⟨fun _ => ⟨fun z => upd (Or.inl z), fun z => ⟨fun y => upd (Or.inr (Or.inl y)), fun y => ⟨fun w => same ?_, fun w => ⟨fun v => same ?_, fun v => upd (Or.inr (Or.inr ⟨w, ?_⟩))⟩⟩⟩⟩, fun z => absurd z0 z⟩
      · rintro (c | c | c)
        · exact z c
        · exact y c
        · exact w c.1
      · rintro (c | c | c)
        · exact z c
        · exact y c
        · have := c.2
          rw [lt_i] at this
          rw [le_i] at v
          omega
      · rw [lt_i]
        rw [le_i] at v
        omega
  | succ f ih =>
    intro d g r done h x hf hd hdn m T hr N
    have hp := m.b_pm
    have hk : pm t - (f + 1) < pm t := by omega
    have hpo := m.b_pa _ hk
    generalize hK : pm t - (f + 1) = k at *
    have ek : nt (nI k) = k := nt_nI (by omega)
    have v8 := vp_in_nI (n := k) (N := 8) (by omega) (by omega)
    have p4 : 42 * 4 ^ (f + 1) = 4 * (42 * 4 ^ f) := by rw [Nat.pow_succ]; omega
    rw [p4] at m
    generalize hC : 42 * 4 ^ f = C at *
    refine Ret.go (by decide) rfl rfl RV.ret (bX4_tuneOn_0 (by omega) m ⟨fun _ => ?_, fun z => ?_⟩)
    · have ER : ∀ x, tnR t (f + 1) r done x = (List.range (po t k + 1)).foldl (fun y n => if done + n ≤ 4 then tnR t f (ux r k n) (done + n) y else y) x := by
        intro x
        show (List.range (po t (pm t - (f + 1)) + 1)).foldl (fun y n => if done + n ≤ 4 then tnR t f (ux r (pm t - (f + 1)) n) (done + n) y else y) x = _
        rw [hK]
      have L : ∀ n, n ≤ po t k + 1 → ∀ h', MS h' o t (g + (po t k + 1 - n) * C) → TR h' o k r → TN h' o ((List.range n).foldl (fun y n => if done + n ≤ 4 then tnR t f (ux r k n) (done + n) y else y) x) → AWP mX4_tuneOn d 114 [vR (some o), vI (nI k), vI (nI done), vI (nI n)] [] h' (0, 0) (RV fun h' => MS h' o t g ∧ TR h' o k r ∧ TN h' o (tnR t (f + 1) r done x)) := by
        have zero : ∀ h' g', MS h' o t g' → g ≤ g' → TR h' o k r → TN h' o (tnR t (f + 1) r done x) → ∀ h2, h2 = w1 h' (o + 41) k (nI 0) → RV (fun h' => MS h' o t g ∧ TR h' o k r ∧ TN h' o (tnR t (f + 1) r done x)) rV h2 := by
          intro h' g' M hg T N h2 q2
          rw [q2]
          refine RV.i ⟨(M.fr (PE.w rfl)).le hg, fun j hj => ?_, N⟩
          rw [hAI_w1, if_neg (by omega)]
          exact T j hj
        refine lo_up ?_ ?_
        · intro n hn hS h' M T N
          refine bX4_tuneOn_114 (by omega) M ?_
          rw [ek, nI_add, nI_add, nI_add, nI_ltI (by omega) (by omega), nI_ltI (by omega) (by omega)]
          refine ⟨v8, hk, fun z => by omega, fun _ => ⟨fun z => ⟨v8, zero h' _ M (by omega) T ?_⟩, fun z => ⟨v8, fun h5 q5 => ?_⟩⟩⟩
          · rw [ER, show po t k + 1 = n + (po t k + 1 - n) by omega, foldl_stop (po t k + 1 - n) (fun i hi y => if_neg (by omega))]
            exact N
          · have e1 : (po t k + 1 - n) * C = (po t k + 1 - (n + 1)) * C + C := by
              rw [show po t k + 1 - n = (po t k + 1 - (n + 1)) + 1 by omega, Nat.add_mul, Nat.one_mul]
            have M5 : MS h5 o t ((g + (po t k + 1 - (n + 1)) * C) + C) := by
              rw [q5, Nat.add_assoc, ← e1]
              exact M.fr (PE.w rfl)
            have kk : pm t - f = k + 1 := by omega
            have T5 : TR h5 o (pm t - f) (ux r k n) := by
              intro j hj
              rw [q5, hAI_w1]
              unfold ux
              by_cases c : j = k
              · rw [if_pos c, if_pos c]
              · rw [if_neg c, if_neg c]; exact T j (by omega)
            have hr5 : ∀ j < pm t, ux r k n j ≤ 3 := by
              intro j hj
              unfold ux
              split
              · omega
              · exact hr j hj
            have := ih (d - 1) (g + (po t k + 1 - (n + 1)) * C) (ux r k n) (done + n) h5 _ (by omega) (by omega) (by omega) M5 T5 hr5 (by rw [q5]; exact N)
            rw [kk] at this
            refine ⟨_, d - 1, ble_le (by omega), this, ?_⟩
            rintro h7 ⟨m7, T7, N7⟩
            refine ⟨_, _, m7, hS h7 m7 (fun j hj => ?_) ?_⟩
            · have := T7 j (by omega)
              rw [ux, if_neg (by omega)] at this
              exact this
            · rw [List.range_succ, List.foldl_append]
              show TN h7 o (if done + n ≤ 4 then _ else _)
              rw [if_pos (by omega)]
              exact N7
        · intro h' M T N
          refine bX4_tuneOn_114 (by omega) M ?_
          rw [ek, nI_ltI (by omega) (by omega)]
          refine ⟨v8, hk, fun _ => ⟨v8, zero h' _ M (by omega) T ?_⟩, fun z => by omega⟩
          rw [ER]
          exact N
      refine L 0 (by omega) h (m.le ?_) T N
      have : (po t k + 1 - 0) * C ≤ 4 * C := Nat.mul_le_mul_right C (by omega)
      omega
    · rw [nI_eq (by omega) (by omega)] at z
      omega
theorem ctX4_tune {h : Hp} {o g : Nat} {t : St} {w : Int32} (m : MS h o t (g + 172032)) (W : WF t) : Ret mX4_tune 30 [vR (some o), vI w] h 0 0 (RI fun y h' => y = spTune t w ∧ MS h' o t g) := by
  have hp := m.b_pm
  have hw := m.b_wm
  have hn := m.b_ns
  refine Ret.go (by decide) rfl rfl RI.ret (bX4_tune_0 m ⟨fun h1 => ?_, fun e => RIq (by rw [spTune, if_pos (by exact e)]) (m.le (by omega))⟩)
  have G : ¬ ¬ bt w 0 3 = true := fun z => z h1
  have e1 : nI (pm t) = 0 ↔ pm t = 0 := by rw [show (0 : Int32) = nI 0 from rfl, nI_eq (by omega) (by omega)]
  have e2 : nI (wm t) = 0 ↔ wm t = 0 := by rw [show (0 : Int32) = nI 0 from rfl, nI_eq (by omega) (by omega)]
  rw [e1, e2]
  refine ⟨fun z => RIq (by rw [spTune, if_neg G, if_pos (by exact Or.inl z)]) (m.le (by omega)), fun z1 => ⟨fun z2 => ?_, fun z => RIq (by rw [spTune, if_neg G, if_pos (by exact Or.inr z)]) (m.le (by omega))⟩⟩
  have G2 : ¬ (pm t = 0 ∨ wm t = 0) := by rintro (c | c); exact z1 c; exact z2 c
  have hps := W.Pl.2.1 z1
  have hc := m.b_nc _ hps
  have ht : tones t (ps t) ≤ nc t (ps t) := cntB_le _ _
  obtain ⟨n, _, hn3, rfl⟩ := bt_k (n := 3) h1 (by decide)
  have L : ∀ k, k ≤ wm t → (∀ j < k, ¬ tones t (ps t) ≤ wt t j) → AWP mX4_tune 30 30 [vR (some o), vI (nI n), vI (nI k)] [] h (0, 0) (RI fun y h' => y = spTune t (nI n) ∧ MS h' o t g) := by
    refine lo_up ?_ ?_
    · intro k hk hS R
      have hwt := m.b_wt k hk
      refine bX4_tune_30 m ?_
      rw [nt_nI (show k < 2 ^ 31 by omega), nt_nI (by omega), nI_add, nI_ltI (by omega) (by omega)]
      refine ⟨fun z => absurd z (nI_ge hk (by omega)), fun _ => ⟨vp_in_nI (by omega) (by omega), hk, bt_of hps (by omega), fun z => hS (fun j hj => ?_), fun z => RIq ?_ (m.le (by omega))⟩⟩
      · by_cases c : j = k
        · rw [c]; omega
        · exact R j (by omega)
      · rw [spTune, if_neg G, if_neg G2, if_pos]
        exact any_range.mpr ⟨k, hk, decide_eq_true (by omega)⟩
    · intro R
      have N1 : ¬ (List.range (wm t)).any (fun k => decide (tones t (ps t) ≤ wt t k)) = true := by
        intro z
        obtain ⟨k, hk, z⟩ := any_range.mp z
        exact R k hk (of_decide_eq_true z)
      refine bX4_tune_30 m ⟨fun _ h2 q2 h3 q3 h4 q4 h5 q5 => ?_, fun z => absurd (nI_le (Nat.le_refl _) (by omega)) z⟩
      have m5 : MS h5 o t (g + 42 * 4 ^ pm t) := by
        have : 4 ^ pm t ≤ 4 ^ 6 := Nat.pow_le_pow_right (by omega) hp
        rw [q5, q4, q3, q2]
        exact ((((m.fr (PE.F rfl)).fr (PE.F rfl)).fr (PE.F rfl)).fr (PE.F rfl)).le (by omega)
      have N5 : TN h5 o (-1, 0, -1, 0) := by
        rw [q5, q4, q3, q2]
        refine ⟨?_, ?_, ?_, hFI_s⟩
        · rw [hFI_sn (by decide), hFI_sn (by decide), hFI_sn (by decide), hFI_s]
        · rw [hFI_sn (by decide), hFI_sn (by decide), hFI_s]; rfl
        · rw [hFI_sn (by decide), hFI_s]
      have := ctX4_tuneOn W z1 (pm t) 29 g (fun _ => 0) 0 h5 _ (Nat.le_refl _) (by omega) (by omega) m5 (fun j hj => by omega) (fun k hk => by omega) N5
      rw [Nat.sub_self] at this
      refine ⟨_, 29, rfl, this, ?_⟩
      rintro h7 ⟨m7, _, N7⟩
      have E := fun (y : Int32) => (show spTune t (nI n) = _ by rw [spTune, if_neg G, if_neg G2, if_neg N1])
      generalize hX : tnR t (pm t) (fun _ => 0) 0 (-1, 0, -1, 0) = X at *
      obtain ⟨c1, c2, c3, c4⟩ := N7
      rw [c1, c2, c3, c4]
      have E := E 0
      refine ⟨_, _, m7, ?_⟩
      have cs : n = 0 ∨ n = 1 ∨ n = 2 ∨ n = 3 := by omega
      rcases cs with rfl | rfl | rfl | rfl
      · rw [if_neg (by exact by decide), if_neg (by exact by decide)] at E
        refine ⟨fun _ => ⟨fun z => ⟨fun c => absurd rfl c, fun _ => RIq ?_ m7⟩, fun z => RIq ?_ m7⟩, fun z => absurd (by decide) z⟩
        · rw [E, if_neg (lt0_of.mpr z), if_pos (by exact rfl)]
        · rw [E, if_pos (by rw [lt_i]; rw [le_i] at z; omega)]
      · rw [if_neg (by exact by decide), if_neg (by exact by decide)] at E
        refine ⟨fun _ => ⟨fun z => ⟨fun _ => RIq ?_ m7, fun c => absurd c (by decide)⟩, fun z => RIq ?_ m7⟩, fun z => absurd (by decide) z⟩
        · rw [E, if_neg (lt0_of.mpr z), if_neg (by exact by decide)]
        · rw [E, if_pos (by rw [lt_i]; rw [le_i] at z; omega)]
      · rw [if_pos (by exact rfl)] at E
        exact ⟨fun z => absurd z (by decide), fun _ => ⟨fun z => absurd rfl z, fun _ => RIq E.symm m7⟩⟩
      · rw [if_neg (by exact by decide), if_pos (by exact rfl)] at E
        exact ⟨fun z => absurd z (by decide), fun _ => ⟨fun _ => RIq E.symm m7, fun z => absurd z (by decide)⟩⟩
  exact L 0 (by omega) (fun j hj => absurd hj (Nat.not_lt_zero j))
