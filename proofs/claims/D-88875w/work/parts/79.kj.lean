theorem ctX4_struck {h : Hp} {o g k : Nat} {t : St} {x : Tk} {n : Int32} (m : MS h o t g) (K : TK h o x) (W : WPl t) (hk : k < pm t) : Ret mX4_struck 1 [vR (some o), vI (nI k), vI n] h 0 0 (RI fun y h' => y = bI ((skS t x k n).2 = true) ∧ MS h' o t g ∧ TK h' o (skS t x k n).1 ∧ FR h h' o [] [23, 26] []) := by
  have hp := m.b_pm
  have hn := m.b_ns
  obtain ⟨_, w2, w3, _⟩ := W
  have hps := w2 (by omega)
  obtain ⟨wa, wb'⟩ := w3 k hk
  have hc := m.b_nc _ hps
  have ek : nt (nI k) = k := nt_nI (by omega)
  have v8 := vp_in_nI (n := k) (N := 8) (by omega) (by omega)
  have L1 : ∀ z : Int32, (z < nI 1 ↔ ¬ 1 ≤ z) := by
    intro z
    rw [lt_i, le_i, show (nI 1).toInt = 1 from rfl, show (1 : Int32).toInt = 1 from rfl]
    omega
  refine Ret.go (by decide) rfl rfl RI.ret (bX4_struck_0 m ?_)
  rw [ek]
  refine ⟨v8, hk, v8, hk, fun z => ?_, fun z => ?_⟩
  · have zn := lt0_of.mpr z
    obtain ⟨b, hb, eb, hh⟩ : ∃ b, b < nc t (ps t) ∧ pb t k = nI b ∧ has t (ps t) (pa t k) b = true := by
      rcases wb' with c | c
      · rw [c] at z; exact absurd z (by decide)
      · exact c
    have enb : nt (pb t k) = b := by rw [eb]; exact nt_nI (by omega)
    have E : skS t x k n = (kCnt x (pa t k) b (sf t (ix (ps t) (pa t k) b) - n - mnI (sf t (ix (ps t) (pa t k) b) - n) (ck t (ix (ps t) (pa t k) b))), decide (1 ≤ sf t (ix (ps t) (pa t k) b) - n)) := by rw [skS, if_neg zn, enb]
    have hx := ix_lt hps (show pa t k < 6 by omega) (show b < 6 by omega)
    have vx := vp_in_nI (n := ix (ps t) (pa t k) b) (N := 468) (by omega) (by omega)
    have ex : nt (nI (ix (ps t) (pa t k) b)) = ix (ps t) (pa t k) b := nt_nI (by omega)
    rw [eb, ix_nI, ex]
    refine ⟨vx, hx, vx, hx, _, ctX4_setCount m K (by omega) (by omega), ?_⟩
    rintro h3 ⟨m3, K3, F3⟩
    rw [L1, E]
    refine ⟨_, _, m3, fun c => RI.i ⟨?_, m3, K3, F3.mono rfl rfl rfl⟩, fun c => RI.i ⟨?_, m3, K3, F3.mono rfl rfl rfl⟩⟩
    · rw [bI_f]; rfl
      exact fun y => c (of_decide_eq_true y)
    · rw [bI_t]; rfl
      exact decide_eq_true (Classical.not_not.mp c)
  · have zn : pb t k < 0 := by rw [lt_i]; rw [le_i] at z; omega
    have E : skS t x k n = (kMass x (pa t k) (massO (hv t (6 * ps t + pa t k) - n) (wg t (6 * ps t + pa t k))), decide (1 ≤ hv t (6 * ps t + pa t k) - n)) := by rw [skS, if_pos zn]
    have vx := vp_in_nI (n := 6 * ps t + pa t k) (N := 78) (by omega) (by omega)
    rw [pk_mul, nI_add, nt_nI (by omega), nt_nI (by omega), L1, E]
    refine ⟨vx, by omega, vx, by omega, vp_in_nI (by omega) (by omega), fun h9 q9 => ?_⟩
    have m9 : MS h9 o t g := by rw [q9]; exact m.fr (PE.w rfl)
    have F9 : FR h h9 o [] [23, 26] [] := by rw [q9]; exact FR.w rfl
    have K9 : TK h9 o (kMass x (pa t k) (massO (hv t (6 * ps t + pa t k) - n) (wg t (6 * ps t + pa t k)))) := by
      obtain ⟨c1, c2, c3⟩ := K
      refine ⟨c1, by rw [q9]; exact c2, fun a ha => ?_⟩
      obtain ⟨d1, d2, d3, d4⟩ := c3 a ha
      rw [q9]
      simp (disch := decide) only [hAI_wo, hAI_w1]
      refine ⟨?_, d2, d3, d4⟩
      rw [d1]
      rfl
    refine ⟨fun c => RI.i ⟨?_, m9, K9, F9⟩, fun c => RI.i ⟨?_, m9, K9, F9⟩⟩
    · rw [bI_f]; rfl
      exact fun y => c (of_decide_eq_true y)
    · rw [bI_t]; rfl
      exact decide_eq_true (Classical.not_not.mp c)
theorem ctX4_moved {h : Hp} {o g : Nat} {t : St} {k i q : Int32} (m : MS h o t (g + 7)) (W : WF t) : Ret mX4_moved 17 [vR (some o), vI k, vI i, vI q] h 0 0 (RI fun y h' => y = spMoved t k i q ∧ MS h' o t g) := by
  have hp := m.b_pm
  have hn := m.b_ns
  have B : ∀ z : ¬ (bt k 0 (pm t - 1) = true ∧ isTn t (ps t) i = true ∧ isPt q = true), spMoved t k i q = -1 := fun z => by rw [spMoved, if_pos z]
  refine Ret.go (by decide) rfl rfl RI.ret (bX4_moved_0 m ?_)
  rw [bt_m1 (by omega)]
  refine ⟨fun e => RIq (B fun z => e z.1).symm (m.le (by omega)), fun h1 => ?_⟩
  obtain ⟨a, ha, rfl⟩ := bt_nI h1
  have hps := W.Pl.2.1 (by omega)
  have hc := m.b_nc _ hps
  have ht : tones t (ps t) ≤ nc t (ps t) := cntB_le _ _
  have ea' : nt (nI a) = a := nt_nI (by omega)
  rw [nt_nI (by omega), bt_m1 (by omega)]
  refine ⟨bt_of hps (by omega), fun e => RIq (B fun z => e z.2.1).symm (m.le (by omega)), fun h2 => ⟨fun h3 => ?_, fun e => RIq (B fun z => e z.2.2).symm (m.le (by omega))⟩⟩
  have G : ¬ ¬ (bt (nI a) 0 (pm t - 1) = true ∧ isTn t (ps t) i = true ∧ isPt q = true) := fun z => z ⟨h1, h2, h3⟩
  obtain ⟨j, hj, rfl⟩ := bt_nI h2
  have ej : nt (nI j) = j := nt_nI (by omega)
  refine ⟨_, ctX4_take m W.Sh hps, ?_⟩
  rintro h5 ⟨m5, K5, F5⟩
  refine ⟨_, _, m5, _, ctX4_struck m5 K5 W.Pl ha, ?_⟩
  rintro y h6 ⟨rfl, m6, K6, F6⟩
  refine ⟨_, _, m6, fun z => RIq ?_ (m6.le (by omega)), fun z => ⟨_, ctX4_shutNow m6 K6 (by omega), ?_⟩⟩
  · rw [spMoved, if_neg G, ea', if_neg]
    exact bI_0.mp z
  · rintro y h7 ⟨rfl, m7, C7, F7⟩
    refine ⟨_, _, m7, RIq ?_ m7⟩
    rw [spMoved, if_neg G, ea', ej, if_pos]
    · rfl
    · exact bI_n0.mp z
def TR (h : Hp) (o n : Nat) (r : Nat → Nat) : Prop := ∀ k < n, hAI h (o + 41) k = nI (r k)
abbrev KF (h h' : Hp) (o : Nat) : Prop := FR h h' o [435, 442, 437] [23, 24, 25, 26, 29, 31, 32] [27, 28, 30]
theorem abI_small {a : Nat} {v : Int32} (ha : a < 100) (hv : bt v 0 99 = true) : 0 ≤ (abI (nI a - v)).toInt ∧ (abI (nI a - v)).toInt ≤ 99 := by
  obtain ⟨b, _, hb, rfl⟩ := bt_k (n := 99) hv (by decide)
  have e : (nI a - nI b).toInt = (a : Int) - b := by
    rw [Int32.toInt_sub, nI_toInt (by omega), nI_toInt (by omega), Int.bmod_eq_of_le_mul_two] <;> omega
  unfold abI
  have e0 : (0 : Int32).toInt = 0 := rfl
  split
  · rename_i c
    rw [lt_i, e] at c
    rw [Int32.toInt_neg, e, Int.bmod_eq_of_le_mul_two] <;> omega
  · rename_i c
    rw [lt_i, e] at c
    rw [e]
    omega
theorem apt_small {t : St} {x : Tk} (W : WPl t) : ∀ w, w ≤ wm t → w ≤ 6 → 0 ≤ (apt t x w).toInt ∧ (apt t x w).toInt ≤ 99 * w
  | 0, _, _ => by unfold apt; exact ⟨by decide, by decide⟩
  | w + 1, hw, h6 => by
    obtain ⟨h1, h2⟩ := apt_small W w (by omega) (by omega) (x := x)
    obtain ⟨h3, h4⟩ := abI_small (sht_lt (k := x) (q := wb t w) (i := wt t w)) (W.2.2.2.2 w (by omega)).2
    unfold apt
    rw [Int32.toInt_add, Int.bmod_eq_of_le_mul_two] <;> omega
theorem ctX4_lacks {h : Hp} {o g : Nat} {t : St} {r : Nat → Nat} (m : MS h o t (g + 42)) (W : WF t) (h0 : pm t ≠ 0) (T : TR h o (pm t) r) (hr : ∀ k < pm t, r k ≤ 3) : Ret mX4_lacks 16 [vR (some o)] h 0 0 (RI fun y h' => (match stkL t r (pm t) with
    | none => y = -1
    | some k => y = apt t k (wm t)) ∧ MS h' o t g ∧ KF h h' o) := by
  have hp := m.b_pm
  have hw := m.b_wm
  have hps := W.Pl.2.1 h0
  refine Ret.go (by decide) rfl rfl RI.ret (bX4_lacks_0 m ⟨_, ctX4_take m W.Sh hps, ?_⟩)
  rintro h2 ⟨m2, K2, F2⟩
  refine ⟨_, _, m2, ?_⟩
  have L2 : ∀ x : Tk, stkL t r (pm t) = some x → ∀ w, w ≤ wm t → ∀ h' b, MS h' o t (g + 7 * (wm t - w)) → TK h' o x → KF h h' o → (w = 0 ∨ CB h' o x b) → AWP mX4_lacks 16 55 [vR (some o), vI (apt t x w), vI b, vI (nI w)] [] h' (0, 0) (RI fun y h' => (match stkL t r (pm t) with
    | none => y = -1
    | some k => y = apt t k (wm t)) ∧ MS h' o t g ∧ KF h h' o) := by
    intro x ex
    refine lo_up ?_ ?_
    · intro w hw2 hS h' b M K F C
      have ew' : nt (nI w) = w := nt_nI (by omega)
      have v6 := vp_in_nI (n := w) (N := 6) (by omega) (by omega)
      have go : ∀ h' b, MS h' o t (g + 7 * (wm t - w)) → TK h' o x → KF h h' o → CB h' o x (wb t w) → AWP mX4_lacks 16 81 [vR (some o), vI (apt t x w), vI b, vI (nI w)] [] h' (0, 0) (RI fun y h' => (match stkL t r (pm t) with
          | none => y = -1
          | some k => y = apt t k (wm t)) ∧ MS h' o t g ∧ KF h h' o) := by
        intro h' b M K F C
        refine bX4_lacks_81 M ?_
        rw [ew', nI_add]
        have hwt := m.b_wt w hw2
        refine ⟨v6, hw2, v6, hw2, _, ctX4_shutOf (g := g + 7 * (wm t - (w + 1))) (M.le (by omega)) K C (by omega), ?_⟩
        rintro z h3 ⟨rfl, m3, C3, F3⟩
        exact ⟨_, _, m3, v6, hw2, hS h3 _ m3 (K.fr F3 rfl rfl rfl rfl rfl) (F.tr (F3.mono rfl rfl rfl)) (Or.inr C3)⟩
      have fg : ∀ h' b, MS h' o t (g + 7 * (wm t - w)) → TK h' o x → KF h h' o → (∃ (P5 : Hp → Prop), Ret mX4_forgetChanges 0 [vR (some o)] h' 0 0 (RV P5) ∧ ∀ h4, P5 h4 → (∃ t7 g8, MS h4 o t7 g8 ∧ AWP mX4_lacks 16 81 [vR (some o), vI (apt t x w), vI b, vI (nI w)] [] h4 (0, 0) (RI fun y h' => (match stkL t r (pm t) with
          | none => y = -1
          | some k => y = apt t k (wm t)) ∧ MS h' o t g ∧ KF h h' o))) := by
        intro h' b M K F
        refine ⟨_, ctX4_forgetChanges M, ?_⟩
        rintro h4 ⟨m4, C4, F4⟩
        exact ⟨_, _, m4, go h4 b m4 (K.fr F4 rfl rfl rfl rfl rfl) (F.tr (F4.mono rfl rfl rfl)) (C4 _ _)⟩
      refine bX4_lacks_55 M ⟨fun z => absurd z (nI_ge hw2 (by omega)), fun _ => ⟨fun _ => fg h' b M K F, fun z => ?_⟩⟩
      have w0 : w ≠ 0 := fun c => z (by rw [c]; rfl)
      rw [ew']
      refine ⟨v6, hw2, fun c => go h' b M K F ?_, fun _ => fg h' b M K F⟩
      rw [c]
      exact C.resolve_left w0
    · intro h' b M K F C
      refine bX4_lacks_55 M ⟨fun _ => RI.i ⟨?_, M.le (by omega), F⟩, fun z => absurd (nI_le (Nat.le_refl _) (by omega)) z⟩
      rw [ex]
  have L1 : ∀ k, k ≤ pm t → ∀ h' x, MS h' o t (g + 42) → stkL t r k = some x → TK h' o x → FR h h' o [435] [23, 24, 25, 26] [] → AWP mX4_lacks 16 10 [vR (some o), vI (nI k), vU, vU] [] h' (0, 0) (RI fun y h' => (match stkL t r (pm t) with
    | none => y = -1
    | some k => y = apt t k (wm t)) ∧ MS h' o t g ∧ KF h h' o) := by
    refine lo_up ?_ ?_
    · intro k hk hS h' x M ex K F
      have v8 := vp_in_nI (n := k) (N := 8) (by omega) (by omega)
      have hrk := hr k hk
      refine bX4_lacks_10 M ?_
      rw [nt_nI (by omega), F.2.1 41 rfl, T k hk, nI_add]
      have e0 : nI (r k) ≤ 0 ↔ r k = 0 := by rw [show (0 : Int32) = nI 0 from rfl, nI_leI (by omega) (by omega)]; omega
      rw [e0]
      refine ⟨fun z => absurd z (nI_ge hk (by omega)), fun _ => ⟨v8, fun z => hS h' x M (by rw [stkL, ex]; show (if r k = 0 then some x else _) = some x; rw [if_pos z]) K F, fun z => ⟨v8, _, ctX4_struck M K W.Pl hk, ?_⟩⟩⟩
      rintro y h4 ⟨rfl, m4, K4, F4⟩
      have F5 := F.tr (F4.mono (F' := [435]) (A' := [23, 24, 25, 26]) (L' := []) rfl rfl rfl)
      have es : stkL t r (k + 1) = if (skS t x k (nI (r k))).2 then some (skS t x k (nI (r k))).1 else none := by
        rw [stkL, ex]
        show (if r k = 0 then some x else if (skS t x k (nI (r k))).2 then some (skS t x k (nI (r k))).1 else none) = _
        rw [if_neg z]
      refine ⟨_, _, m4, fun c => hS h4 _ m4 (by rw [es, if_pos (bI_n0.mp c)]) K4 F5, fun c => RI.i ⟨?_, m4.le (by omega), F5.mono rfl rfl rfl⟩⟩
      have no : ∀ j, k + 1 ≤ j → stkL t r j = none := by
        intro j hj
        obtain ⟨d, rfl⟩ : ∃ d, j = k + 1 + d := ⟨j - (k + 1), by omega⟩
        clear hj
        induction d with
        | zero => rw [Nat.add_zero, es, if_neg (bI_0.mp c)]
        | succ d ih => rw [← Nat.add_assoc, stkL, ih]
      rw [no (pm t) (by omega)]
    · intro h' x M ex K F
      refine bX4_lacks_10 M ⟨fun _ => ?_, fun z => absurd (nI_le (Nat.le_refl _) (by omega)) z⟩
      exact L2 x ex 0 (by omega) h' _ (M.le (by omega)) K (F.mono rfl rfl rfl) (Or.inl rfl)
  exact L1 0 (by omega) h2 _ m2 rfl K2 F2
theorem ctX4_digitsOf {h : Hp} {o g : Nat} {t : St} {r : Nat → Nat} (m : MS h o t g) (T : TR h o (pm t) r) (hr : ∀ k < pm t, r k ≤ 3) : Ret mX4_digitsOf 0 [vR (some o)] h 0 0 (RI fun y h' => y = tnD r (pm t) ∧ h' = h) := by
  have hp := m.b_pm
  refine Ret.go (by decide) rfl rfl RI.ret (bX4_digitsOf_0 m ?_)
  have L : ∀ k, k ≤ pm t → ∀ y, AWP mX4_digitsOf 0 4 [vR (some o), vI (tnD r k), vI (nI k), y] [] h (0, 0) (RI fun y h' => y = tnD r (pm t) ∧ h' = h) := by
    refine lo_up ?_ ?_
    · intro k hk hS y
      have hrk := hr k hk
      refine bX4_digitsOf_4 m ⟨fun z => absurd z (nI_ge hk (by omega)), fun _ => ?_⟩
      have L2 : ∀ n, n ≤ r k → AWP mX4_digitsOf 0 14 [vR (some o), vI ((List.range n).foldl (fun v _ => 10 * v + nI k + 1) (tnD r k)), vI (nI k), vI (nI n)] [] h (0, 0) (RI fun y h' => y = tnD r (pm t) ∧ h' = h) := by
        refine lo_up ?_ ?_
        · intro n hn hS2
          refine bX4_digitsOf_14 m ?_
          rw [nt_nI (by omega), T k hk, nI_add]
          refine ⟨vp_in_nI (by omega) (by omega), fun z => absurd z (nI_ge hn (by omega)), fun _ => ?_⟩
          rw [List.range_succ, List.foldl_append] at hS2
          rw [nI_add]
          exact hS2
        · refine bX4_digitsOf_14 m ?_
          rw [nt_nI (by omega), T k hk, nI_add]
          exact ⟨vp_in_nI (by omega) (by omega), fun _ => hS _, fun z => absurd (nI_le (Nat.le_refl _) (by omega)) z⟩
      exact L2 0 (by omega)
    · intro y
      exact bX4_digitsOf_4 m ⟨fun _ => RI.i ⟨rfl, rfl⟩, fun z => absurd (nI_le (Nat.le_refl _) (by omega)) z⟩
  exact L 0 (by omega) _
