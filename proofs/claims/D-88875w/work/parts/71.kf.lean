theorem shL_lt {c : Nat → Nat} {i : Nat} : ∀ f lo hh, lo < hh → shL c i f lo hh < hh
  | 0, lo, hh, h => h
  | f + 1, lo, hh, h => by
    unfold shL
    split
    · exact h
    · split
      · exact shL_lt f _ _ (by omega)
      · have := shL_lt f lo ((lo + hh) / 2) (c := c) (i := i) (by omega)
        omega
theorem sht_lt {k : Tk} {q : Int32} {i : Nat} : sht k q i < 100 := shL_lt _ _ _ (by omega)
theorem ctX4_split {h : Hp} {o g : Nat} {t : St} {s i q w : Int32} (m : MS h o t (g + 84)) (W : WSh t) : Ret mX4_split 16 [vR (some o), vI s, vI i, vI q, vI w] h 0 0 (RI fun y h' => y = spSplit t s i q w ∧ MS h' o t g) := by
  have B : ∀ z : ¬ (isSh t s = true ∧ isTn t (nt s) i = true ∧ isPt q = true ∧ 0 ≤ w.toInt ∧ nt w / 10 < nc t (nt s) ∧ nt w % 10 ≠ 0), spSplit t s i q w = -1 := fun z => by rw [spSplit, if_pos z]
  refine Ret.go (by decide) rfl rfl RI.ret (bX4_split_0 m ⟨fun e => RIq (B fun z => e z.1).symm (m.le (by omega)), fun h1 => ⟨h1, ?_⟩⟩)
  obtain ⟨k, hk, rfl⟩ := isShN h1
  have hn := m.b_ns
  have hc := m.b_nc k hk
  have ek : nt (nI k) = k := nt_nI (by omega)
  have ht : tones t k ≤ nc t k := cntB_le _ _
  rw [ek] at B ⊢
  rw [bt_m1 (by omega)]
  refine ⟨fun e => RIq (B fun z => e z.2.1).symm (m.le (by omega)), fun h2 => ⟨fun e => RIq (B fun z => e z.2.2.1).symm (m.le (by omega)), fun h3 => ⟨fun e => RIq (B fun z => ?_).symm (m.le (by omega)), fun h4 => ⟨h1, ?_⟩⟩⟩⟩
  · rw [lt_i] at e
    have := z.2.2.2.1
    have e0 : (0 : Int32).toInt = 0 := rfl
    omega
  obtain ⟨n, hn31, rfl⟩ := nI_of h4
  have en : nt (nI n) = n := nt_nI hn31
  rw [en] at B
  rw [nI_mod hn31 (by omega), nI_div hn31 (by omega)]
  have ec : isCo t (nI k) (nI (n / 10)) = true ↔ n / 10 < nc t k := by
    unfold isCo
    rw [ek, bt_iff, nI_toInt (by omega)]
    omega
  rw [ec]
  refine ⟨fun e => RIq (B fun z => e z.2.2.2.2.1).symm (m.le (by omega)), fun h5 => ⟨fun h6 => ?_, fun e => RIq (B fun z => ?_).symm (m.le (by omega))⟩⟩
  · have h6 : n % 10 ≠ 0 := fun z => h6 (by rw [z]; rfl)
    obtain ⟨j, hj, rfl⟩ := bt_nI h2
    have ej : nt (nI j) = j := nt_nI (by omega)
    have G : ¬ ¬ (isSh t (nI k) = true ∧ isTn t k (nI j) = true ∧ isPt q = true ∧ 0 ≤ (nI n).toInt ∧ n / 10 < nc t k ∧ n % 10 ≠ 0) := fun z => z ⟨h1, h2, h3, by rw [nI_toInt hn31]; omega, h5, h6⟩
    have hx : 6 * k + n / 10 < 6 * ns t := by omega
    have vx := vp_in_nI (n := 6 * k + n / 10) (N := 78) (by omega) (by omega)
    have ex : nt (nI (6 * k + n / 10)) = 6 * k + n / 10 := nt_nI (by omega)
    rw [pk_mul, nI_add, ex]
    refine ⟨vx, hx, fun e => RIq ?_ (m.le (by omega)), fun h7 => ⟨vx, hx, fun h8 => ?_, fun e => RIq ?_ (m.le (by omega))⟩⟩
    · rw [spSplit, ek, en, if_neg G, if_pos (by exact Or.inl e)]
    · have h8 : ¬ 0 < wg t (6 * k + n / 10) := by rw [lt_i]; rw [le_i] at h8; omega
      have E : spSplit t (nI k) (nI j) q (nI n) = nI (cntB (fun x => decide (sht (tkO t k) q x = sht (tkO t k) q j ∧ sht (kMass (tkO t k) (n / 10) (massO (hv t (6 * k + n / 10)) (nI (n % 10)))) q x ≠ sht (tkO t k) q x)) (tones t k)) := by
        rw [spSplit, ek, en, ej, if_neg G, if_neg]
        rintro (z | z)
        · exact z h7
        · exact h8 z
      refine ⟨_, ctX4_take m W hk, ?_⟩
      rintro h10 ⟨m10, K10, F10⟩
      refine ⟨_, _, m10, _, ctX4_forgetChanges m10, ?_⟩
      rintro h16 ⟨m16, C16, F16⟩
      have K16 := K10.fr F16 rfl rfl rfl rfl rfl
      refine ⟨_, _, m16, h1, ?_⟩
      generalize hK1 : kMass (tkO t k) (n / 10) (massO (hv t (6 * k + n / 10)) (nI (n % 10))) = K1 at E
      generalize hT : tones t k = T at *
      have L2 : ∀ x, x ≤ T → ∀ h', MS h' o t (g + 7 * (T - x)) → TK h' o K1 → CB h' o K1 q → (∀ y < T, hAI h' (o + 33) y = nI (sht (tkO t k) q y)) → AWP mX4_split 16 184 [vR (some o), vI (nI k), vI (nI j), vI q, vI (nI n), vI (nI (n / 10)), vI (nI T), vI (nI (cntB (fun x => decide (sht (tkO t k) q x = sht (tkO t k) q j ∧ sht K1 q x ≠ sht (tkO t k) q x)) x)), vI (nI x)] [] h' (0, 0) (RI fun y h' => y = spSplit t (nI k) (nI j) q (nI n) ∧ MS h' o t g) := by
        refine lo_up ?_ ?_
        · intro x hx hS h' M K C R
          refine bX4_split_184 M ?_
          rw [nt_nI (by omega), ej, R x hx, R j hj, nI_add, nI_add, nI_eq (Nat.lt_trans sht_lt (by omega)) (Nat.lt_trans sht_lt (by omega))]
          refine ⟨fun z => absurd z (nI_ge hx (by omega)), fun _ => ⟨vp_in_nI (by omega) (by omega), vp_in_nI (by omega) (by omega), fun z => ?_, fun z => ⟨_, ctX4_shutOf (g := g + 7 * (T - (x + 1))) (M.le (by omega)) K C (by omega), ?_⟩⟩⟩
          · have := hS h' (M.le (by omega)) K C R
            rw [cntB, if_neg (by rw [decide_eq_true_eq]; exact fun y => z y.1)] at this
            exact this
          · rintro y h4 ⟨rfl, m4, C4, F4⟩
            refine ⟨_, _, m4, vp_in_nI (by omega) (by omega), ?_⟩
            rw [F4.2.1 33 rfl, R x hx, nI_eq (Nat.lt_trans sht_lt (by omega)) (Nat.lt_trans sht_lt (by omega)), nI_add]
            have := hS h4 m4 (K.fr F4 rfl rfl rfl rfl rfl) C4 (fun y hy => by rw [F4.2.1 33 rfl]; exact R y hy)
            rw [cntB] at this
            refine ⟨fun c => ?_, fun c => ?_⟩
            · rw [if_neg (by rw [decide_eq_true_eq]; exact fun y => y.2 c)] at this
              exact this
            · rw [if_pos (by rw [decide_eq_true_eq]; exact ⟨z, c⟩)] at this
              exact this
        · intro h' M K C R
          exact bX4_split_184 M ⟨fun _ => RIq E.symm (M.le (by omega)), fun z => absurd (nI_le (Nat.le_refl _) (by omega)) z⟩
      have L1 : ∀ x, x ≤ T → ∀ h', MS h' o t (g + 42 + 7 * (T - x)) → TK h' o (tkO t k) → CB h' o (tkO t k) q → (∀ y < x, hAI h' (o + 33) y = nI (sht (tkO t k) q y)) → AWP mX4_split 16 120 [vR (some o), vI (nI k), vI (nI j), vI q, vI (nI n), vI (nI (n / 10)), vI (nI T), vI (nI x), vU] [] h' (0, 0) (RI fun y h' => y = spSplit t (nI k) (nI j) q (nI n) ∧ MS h' o t g) := by
        refine lo_up ?_ ?_
        · intro x hx hS h' M K C R
          refine bX4_split_120 M ⟨fun z => absurd z (nI_ge hx (by omega)), fun _ => ⟨_, ctX4_shutOf (g := g + 42 + 7 * (T - (x + 1))) (M.le (by omega)) K C (by omega), ?_⟩⟩
          rintro y h4 ⟨rfl, m4, C4, F4⟩
          rw [nt_nI (by omega), nI_add]
          refine ⟨_, _, m4, vp_in_nI (by omega) (by omega), fun h5 q5 => ?_⟩
          have F5 : FR h4 h5 o [] [33] [] := by rw [q5]; exact FR.w rfl
          refine hS h5 (by rw [q5]; exact m4.fr (PE.w rfl)) ((K.fr F4 rfl rfl rfl rfl rfl).fr F5 rfl rfl rfl rfl rfl) (fun p hp => by rw [F5.2.1 32 rfl]; exact C4 p hp) (fun y hy => ?_)
          rw [q5, hAI_w1]
          by_cases c : y = x
          · rw [if_pos c, c]
          · rw [if_neg c, F4.2.1 33 rfl]; exact R y (by omega)
        · intro h' M K C R
          refine bX4_split_120 M ⟨fun _ => ?_, fun z => absurd (nI_le (Nat.le_refl _) (by omega)) z⟩
          rw [pk_mul, nI_add, ex, nt_nI (by omega), nI_mod hn31 (by omega)]
          refine ⟨vx, hx, vp_in_nI (by omega) (by omega), fun h2 q2 => ?_⟩
          have M2 : MS h2 o t (g + 42 + 7 * (T - T)) := by rw [q2]; exact M.fr (PE.w rfl)
          refine ⟨_, ctX4_forgetChanges M2, ?_⟩
          rintro h4 ⟨m4, C4, F4⟩
          refine ⟨_, _, m4, L2 0 (by omega) h4 (m4.le (by omega)) ?_ (C4 _ _) (fun y hy => ?_)⟩
          · have K2 : TK h2 o K1 := by
              rw [← hK1]
              obtain ⟨c1, c2, c3⟩ := K
              refine ⟨c1, by rw [q2]; exact c2, fun a ha => ?_⟩
              obtain ⟨d1, d2, d3, d4⟩ := c3 a ha
              rw [q2]
              simp (disch := decide) only [hAI_wo, hAI_w1]
              refine ⟨?_, d2, d3, d4⟩
              rw [d1]
              rfl
            exact K2.fr F4 rfl rfl rfl rfl rfl
          · rw [F4.2.1 33 rfl, q2, hAI_wo (by decide)]
            exact R y hy
      exact L1 0 (by omega) h16 (m16.le (by omega)) K16 (C16 _ _) (fun y hy => absurd hy (Nat.not_lt_zero y))
    · rw [spSplit, ek, en, if_neg G, if_pos]
      right
      rw [lt_i]; rw [le_i] at e; omega
  · have e : nI (n % 10) = nI 0 := e
    rw [nI_eq (by omega) (by omega)] at e
    exact z.2.2.2.2.2 e
theorem ctX4_changesOf {h : Hp} {o g s n : Nat} {t : St} (m : MS h o t (g + 1)) (W : WSh t) (hs : s < ns t) (hn : n ≤ 999) : Ret mX4_changesOf 15 [vR (some o), vI (nI s), vI (nI n)] h 0 0 (RI fun y h' => y = nI (chg (tkO t s) (nI (n / 10)) (nI (n % 10))) ∧ chg (tkO t s) (nI (n / 10)) (nI (n % 10)) ≤ 6 ∧ MS h' o t g) := by
  refine Ret.go (by decide) rfl rfl RI.ret (bX4_changesOf_0 m ?_)
  rw [nI_mod (by omega) (by omega), nI_div (by omega) (by omega)]
  refine ⟨_, ctX4_take m W hs, ?_⟩
  rintro h2 ⟨m2, K2, F2⟩
  refine ⟨_, _, m2, _, ctX4_changes m2 K2, ?_⟩
  rintro y h3 ⟨rfl, m3, F3⟩
  exact ⟨_, _, m3, RI.i ⟨rfl, chg_le K2, m3⟩⟩
theorem nI_sube {a b c : Nat} (ha : a < 2 ^ 30) (hb : b < 2 ^ 30) (hc : c < 2 ^ 30) : nI a - nI b = nI c ↔ a = c + b := by
  rw [Int32.sub_eq_iff_eq_add, nI_add, nI_eq (by omega) (by omega)]
theorem ctX4_law {h : Hp} {o g : Nat} {t : St} {s x : Int32} (m : MS h o t (g + 3)) (W : WF t) : Ret mX4_law 16 [vR (some o), vI s, vI x] h 0 0 (RI fun y h' => y = spLaw t s x ∧ MS h' o t g) := by
  have B : ∀ z : ¬ (isSh t s = true ∧ isMk x = true), spLaw t s x = -1 := fun z => by rw [spLaw, if_pos z]
  refine Ret.go (by decide) rfl rfl RI.ret (bX4_law_0 m ⟨fun e => RIq (B fun z => e z.1).symm (m.le (by omega)), fun h1 => ⟨fun h2 => ?_, fun e => RIq (B fun z => e z.2).symm (m.le (by omega))⟩⟩)
  have G : ¬ ¬ (isSh t s = true ∧ isMk x = true) := fun z => z ⟨h1, h2⟩
  obtain ⟨k, hk, rfl⟩ := isShN h1
  have hn := m.b_ns
  have ek : nt (nI k) = k := nt_nI (by omega)
  obtain ⟨n, hn9, hn0, rfl, en, ed, em⟩ := mk_nI h2
  rw [ek]
  have vk := vp_in_nI (n := k) (N := 12) (by omega) (by omega)
  refine ⟨vk, hk, fun h3 => ⟨vk, hk, ?_⟩, fun e => RIq ?_ (m.le (by omega))⟩
  · have J := W.Jo k hk
    have J : bt (jo t k) 0 (ns t - 1) = true ∧ bt (jt t k) 0 (ns t - 1) = true := by
      rcases J with z | z
      · rw [z] at h3; exact absurd h3 (by decide)
      · exact z
    obtain ⟨a, ha, ea'⟩ := bt_nI J.1
    obtain ⟨b, hb, eb⟩ := bt_nI J.2
    have na : nt (jo t k) = a := by rw [ea']; exact nt_nI (by omega)
    have nb' : nt (jt t k) = b := by rw [eb]; exact nt_nI (by omega)
    rw [ea']
    refine ⟨_, ctX4_changesOf m W.Sh ha hn9, ?_⟩
    rintro y1 h5 ⟨rfl, c1, m5⟩
    rw [m5.a10 hk h3, eb]
    refine ⟨_, _, m5, vk, _, ctX4_changesOf m5 W.Sh hb hn9, ?_⟩
    rintro y2 h6 ⟨rfl, c2, m6⟩
    refine ⟨_, _, m6, _, ctX4_changesOf m6 W.Sh hk hn9, ?_⟩
    rintro y3 h7 ⟨rfl, c3, m7⟩
    rw [nI_add, show (0 : Int32) = nI 0 from rfl, nI_sube (by omega) (by omega) (by omega), nI_sube (by omega) (by omega) (by omega)]
    have E : ¬ jo t k < 0 := lt0_of.mpr h3
    refine ⟨_, _, m7, fun z => RIq ?_ m7, fun z => ⟨fun z2 => RIq ?_ m7, fun z2 => RIq ?_ m7⟩⟩
    · rw [spLaw, if_neg G, ek, if_neg E, en, na, nb', if_pos (by omega)]; rfl
    · rw [spLaw, if_neg G, ek, if_neg E, en, na, nb', if_neg (by omega)]; rfl
    · rw [spLaw, if_neg G, ek, if_neg E, en, na, nb', if_pos (by omega)]; rfl
  · rw [spLaw, if_neg G, ek, if_pos]
    rw [lt_i]; rw [le_i] at e; omega
