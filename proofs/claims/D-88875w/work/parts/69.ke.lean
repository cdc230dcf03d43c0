theorem mk_nI {x : Int32} (h : isMk x) : ∃ n, n ≤ 999 ∧ n % 10 ≠ 0 ∧ x = nI n ∧ nt x = n ∧ x / nI 10 = nI (n / 10) ∧ x - x / nI 10 * nI 10 = nI (n % 10) := by
  obtain ⟨h1, h2⟩ := isMk_iff.mp h
  obtain ⟨n, _, hn, rfl⟩ := bt_k (n := 999) h1 (by decide)
  have e : nt (nI n) = n := nt_nI (by omega)
  rw [e] at h2
  exact ⟨n, hn, h2, rfl, e, nI_div (by omega) (by omega), nI_mod (by omega) (by omega)⟩
theorem zer_le {h : Hp} {o : Nat} {k : Tk} {p q : Int32} (K : TK h o k) : zer k p q ≤ 6 := by
  have := zrL_le (sms k p q) (rws k).length
  have := rws_le k
  have := K.1
  unfold zer
  omega
theorem ctX4_below {h : Hp} {o g : Nat} {t : St} {s x w : Int32} (m : MS h o t (g + 1)) (W : WSh t) : Ret mX4_below 15 [vR (some o), vI s, vI x, vI w] h 0 0 (RI fun y h' => y = spBelow t s x w ∧ MS h' o t g) := by
  have B : ∀ z : ¬ (isSh t s = true ∧ isMk x = true ∧ bt w 0 1 = true), spBelow t s x w = -1 := fun z => by rw [spBelow, if_pos z]
  refine Ret.go (by decide) rfl rfl RI.ret (bX4_below_0 m ⟨fun e => RIq (B fun z => e z.1).symm (m.le (by omega)), fun h1 => ⟨fun e => RIq (B fun z => e z.2.1).symm (m.le (by omega)), fun h2 => ⟨fun h3 => ?_, fun e => RIq (B fun z => e z.2.2).symm (m.le (by omega))⟩⟩⟩)
  have G : ¬ ¬ (isSh t s = true ∧ isMk x = true ∧ bt w 0 1 = true) := fun z => z ⟨h1, h2, h3⟩
  obtain ⟨k, hk, rfl⟩ := isShN h1
  have hn := m.b_ns
  have ek : nt (nI k) = k := nt_nI (by omega)
  obtain ⟨n, hn9, hn0, rfl, en, ed, em⟩ := mk_nI h2
  rw [em, ed]
  refine ⟨_, ctX4_take m W hk, ?_⟩
  rintro h5 ⟨m5, K5, F5⟩
  refine ⟨_, _, m5, fun z => ⟨_, ctX4_atMark m5 K5, ?_⟩, fun z => ⟨_, ctX4_changes m5 K5, ?_⟩⟩
  · rintro y h6 ⟨rfl, m6, F6⟩
    exact ⟨_, _, m6, RIq (by rw [spBelow, if_neg G, if_neg z, ek, en]) m6⟩
  · rintro y h6 ⟨rfl, m6, F6⟩
    exact ⟨_, _, m6, RIq (by rw [spBelow, if_neg G, if_pos z, ek, en]) m6⟩
theorem cntB_ext {p q : Nat → Bool} : ∀ n, (∀ i < n, p i = q i) → cntB p n = cntB q n
  | 0, _ => rfl
  | n + 1, e => by rw [cntB, cntB, cntB_ext n (fun i hi => e i (by omega)), e n (by omega)]
theorem cntB_filter (p : Nat → Bool) : ∀ n, cntB p n = ((List.range n).filter p).length
  | 0 => rfl
  | n + 1 => by
    rw [cntB, cntB_filter p n, List.range_succ, List.filter_append, List.length_append]
    congr 1
    by_cases q : p n = true
    · simp [q]
    · simp [q]
theorem tones_rws {t : St} {s : Nat} : (rws (tkO t s)).length = tones t s := by
  rw [tones, cntB_filter]
  rfl
theorem ctX4_sums {h : Hp} {o g : Nat} {t : St} {s x w : Int32} (m : MS h o t (g + 1)) (W : WSh t) : Ret mX4_sums 14 [vR (some o), vI s, vI x, vI w] h 0 0 (RJ fun y h' => y = spSums t s x w ∧ MS h' o t g) := by
  have B : ∀ z : ¬ (isSh t s = true ∧ isMk x = true ∧ bt w 0 (tones t (nt s)) = true), -9223372036854775808 = spSums t s x w := fun z => by rw [spSums, if_pos z]
  refine Ret.go (by decide) rfl rfl RJ.ret (bX4_sums_0 m ⟨fun e => RJ.i ⟨B fun z => e z.1, m.le (by omega)⟩, fun h1 => ⟨fun e => RJ.i ⟨B fun z => e z.2.1, m.le (by omega)⟩, fun h2 => ⟨h1, ?_⟩⟩⟩)
  obtain ⟨k, hk, rfl⟩ := isShN h1
  have hn := m.b_ns
  have hc := m.b_nc k hk
  have ek : nt (nI k) = k := nt_nI (by omega)
  rw [ek]
  rw [ek] at B
  have ht : tones t k ≤ nc t k := cntB_le _ _
  have eb : (nI 0 ≤ w ∧ w ≤ nI (tones t k)) ↔ bt w 0 (tones t k) = true := bt_lit rfl (nI_toInt (by omega))
  rw [eb]
  refine ⟨fun h3 => ?_, fun e => RJ.i ⟨B fun z => e z.2.2, m.le (by omega)⟩⟩
  have G : ¬ ¬ (isSh t (nI k) = true ∧ isMk x = true ∧ bt w 0 (tones t k) = true) := fun z => z ⟨h1, h2, h3⟩
  obtain ⟨n, hn9, hn0, rfl, en, ed, em⟩ := mk_nI h2
  obtain ⟨j, _, hj, rfl⟩ := bt_k h3 (by decide)
  have ej : nt (nI j) = j := nt_nI (by omega)
  rw [em, ed, ej]
  refine ⟨_, ctX4_take m W hk, ?_⟩
  rintro h5 ⟨m5, K5, F5⟩
  refine ⟨_, _, m5, _, ctX4_findSums m5 K5, ?_⟩
  rintro h6 ⟨m6, e7, S6, F6⟩
  refine ⟨_, _, m6, vp_in_nI (by omega) (by omega), RJ.i ⟨?_, m6⟩⟩
  rw [S6 j (by rw [tones_rws]; exact hj), spSums, ek, if_neg G, en, ej]
theorem ctX4_shut {h : Hp} {o g : Nat} {t : St} {s i q : Int32} (m : MS h o t (g + 7)) (W : WSh t) : Ret mX4_shut 17 [vR (some o), vI s, vI i, vI q] h 0 0 (RI fun y h' => y = spShut t s i q ∧ MS h' o t g) := by
  have B : ∀ z : ¬ (isSh t s = true ∧ isTn t (nt s) i = true ∧ isPt q = true), spShut t s i q = -1 := fun z => by rw [spShut, if_pos z]
  refine Ret.go (by decide) rfl rfl RI.ret (bX4_shut_0 m ⟨fun e => RIq (B fun z => e z.1).symm (m.le (by omega)), fun h1 => ⟨h1, ?_⟩⟩)
  obtain ⟨k, hk, rfl⟩ := isShN h1
  have hn := m.b_ns
  have hc := m.b_nc k hk
  have ek : nt (nI k) = k := nt_nI (by omega)
  have ht : tones t k ≤ nc t k := cntB_le _ _
  rw [ek] at B ⊢
  rw [bt_m1 (by omega)]
  refine ⟨fun e => RIq (B fun z => e z.2.1).symm (m.le (by omega)), fun h2 => ⟨fun h3 => ?_, fun e => RIq (B fun z => e z.2.2).symm (m.le (by omega))⟩⟩
  obtain ⟨j, hj, rfl⟩ := bt_nI h2
  have ej : nt (nI j) = j := nt_nI (by omega)
  refine ⟨_, ctX4_take m W hk, ?_⟩
  rintro h5 ⟨m5, K5, F5⟩
  refine ⟨_, _, m5, _, ctX4_shutNow m5 K5 (by omega), ?_⟩
  rintro y h6 ⟨rfl, m6, C6, F6⟩
  exact ⟨_, _, m6, RIq (by rw [spShut, ek, if_neg (by exact fun z => z ⟨h1, h2, h3⟩), ej]) m6⟩
theorem ctX4_still {h : Hp} {o g : Nat} {t : St} {s c x : Int32} (m : MS h o t (g + 1 + 1)) (W : WSh t) : Ret mX4_still 15 [vR (some o), vI s, vI c, vI x] h 0 0 (RI fun y h' => y = spStill t s c x ∧ MS h' o t g) := by
  have B : ∀ z : ¬ (isSh t s = true ∧ isCo t s c = true ∧ hl t (6 * nt s + nt c) = 0 ∧ isMk x = true), spStill t s c x = -1 := fun z => by rw [spStill, if_pos z]
  refine Ret.go (by decide) rfl rfl RI.ret (bX4_still_0 m ⟨fun e => RIq (B fun z => e z.1).symm (m.le (by omega)), fun h1 => ⟨h1, fun e => RIq (B fun z => e z.2.1).symm (m.le (by omega)), fun h2 => ?_⟩⟩)
  obtain ⟨k, i, hk, hi, hi6, rfl, rfl, ek, ei⟩ := isCoN m h1 h2
  have hn := m.b_ns
  rw [ek, ei] at B
  rw [pk_mul, nI_add, nt_nI (by omega), ei]
  refine ⟨vp_in_nI (by omega) (by omega), by omega, fun e => RIq (B fun z => e z.2.2.1).symm (m.le (by omega)), fun h3 => ⟨fun h4 => ?_, fun e => RIq (B fun z => e z.2.2.2).symm (m.le (by omega))⟩⟩
  have G : ¬ ¬ (isSh t (nI k) = true ∧ isCo t (nI k) (nI i) = true ∧ hl t (6 * k + i) = 0 ∧ isMk x = true) := fun z => z ⟨h1, h2, h3, h4⟩
  obtain ⟨n, hn9, hn0, rfl, en, ed, em⟩ := mk_nI h4
  rw [em, ed]
  refine ⟨_, ctX4_take m W hk, ?_⟩
  rintro h5 ⟨m5, K5, F5⟩
  refine ⟨_, _, m5, _, ctX4_atMark m5 K5, ?_⟩
  rintro y h6 ⟨rfl, m6, F6⟩
  have K6 := K5.fr F6 rfl rfl rfl rfl rfl
  have z1 := zer_le (p := nI (n / 10)) (q := nI (n % 10)) K5
  refine ⟨_, _, m6, vp_in_nI (by omega) (by omega), fun h7 q7 => ?_⟩
  have m7 : MS h7 o t (g + 1) := by rw [q7]; exact m6.fr (PE.w rfl)
  have K7 : TK h7 o (kHeld (tkO t k) i) := by
    obtain ⟨c1, c2, c3⟩ := K6
    refine ⟨c1, by rw [q7]; exact c2, fun a ha => ?_⟩
    obtain ⟨d1, d2, d3, d4⟩ := c3 a ha
    rw [q7]
    simp (disch := decide) only [hAI_wo, hAI_w1]
    refine ⟨d1, d2, ?_, d4⟩
    rw [d3]
    rfl
  have e0 : nI (zer (tkO t k) (nI (n / 10)) (nI (n % 10))) ≤ 0 ↔ ¬ 0 < zer (tkO t k) (nI (n / 10)) (nI (n % 10)) := by
    rw [show (0 : Int32) = nI 0 from rfl, nI_leI (by omega) (by omega)]
    omega
  rw [e0]
  refine ⟨fun z => RIq ?_ (m7.le (by omega)), fun z => ⟨_, ctX4_atMark m7 K7, ?_⟩⟩
  · rw [spStill, ek, ei, if_neg G, en, if_neg (fun y => z y.1)]
    rfl
  · rintro y h8 ⟨rfl, m8, F8⟩
    have z2 := zer_le (p := nI (n / 10)) (q := nI (n % 10)) K7
    refine ⟨_, _, m8, ?_⟩
    rw [nI_ltI (by omega) (by omega)]
    refine ⟨fun y => RIq ?_ m8, fun y => RIq ?_ m8⟩
    · rw [spStill, ek, ei, if_neg G, en, if_neg (by omega)]
      rfl
    · rw [spStill, ek, ei, if_neg G, en, if_pos (by omega)]
      rfl
theorem ctX4_setCount {h : Hp} {o g a b : Nat} {t : St} {k : Tk} {v : Int32} (m : MS h o t g) (K : TK h o k) (ha : a < 6) (hb : b < 6) : Ret mX4_setCount 0 [vR (some o), vI (nI a), vI (nI b), vI v] h 0 0 (RV fun h' => MS h' o t g ∧ TK h' o (kCnt k a b v) ∧ FR h h' o [] [26] []) := by
  have h6 := K.1
  refine Ret.go (by decide) rfl rfl RV.ret (bX4_setCount_0 m ?_)
  rw [pk_mul, nI_add, pk_mul, nI_add, nt_nI (by omega), nt_nI (by omega)]
  refine ⟨vp_in_nI (by omega) (by omega), fun h1 q1 => ⟨vp_in_nI (by omega) (by omega), fun h2 q2 => RV.i ⟨?_, ?_, ?_⟩⟩⟩
  · rw [q2, q1]; exact (m.fr (PE.w rfl)).fr (PE.w rfl)
  · obtain ⟨c1, c2, c3⟩ := K
    refine ⟨c1, by rw [q2, q1]; exact c2, fun x hx => ?_⟩
    obtain ⟨d1, d2, d3, d4⟩ := c3 x hx
    rw [q2, q1]
    simp (disch := decide) only [hAI_wo, hAI_w1]
    refine ⟨d1, d2, d3, fun y hy => ?_⟩
    have hy : y < kN k := hy
    have hx : x < kN k := hx
    show _ = if x = a ∧ y = b ∨ x = b ∧ y = a then v else kC k x y
    rw [d4 y hy]
    by_cases e1 : 6 * x + y = 6 * b + a
    · rw [if_pos e1, if_pos (by omega)]
    · rw [if_neg e1]
      by_cases e2 : 6 * x + y = 6 * a + b
      · rw [if_pos e2, if_pos (by omega)]
      · rw [if_neg e2, if_neg (by omega)]
  · rw [q2, q1]; exact (FR.w rfl).tr (FR.w rfl)
