theorem nI_pA {n : Nat} (h : n < 2 ^ 31) : nI n / nI 6 - nI n / nI 6 / nI 6 * nI 6 = nI (n / 6 % 6) := by
  rw [nI_div h (by omega), nI_mod (by omega) (by omega)]
theorem cnt_sym {t : St} (W : WF t) {s a b : Nat} (hs : s < ns t) (ha : a < 6) (hb : b < 6) : cnt t s a b = cnt t s b a := by
  obtain ⟨w1, w2, w3, _⟩ := W.Pc s hs a ha b hb
  unfold cnt has
  rw [w1, w2, w3]
theorem ctX4_led {h : Hp} {o g : Nat} {t : St} {s i q w : Int32} (m : MS h o t (g + 1407)) (W : WF t) : Ret mX4_led 17 [vR (some o), vI s, vI i, vI q, vI w] h 0 0 (RI fun y h' => y = spLed t s i q w ∧ MS h' o t g) := by
  have B : ∀ z : ¬ (isSh t s = true ∧ isTn t (nt s) i = true ∧ isPt q = true ∧ bt w 0 1 = true), spLed t s i q w = -1 := fun z => by rw [spLed, if_pos z]
  refine Ret.go (by decide) rfl rfl RI.ret (bX4_led_0 m ⟨fun e => RIq (B fun z => e z.1).symm (m.le (by omega)), fun h1 => ⟨h1, ?_⟩⟩)
  obtain ⟨k, hk, rfl⟩ := isShN h1
  have hn := m.b_ns
  have hnb := m.b_nb
  have hc := m.b_nc k hk
  have ek : nt (nI k) = k := nt_nI (by omega)
  have ht : tones t k ≤ nc t k := cntB_le _ _
  rw [ek] at B ⊢
  rw [bt_m1 (by omega)]
  refine ⟨fun e => RIq (B fun z => e z.2.1).symm (m.le (by omega)), fun h2 => ⟨fun e => RIq (B fun z => e z.2.2.1).symm (m.le (by omega)), fun h3 => ⟨fun h4 => ?_, fun e => RIq (B fun z => e z.2.2.2).symm (m.le (by omega))⟩⟩⟩
  have G : ¬ ¬ (isSh t (nI k) = true ∧ isTn t k i = true ∧ isPt q = true ∧ bt w 0 1 = true) := fun z => z ⟨h1, h2, h3, h4⟩
  obtain ⟨j, hj, rfl⟩ := bt_nI h2
  have ej : nt (nI j) = j := nt_nI (by omega)
  refine ⟨_, ctX4_take m W.Sh hk, ?_⟩
  rintro h6 ⟨m6, K6, F6⟩
  refine ⟨_, _, m6, _, ctX4_shutNow (g := g + 1400) m6 K6 (by omega), ?_⟩
  rintro z11 h7 ⟨rfl, m7, C7, F7⟩
  refine ⟨_, _, m7, ?_⟩
  have L : ∀ b, b ≤ nb t → ∀ h' y9 y10 y11 y12 y13, MS h' o t (g + 7 * (nb t - b)) → TK h' o (tkO t k) → AWP mX4_led 17 68 [vR (some o), vI (nI k), vI (nI j), vI q, vI w, vI (nI (sht (tkO t k) q j)), vI ((PLf t k b).foldl (ldB t k q j) (-2, 0)).1, vI ((PLf t k b).foldl (ldB t k q j) (-2, 0)).2, vI (nI b), y9, y10, y11, y12, y13] [] h' (0, 0) (RI fun y h' => y = spLed t (nI k) (nI j) q w ∧ MS h' o t g) := by
    refine lo_up ?_ ?_
    · intro b hb hS h' y9 y10 y11 y12 y13 M K
      have eb : nt (nI b) = b := nt_nI (by omega)
      have hl := (m.b_bk b hb).2
      obtain ⟨p1, p2⟩ := plc (n := li t b) (by omega)
      refine bX4_led_68 M ?_
      rw [eb, p1, nI_add]
      refine ⟨fun z => absurd z (nI_ge hb (by omega)), fun _ => ⟨vp_in_nI (by omega) (by omega), hb, fun z => ?_, fun z => ?_⟩⟩
      · have := hS h' (vI (nI (li t b) - nI 1)) y10 y11 y12 y13 (M.le (by omega)) K
        rw [PLf_s, if_neg (by rw [inSh_iff]; exact fun y => y.1 z)] at this
        exact this
      · rw [p2 z, nI_div (by omega) (by omega), nI_eq (by omega) (by omega)]
        refine ⟨fun y => ?_, fun y => ?_⟩
        · have hin : inSh t k b = true := inSh_iff.mpr ⟨z, y⟩
          obtain ⟨q1, q2, q3, q4, q5, q6, q7, q8, q9, q10⟩ := W.pcs m hb hin
          refine bX4_led_105 M ?_
          rw [nI_pA (by omega), nI_mod (by omega) (by omega)]
          refine bX4_led_122 M ?_
          have eA : (li t b - 1) / 6 % 6 = pA t b := rfl
          have eB : (li t b - 1) % 6 = pB t b := rfl
          rw [eA, eB, pk_mul, nI_add, nt_nI (by omega), (K.2.2 _ q5).2.2.2 _ q6]
          refine ⟨vp_in_nI (by omega) (by omega), _, ctX4_setCount M K q3 q4, ?_⟩
          rintro h8 ⟨m8, K8, F8⟩
          have K8 : TK h8 o (kCnt (tkO t k) (pA t b) (pB t b) 0) := K8
          refine ⟨_, _, m8, _, ctX4_shutNow (g := g + 7 * (nb t - (b + 1))) (m8.le (by omega)) K8 (by omega), ?_⟩
          rintro z7 h9 ⟨rfl, m9, C9, F9⟩
          refine ⟨_, _, m9, _, ctX4_setCount m9 (K8.fr F9 rfl rfl rfl rfl rfl) q3 q4, ?_⟩
          rintro h10 ⟨m10, K10, F10⟩
          have K11 : TK h10 o (tkO t k) := by
            refine K10.ext rfl (fun a ha => ⟨rfl, rfl, rfl, fun c hc2 => ?_⟩)
            have ha : a < nc t k := ha
            have hc2 : c < nc t k := hc2
            show cnt t k a c = if a = pA t b ∧ c = pB t b ∨ a = pB t b ∧ c = pA t b then cnt t k (pA t b) (pB t b) else if a = pA t b ∧ c = pB t b ∨ a = pB t b ∧ c = pA t b then 0 else cnt t k a c
            by_cases e1 : a = pA t b ∧ c = pB t b
            · rw [if_pos (Or.inl e1), e1.1, e1.2]
            · by_cases e2 : a = pB t b ∧ c = pA t b
              · rw [if_pos (Or.inr e2), e2.1, e2.2]
                exact cnt_sym W hk q4 q3
              · rw [if_neg (by omega), if_neg (by omega)]
          have key := fun y9 y10 y11 y12 y13 => hS h10 y9 y10 y11 y12 y13 m10 K11
          rw [PLf_s, if_pos hin, List.foldl_append] at key
          generalize (PLf t k b).foldl (ldB t k q j) (-2, 0) = u at key ⊢
          rw [List.foldl_cons, List.foldl_nil, ldB] at key
          refine ⟨_, _, m10, fun c => ?_, fun c => ⟨fun c2 => ?_, fun c2 => ?_⟩⟩
          · rw [if_neg (fun z => lt0_of.mpr z.1 c)] at key
            rw [nI_add]
            exact key _ _ _ _ _
          · rw [if_neg (fun z => by have := z.2; rw [le_i] at this; rw [lt_i] at c2; omega)] at key
            rw [nI_add]
            exact key _ _ _ _ _
          · rw [if_pos ⟨lt0_of.mp c, by rw [le_i]; rw [lt_i] at c2; omega⟩] at key
            rw [nI_add]
            exact key _ _ _ _ _
        · have := hS h' (vI (nI (li t b - 1))) y10 y11 y12 y13 (M.le (by omega)) K
          rw [PLf_s, if_neg (by rw [inSh_iff]; exact fun z => y z.2)] at this
          exact this
    · intro h' y9 y10 y11 y12 y13 M K
      refine bX4_led_68 M ⟨fun _ => ⟨fun z => RIq ?_ (M.le (by omega)), fun z => RIq ?_ (M.le (by omega))⟩, fun z => absurd (nI_le (Nat.le_refl _) (by omega)) z⟩
      · rw [spLed, ek, ej, if_neg G, if_neg z]; rfl
      · rw [spLed, ek, ej, if_neg G, if_pos z]; rfl
  exact L 0 (by omega) h7 _ _ _ _ _ (m7.le (by omega)) (K6.fr F7 rfl rfl rfl rfl rfl)
theorem mnI_nI {a b : Nat} (ha : a < 2 ^ 31) (hb : b < 2 ^ 31) : mnI (nI a) (nI b) = nI (min a b) := by
  unfold mnI
  by_cases q : a < b
  · rw [if_pos (nI_lt q hb), Nat.min_eq_left (by omega)]
  · rw [if_neg (nI_nlt (by omega) ha), Nat.min_eq_right (by omega)]
theorem mxI_nI {a b : Nat} (ha : a < 2 ^ 31) (hb : b < 2 ^ 31) : mxI (nI a) (nI b) = nI (max a b) := by
  unfold mxI
  by_cases q : b < a
  · rw [if_pos (nI_lt q ha), Nat.max_eq_left (by omega)]
  · rw [if_neg (nI_nlt (by omega) hb), Nat.max_eq_right (by omega)]
theorem ctX4_divisor {h : Hp} {o g s : Nat} {t : St} (m : MS h o t g) (hs : s < ns t) : Ret mX4_divisor 1 [vR (some o), vI (nI s)] h 0 0 (RJ fun y h' => y = dvL t s (nc t s) ∧ h' = h) := by
  have hn := m.b_ns
  have hc := m.b_nc s hs
  have es : nt (nI s) = s := nt_nI (by omega)
  refine Ret.go (by decide) rfl rfl RJ.ret (bX4_divisor_0 m ?_)
  rw [pk_mul]
  have L : ∀ c, c ≤ nc t s → AWP mX4_divisor 1 8 [vR (some o), vI (nI s), vJ (dvL t s c), vU, vI (nI (6 * s + c))] [] h (0, 0) (RJ fun y h' => y = dvL t s (nc t s) ∧ h' = h) := by
    refine lo_up ?_ ?_
    · intro c hc2 hS
      refine bX4_divisor_8 m ?_
      rw [pk_mul, es, nI_add, nI_leI (by omega) (by omega), nt_nI (by omega), nI_add]
      have vx := vp_in_nI (n := 6 * s + c) (N := 78) (by omega) (by omega)
      refine ⟨vp_in_nI (by omega) (by omega), hs, fun z => by omega, fun _ => ⟨vx, by omega, fun z => ?_, fun z => ⟨vx, by omega, vx, by omega, ?_⟩⟩⟩
      · rw [dvL, if_neg z] at hS
        exact hS
      · rw [dvL, if_pos z] at hS
        exact hS
    · refine bX4_divisor_8 m ?_
      rw [pk_mul, es, nI_add]
      exact ⟨vp_in_nI (by omega) (by omega), hs, fun _ => RJ.i ⟨rfl, rfl⟩, fun z => absurd (nI_le (Nat.le_refl _) (by omega)) z⟩
  exact L 0 (by omega)
theorem ctX4_lastSum {h : Hp} {o g s p : Nat} {t : St} (m : MS h o t (g + 1)) (W : WSh t) (hs : s < ns t) : Ret mX4_lastSum 14 [vR (some o), vI (nI s), vI (nI p)] h 0 0 (RJ fun y h' => y = lsm t s p ∧ MS h' o t g) := by
  have hc := m.b_nc s hs
  have ht : tones t s ≤ nc t s := cntB_le _ _
  refine Ret.go (by decide) rfl rfl RJ.ret (bX4_lastSum_0 m ⟨_, ctX4_take m W hs, ?_⟩)
  rintro h2 ⟨m2, K2, F2⟩
  refine ⟨_, _, m2, _, ctX4_findSums m2 K2, ?_⟩
  rintro h3 ⟨m3, e7, S3, F3⟩
  rw [e7, nt_nI (by rw [tones_rws]; omega), S3 _ (Nat.le_refl _)]
  exact ⟨_, _, m3, vp_in_nI (by rw [tones_rws]; omega) (by omega), RJ.i ⟨rfl, m3⟩⟩
theorem all_range {p : Nat → Bool} {n : Nat} : (List.range n).all p = true ↔ ∀ i < n, p i = true := by
  rw [List.all_eq_true]
  constructor
  · exact fun q i hi => q i (List.mem_range.mpr hi)
  · exact fun q i hi => q i (List.mem_range.mp hi)
theorem ctX4_soundAlike {h : Hp} {o g s r : Nat} {t : St} (m : MS h o t (g + 14)) (W : WSh t) (hs : s < ns t) (hr : r < ns t) : Ret mX4_soundAlike 15 [vR (some o), vI (nI s), vI (nI r)] h 0 0 (RI fun y h' => y = bI (sndA t s r = true) ∧ MS h' o t g) := by
  have hn := m.b_ns
  have hc := m.b_nc s hs
  have hc2 := m.b_nc r hr
  have es : nt (nI s) = s := nt_nI (by omega)
  have er : nt (nI r) = r := nt_nI (by omega)
  have t1 : tones t s ≤ nc t s := cntB_le _ _
  have t2 : tones t r ≤ nc t r := cntB_le _ _
  refine Ret.go (by decide) rfl rfl RI.ret (bX4_soundAlike_0 m ⟨bt_of hs (by omega), bt_of hr (by omega), ?_⟩)
  rw [es, er, nI_eq (by omega) (by omega)]
  refine ⟨fun e => ?_, fun e => RI.i ⟨?_, m.le (by omega)⟩⟩
  · have L : ∀ p, p ≤ 7 → ∀ h', MS h' o t (g + 2 * (7 - p)) → (∀ x < p, lsm t s x * dvL t r (nc t r) = lsm t r x * dvL t s (nc t s)) → AWP mX4_soundAlike 15 17 [vR (some o), vI (nI s), vI (nI r), vI (nI p)] [] h' (0, 0) (RI fun y h' => y = bI (sndA t s r = true) ∧ MS h' o t g) := by
      refine lo_up ?_ ?_
      · intro p hp hS h' M R
        refine bX4_soundAlike_17 M ⟨fun z => absurd z (nI_ge hp (by omega)), fun _ => ⟨_, ctX4_lastSum (g := g + 2 * (7 - (p + 1)) + 1) (M.le (by omega)) W hs, ?_⟩⟩
        rintro y1 h1 ⟨rfl, m1⟩
        refine ⟨_, _, m1, _, ctX4_divisor m1 hr, ?_⟩
        rintro y2 h2 ⟨rfl, rfl⟩
        refine ⟨_, _, m1, _, ctX4_lastSum m1 W hr, ?_⟩
        rintro y3 h3 ⟨rfl, m3⟩
        refine ⟨_, _, m3, _, ctX4_divisor m3 hs, ?_⟩
        rintro y4 h4 ⟨rfl, rfl⟩
        rw [lg_cmp_eq, nI_add]
        refine ⟨_, _, m3, fun z => hS _ m3 (fun x hx => ?_), fun z => RI.i ⟨?_, m3.le (by omega)⟩⟩
        · by_cases c : x = p
          · rw [c]; exact z
          · exact R x (by omega)
        · rw [bI_f]; rfl
          intro y
          rw [sndA, Bool.and_eq_true] at y
          exact z (of_decide_eq_true (all_range.mp y.2 p hp))
      · intro h' M R
        refine bX4_soundAlike_17 M ⟨fun _ => RI.i ⟨?_, M.le (by omega)⟩, fun z => absurd (nI_le (Nat.le_refl _) (by omega)) z⟩
        rw [bI_t]; rfl
        rw [sndA, Bool.and_eq_true]
        exact ⟨decide_eq_true e, all_range.mpr fun x hx => decide_eq_true (R x hx)⟩
    exact L 0 (by omega) h m (fun x hx => absurd hx (Nat.not_lt_zero x))
  · rw [bI_f]; rfl
    intro y
    rw [sndA, Bool.and_eq_true] at y
    exact e (of_decide_eq_true y.1)
theorem ctX4_areLike {h : Hp} {o g s a r b : Nat} {t : St} (m : MS h o t g) (hs : s < ns t) (hr : r < ns t) (ha : a < 6) (hb : b < 6) : Ret mX4_areLike 0 [vR (some o), vI (nI s), vI (nI a), vI (nI r), vI (nI b)] h 0 0 (RI fun y h' => y = bI (like t s a r b = true) ∧ h' = h) := by
  have hn := m.b_ns
  refine Ret.go (by decide) rfl rfl RI.ret (bX4_areLike_0 m ?_)
  rw [pk_mul, pk_mul, nI_add, nI_add, nt_nI (by omega), nt_nI (by omega)]
  have v1 := vp_in_nI (n := 6 * s + a) (N := 78) (by omega) (by omega)
  have v2 := vp_in_nI (n := 6 * r + b) (N := 78) (by omega) (by omega)
  have l1 : 6 * s + a < 6 * ns t := by omega
  have l2 : 6 * r + b < 6 * ns t := by omega
  have D : like t s a r b = true ↔ hv t (6 * s + a) = hv t (6 * r + b) ∧ pd t (6 * s + a) = pd t (6 * r + b) ∧ wg t (6 * s + a) = wg t (6 * r + b) ∧ hl t (6 * s + a) = hl t (6 * r + b) := by rw [like, decide_eq_true_eq]
  have F : ¬ like t s a r b = true → RI (fun y h' => y = bI (like t s a r b = true) ∧ h' = h) (rI (nI 0)) h := fun z => RI.i ⟨by rw [bI_f z]; rfl, rfl⟩
  exact ⟨v1, l1, v2, l2, fun z => F fun y => z (D.mp y).1, fun c1 => ⟨v1, l1, v2, l2, fun z => F fun y => z (D.mp y).2.1, fun c2 => ⟨v1, l1, v2, l2, fun z => F fun y => z (D.mp y).2.2.1, fun c3 => ⟨v1, l1, v2, l2, fun z => F fun y => z (D.mp y).2.2.2, fun c4 => RI.i ⟨by rw [bI_t (D.mpr ⟨c1, c2, c3, c4⟩)]; rfl, rfl⟩⟩⟩⟩⟩
theorem ctX4_countBetween {h : Hp} {o g s a b : Nat} {t : St} (m : MS h o t g) (hs : s < ns t) (ha : a < 6) (hb : b < 6) : Ret mX4_countBetween 2 [vR (some o), vI (nI s), vI (nI a), vI (nI b)] h 0 0 (RI fun y h' => y = cnt t s a b ∧ h' = h) := by
  have hn := m.b_ns
  have hx := ix_lt hs ha hb
  refine Ret.go (by decide) rfl rfl RI.ret (bX4_countBetween_0 m ⟨⟨bt_of hs (by omega), bt_of (n := 6) ha (by omega), bt_of (n := 6) hb (by omega)⟩, ?_⟩)
  rw [ix_nI, nt_nI (show s < 2 ^ 31 by omega), nt_nI (show a < 2 ^ 31 by omega), nt_nI (show b < 2 ^ 31 by omega), nt_nI (by omega)]
  have vx := vp_in_nI (n := ix s a b) (N := 468) (by omega) (by omega)
  exact ⟨fun z => RI.i ⟨by rw [cnt, if_neg z]; rfl, rfl⟩, fun z => ⟨vx, hx, vx, hx, RI.i ⟨by rw [cnt, if_pos z], rfl⟩⟩⟩
