theorem hld_1 {x : Int32} : (nI 1 ≤ x → x ≤ nI 9 → hld x = x) ∧ (nI 1 ≤ x → ¬ x ≤ nI 9 → hld x = nI 9) ∧ (¬ nI 1 ≤ x → hld x = nI 1) := by
  have e1 : (nI 1).toInt = 1 := rfl
  have e9 : (nI 9).toInt = 9 := rfl
  have f1 : (1 : Int32).toInt = 1 := rfl
  have f9 : (9 : Int32).toInt = 9 := rfl
  simp only [le_i, e1, e9]
  refine ⟨fun a b => ?_, fun a b => ?_, fun a => ?_⟩
  · rw [hld, if_neg (by rw [lt_i]; omega), if_neg (by rw [lt_i]; omega)]
  · rw [hld, if_neg (by rw [lt_i]; omega), if_pos (by rw [lt_i]; omega)]; rfl
  · rw [hld, if_pos (by rw [lt_i]; omega)]; rfl
theorem ctX4_bounds {h : Hp} {o g : Nat} {t : St} {s i q d w : Int32} (m : MS h o t (g + 7)) (W : WSh t) : Ret mX4_bounds 17 [vR (some o), vI s, vI i, vI q, vI d, vI w] h 0 0 (RI fun y h' => y = spBounds t s i q d w ∧ MS h' o t g) := by
  have B : ∀ z : ¬ (isSh t s = true ∧ isTn t (nt s) i = true ∧ isPt q = true ∧ bt d 0 8 = true ∧ bt w 0 1 = true), spBounds t s i q d w = -1 := fun z => by rw [spBounds, if_pos z]
  refine Ret.go (by decide) rfl rfl RI.ret (bX4_bounds_0 m ⟨fun e => RIq (B fun z => e z.1).symm (m.le (by omega)), fun h1 => ⟨h1, ?_⟩⟩)
  obtain ⟨k, hk, rfl⟩ := isShN h1
  have hn := m.b_ns
  have hc := m.b_nc k hk
  have ek : nt (nI k) = k := nt_nI (by omega)
  have ht : tones t k ≤ nc t k := cntB_le _ _
  rw [ek] at B ⊢
  rw [bt_m1 (by omega)]
  refine ⟨fun e => RIq (B fun z => e z.2.1).symm (m.le (by omega)), fun h2 => ⟨fun e => RIq (B fun z => e z.2.2.1).symm (m.le (by omega)), fun h3 => ⟨fun e => RIq (B fun z => e z.2.2.2.1).symm (m.le (by omega)), fun h4 => ⟨fun h5 => ?_, fun e => RIq (B fun z => e z.2.2.2.2).symm (m.le (by omega))⟩⟩⟩⟩
  have G : ¬ ¬ (isSh t (nI k) = true ∧ isTn t k i = true ∧ isPt q = true ∧ bt d 0 8 = true ∧ bt w 0 1 = true) := fun z => z ⟨h1, h2, h3, h4, h5⟩
  obtain ⟨j, hj, rfl⟩ := bt_nI h2
  have ej : nt (nI j) = j := nt_nI (by omega)
  refine ⟨_, ctX4_take m W hk, ?_⟩
  rintro h7 ⟨m7, K7, F7⟩
  refine ⟨_, _, m7, ?_⟩
  generalize hy : (if w = 0 then -d else d) = y
  have E : spBounds t (nI k) (nI j) q d w = nI (sht (tkB t k y) q j) := by rw [spBounds, ek, ej, if_neg G, hy]
  have L : ∀ a, a ≤ nc t k → ∀ h' y7 y8 y9, MS h' o t (g + 7) → hFI h' 435 o = nI (nc t k) → (∀ x < nc t k, hAI h' (o + 24) x = pd t (6 * k + x) ∧ hAI h' (o + 25) x = hl t (6 * k + x)) → (∀ x < a, hAI h' (o + 23) x = kM (tkB t k y) x ∧ ∀ b < nc t k, hAI h' (o + 26) (6 * x + b) = kC (tkB t k y) x b) → (∀ x, a ≤ x → x < nc t k → ∀ b < nc t k, hAI h' (o + 26) (6 * x + b) = cnt t k x b) → AWP mX4_bounds 17 64 [vR (some o), vI (nI k), vI (nI j), vI q, vI d, vI w, vI (nI a), y7, y8, y9] [] h' (0, 0) (RI fun y h' => y = spBounds t (nI k) (nI j) q d w ∧ MS h' o t g) := by
    refine lo_up ?_ ?_
    · intro a ha hS h' y7 y8 y9 M e5 R1 R2 R3
      have ea' : nt (nI a) = a := nt_nI (by omega)
      have ex : nt (nI (6 * k + a)) = 6 * k + a := nt_nI (by omega)
      have vx := vp_in_nI (n := 6 * k + a) (N := 78) (by omega) (by omega)
      have hx : 6 * k + a < 6 * ns t := by omega
      have va := vp_in_nI (n := a) (N := 6) (by omega) (by omega)
      have L2 : ∀ b, b ≤ nc t k → ∀ h' y7 y9, MS h' o t (g + 7) → hFI h' 435 o = nI (nc t k) → (∀ x < nc t k, hAI h' (o + 24) x = pd t (6 * k + x) ∧ hAI h' (o + 25) x = hl t (6 * k + x)) → (∀ x < a + 1, hAI h' (o + 23) x = kM (tkB t k y) x) → (∀ x < a, ∀ b < nc t k, hAI h' (o + 26) (6 * x + b) = kC (tkB t k y) x b) → (∀ c < b, hAI h' (o + 26) (6 * a + c) = kC (tkB t k y) a c) → (∀ c, b ≤ c → c < nc t k → hAI h' (o + 26) (6 * a + c) = cnt t k a c) → (∀ x, a < x → x < nc t k → ∀ b < nc t k, hAI h' (o + 26) (6 * x + b) = cnt t k x b) → AWP mX4_bounds 17 150 [vR (some o), vI (nI k), vI (nI j), vI q, vI d, vI w, vI (nI a), vI y7, vI (nI b), y9] [] h' (0, 0) (RI fun y h' => y = spBounds t (nI k) (nI j) q d w ∧ MS h' o t g) := by
        refine lo_up ?_ ?_
        · intro b hb hS2 h' y7 y9 M e5 R1 R2 R3 R4 R5 R6
          have eb : nt (nI b) = b := nt_nI (by omega)
          have hxx := ix_lt (a := a) (b := b) hk (by omega) (by omega)
          have eix : nt (nI (ix k a b)) = ix k a b := nt_nI (by omega)
          have vix := vp_in_nI (n := ix k a b) (N := 468) (by omega) (by omega)
          have e6 : nt (nI (6 * a + b)) = 6 * a + b := nt_nI (by omega)
          have v6 := vp_in_nI (n := 6 * a + b) (N := 36) (by omega) (by omega)
          refine bX4_bounds_150 M ?_
          rw [e5, ix_nI, ek, ea', eb, eix]
          refine ⟨fun z => absurd z (nI_ge hb (by omega)), fun _ => ⟨⟨h1, bt_of (n := 6) (by omega) (by omega), bt_of (n := 6) (by omega) (by omega)⟩, fun z => ⟨vix, hxx, ?_⟩, fun z => ?_⟩⟩
          · have fin : ∀ s0, s0 = hld (sf t (ix k a b) + y) → ∀ y9, AWP mX4_bounds 17 227 [vR (some o), vI (nI k), vI (nI j), vI q, vI d, vI w, vI (nI a), vI y7, vI (nI b), vI y9] [vI s0] h' (0, 0) (RI fun y h' => y = spBounds t (nI k) (nI j) q d w ∧ MS h' o t g) := by
              intro s0 e0 y9
              refine bX4_bounds_227 M ?_
              rw [ix_nI, eix, pk_mul, nI_add, nI_add, e6]
              refine ⟨vix, hxx, v6, fun h1 q1 => ?_⟩
              rw [q1]
              refine hS2 _ _ _ (M.fr (PE.w rfl)) e5 (fun x hx => ?_) (fun x hx => ?_) (fun x hx c hc => ?_) (fun c hc => ?_) (fun c hc hc2 => ?_) (fun x hx hx2 c hc => ?_)
              · simp (disch := decide) only [hAI_wo]; exact R1 x hx
              · simp (disch := decide) only [hAI_wo]; exact R2 x hx
              · rw [hAI_w1, if_neg (by omega)]; exact R3 x hx c hc
              · rw [hAI_w1]
                by_cases cc : c = b
                · rw [if_pos (by omega), cc, e0]
                  show _ = if has t k a b then _ else _
                  rw [if_pos z]
                · rw [if_neg (by omega)]; exact R4 c (by omega)
              · rw [hAI_w1, if_neg (by omega)]; exact R5 c (by omega) hc2
              · rw [hAI_w1, if_neg (by omega)]; exact R6 x hx hx2 c hc
            have g2 : ∀ s1, s1 = y → AWP mX4_bounds 17 200 [vR (some o), vI (nI k), vI (nI j), vI q, vI d, vI w, vI (nI a), vI y7, vI (nI b), y9] [vI s1, vI (sf t (ix k a b))] h' (0, 0) (RI fun y h' => y = spBounds t (nI k) (nI j) q d w ∧ MS h' o t g) := by
              rintro s1 rfl
              obtain ⟨c1, c2, c3⟩ := hld_1 (x := sf t (ix k a b) + s1)
              exact bX4_bounds_200 M ⟨fun z1 => ⟨fun z2 => fin _ (c1 z1 z2).symm _, fun z2 => fin _ (c2 z1 z2).symm _⟩, fun z1 => fin _ (c3 z1).symm _⟩
            exact ⟨fun c => g2 _ (by rw [← hy, if_neg c]), fun c => g2 _ (by rw [← hy, if_pos c])⟩
          · rw [nI_add]
            refine hS2 _ _ _ M e5 R1 R2 R3 (fun c hc => ?_) (fun c hc hc2 => R5 c (by omega) hc2) R6
            by_cases cc : c = b
            · rw [cc, R5 b (by omega) hb]
              show cnt t k a b = if has t k a b then _ else _
              rw [cnt, if_neg z, if_neg z]
            · exact R4 c (by omega)
        · intro h' y7 y9 M e5 R1 R2 R3 R4 R5 R6
          refine bX4_bounds_150 M ?_
          rw [e5, nI_add]
          refine ⟨fun _ => hS _ _ _ _ M e5 R1 (fun x hx => ⟨R2 x hx, fun b hb => ?_⟩) (fun x hx => R6 x (by omega)), fun z => absurd (nI_le (Nat.le_refl _) (by omega)) z⟩
          by_cases c : x = a
          · rw [c]; exact R4 b hb
          · exact R3 x (by omega) b hb
      have g1 : ∀ s1, hv t (6 * k + a) + s1 = hv t (6 * k + a) - y → AWP mX4_bounds 17 98 [vR (some o), vI (nI k), vI (nI j), vI q, vI d, vI w, vI (nI a), y7, y8, y9] [vI s1, vI (hv t (6 * k + a))] h' (0, 0) (RI fun y h' => y = spBounds t (nI k) (nI j) q d w ∧ MS h' o t g) := by
        intro s1 e1
        refine bX4_bounds_98 M ?_
        rw [pk_mul, nI_add, ex, ea', e1]
        obtain ⟨c1, c2, c3⟩ := hld_1 (x := hv t (6 * k + a) - y)
        have fin : ∀ x, x = hld (hv t (6 * k + a) - y) → ∀ h3, h3 = w1 h' (o + 23) a (massO x (wg t (6 * k + a))) → ∀ y7 y9, AWP mX4_bounds 17 150 [vR (some o), vI (nI k), vI (nI j), vI q, vI d, vI w, vI (nI a), vI y7, vI (nI 0), y9] [] h3 (0, 0) (RI fun y h' => y = spBounds t (nI k) (nI j) q d w ∧ MS h' o t g) := by
          intro x ex2 h3 q3 y7 y9
          rw [q3]
          refine L2 0 (by omega) _ _ _ (M.fr (PE.w rfl)) e5 (fun x hx => ?_) (fun x hx => ?_) (fun x hx c hc => ?_) (fun c hc => absurd hc (Nat.not_lt_zero c)) (fun c _ hc2 => ?_) (fun x hx hx2 c hc => ?_)
          · simp (disch := decide) only [hAI_wo]; exact R1 x hx
          · rw [hAI_w1]
            by_cases c : x = a
            · rw [if_pos c, c, ex2]; rfl
            · rw [if_neg c]; exact (R2 x (by omega)).1
          · rw [hAI_wo (by decide)]; exact (R2 x hx).2 c hc
          · rw [hAI_wo (by decide)]; exact R3 a (Nat.le_refl _) ha c hc2
          · rw [hAI_wo (by decide)]; exact R3 x (by omega) hx2 c hc
        exact ⟨fun z1 => ⟨fun z2 => ⟨vx, hx, va, fun h3 q3 => fin _ (c1 z1 z2).symm h3 q3 _ _⟩, fun z2 => ⟨vx, hx, va, fun h3 q3 => fin _ (c2 z1 z2).symm h3 q3 _ _⟩⟩, fun z1 => ⟨vx, hx, va, fun h3 q3 => fin _ (c3 z1).symm h3 q3 _ _⟩⟩
      refine bX4_bounds_64 M ?_
      rw [e5, pk_mul, nI_add, ex]
      refine ⟨fun z => absurd z (nI_ge ha (by omega)), fun _ => ⟨vx, hx, fun c => g1 _ ?_, fun c => g1 _ ?_⟩⟩
      · rw [← hy, if_neg c, Int32.sub_eq_add_neg]
      · rw [← hy, if_pos c, Int32.sub_neg]
    · intro h' y7 y8 y9 M e5 R1 R2 R3
      refine bX4_bounds_64 M ?_
      rw [e5]
      refine ⟨fun _ => ⟨_, ctX4_shutNow (k := tkB t k y) M ⟨hc.2, e5, fun x hx => ⟨(R2 x hx).1, (R1 x hx).1, (R1 x hx).2, (R2 x hx).2⟩⟩ (by omega), ?_⟩, fun z => absurd (nI_le (Nat.le_refl _) (by omega)) z⟩
      rintro z h8 ⟨rfl, m8, C8, F8⟩
      exact ⟨_, _, m8, RIq E.symm m8⟩
  obtain ⟨c1, c2, c3⟩ := K7
  exact L 0 (by omega) h7 _ _ _ m7 c2 (fun x hx => ⟨(c3 x hx).2.1, (c3 x hx).2.2.1⟩) (fun x hx => absurd hx (Nat.not_lt_zero x)) (fun x _ hx b hb => (c3 x hx).2.2.2 b hb)
/-! over the bodies of a shape -/
def PLf (t : St) (s b : Nat) : List Nat := (List.range b).filter (inSh t s)
theorem PLf_s {t : St} {s b : Nat} : PLf t s (b + 1) = if inSh t s b then PLf t s b ++ [b] else PLf t s b := by
  unfold PLf
  rw [List.range_succ, List.filter_append]
  by_cases q : inSh t s b = true
  · rw [if_pos q]; simp [q]
  · rw [if_neg q]; simp [q]
theorem plc {n : Nat} (h : n ≤ 1000) : (nI n - nI 1 < 0 ↔ n = 0) ∧ (n ≠ 0 → nI n - nI 1 = nI (n - 1)) := by
  constructor
  · rw [lt_i, nI_m1 (by omega)]
    have e0 : (0 : Int32).toInt = 0 := rfl
    omega
  · intro q
    exact nI_sub (by omega)
theorem inSh_iff {t : St} {s b : Nat} : inSh t s b = true ↔ li t b ≠ 0 ∧ (li t b - 1) / 36 = s := by rw [inSh, decide_eq_true_eq]
/-- a body of a shape: its corners -/
theorem WF.pcs {h : Hp} {o g : Nat} {t : St} {s b : Nat} (W : WF t) (m : MS h o t g) (hb : b < nb t) (hi : inSh t s b = true) : s < ns t ∧ pc t b = ix s (pA t b) (pB t b) ∧ pA t b < 6 ∧ pB t b < 6 ∧ pA t b < nc t s ∧ pB t b < nc t s ∧ pA t b ≠ pB t b ∧ bo t (pc t b) = b + 1 ∧ has t s (pA t b) (pB t b) = true ∧ pc t b < 36 * ns t := by
  obtain ⟨h0, hs⟩ := inSh_iff.mp hi
  have hl := (m.b_bk b hb).2
  obtain ⟨w1, w2⟩ := W.Bo b hb h0
  have hs2 : s < ns t := by omega
  have e1 : pc t b = ix s (pA t b) (pB t b) := by unfold pA pB pc ix; omega
  have hA : pA t b < 6 := Nat.mod_lt _ (by omega)
  have hB : pB t b < 6 := Nat.mod_lt _ (by omega)
  have w2 : bo t (pc t b) = b + 1 := w2
  have hbo : bo t (ix s (pA t b) (pB t b)) ≠ 0 := by rw [← e1, w2]; omega
  have p1 := W.Pc s hs2 _ hA _ hB
  have p2 := W.Pc s hs2 _ hB _ hA
  obtain ⟨q1, q2, _⟩ := p1.2.2.2 hbo
  obtain ⟨q3, _⟩ := p2.2.2.2 (by rw [← p1.1]; exact hbo)
  refine ⟨hs2, e1, hA, hB, q1, q3, q2, w2, ?_, by unfold pc; omega⟩
  rw [has, decide_eq_true_eq]
  omega
theorem TK.ext {h : Hp} {o : Nat} {k k' : Tk} (m : TK h o k) (e0 : kN k' = kN k) (e : ∀ a < kN k, kM k' a = kM k a ∧ kP k' a = kP k a ∧ kH k' a = kH k a ∧ ∀ b < kN k, kC k' a b = kC k a b) : TK h o k' := by
  obtain ⟨c1, c2, c3⟩ := m
  refine ⟨by rw [e0]; exact c1, by rw [e0]; exact c2, fun a ha => ?_⟩
  rw [e0] at ha
  obtain ⟨d1, d2, d3, d4⟩ := c3 a ha
  obtain ⟨f1, f2, f3, f4⟩ := e a ha
  rw [f1, f2, f3, e0]
  exact ⟨d1, d2, d3, fun b hb => by rw [f4 b hb]; exact d4 b hb⟩
