theorem ctX4_mostOf {h : Hp} {k : Nat} (hk : k < 2 ^ 31) : Ret mX4_mostOf 0 [vI (nI k)] h 0 0 (RI fun x h' => x = mostI k ∧ h' = h) := by
  refine Ret.go (by decide) rfl rfl RI.ret (bX4_mostOf_0 ?_)
  have e0 : nI k = 0 ↔ k = 0 := by rw [show (0 : Int32) = nI 0 from rfl, nI_eq hk (by omega)]
  rw [e0, nI_eq hk (by omega)]
  exact ⟨fun z => ⟨fun z1 => RI.i ⟨by rw [mostI, if_neg z, if_neg z1], rfl⟩, fun z1 => RI.i ⟨by rw [mostI, if_neg z, if_pos z1]; rfl, rfl⟩⟩, fun z => RI.i ⟨by rw [mostI, if_pos z]; rfl, rfl⟩⟩
theorem ctX4_isWhole {h : Hp} {o g s : Nat} {t : St} (m : MS h o t g) (hs : s < 6) : Ret mX4_isWhole 0 [vR (some o), vI (nI s)] h 0 0 (RI fun x h' => x = bI (bt (ho t s) (-4) (-2) = true) ∧ h' = h) := by
  have es : nt (nI s) = s := nt_nI (by omega)
  have vs := vp_in_nI (n := s) (N := 6) (by omega) (by omega)
  have e2 : (-2 : Int32).toInt = -2 := rfl
  have e4 : (-4 : Int32).toInt = -4 := rfl
  refine Ret.go (by decide) rfl rfl RI.ret (bX4_isWhole_0 m ?_)
  rw [es]
  refine ⟨vs, hs, fun z => RI.i ⟨?_, rfl⟩, fun z => ⟨vs, hs, fun z2 => RI.i ⟨?_, rfl⟩, fun z2 => RI.i ⟨?_, rfl⟩⟩⟩
  · rw [bI_f]; rfl
    rw [bt_iff]; rw [lt_i] at z; omega
  · rw [bI_f]; rfl
    rw [bt_iff]; rw [lt_i] at z2; omega
  · rw [bI_t]; rfl
    rw [bt_iff]; rw [lt_i] at z z2; omega
theorem ctX4_whyNoRow {h : Hp} {o g : Nat} {t : St} {s : Int32} (m : MS h o t g) : Ret mX4_whyNoRow 2 [vR (some o), vI s] h 0 0 (RI fun x h' => x = whyR t s ∧ h' = h) := by
  refine Ret.go (by decide) rfl rfl RI.ret (bX4_whyNoRow_0 m ⟨fun q1 => ?_, fun q => RI.i ⟨by rw [whyR, if_pos (by exact q)], rfl⟩⟩)
  obtain ⟨k, hk, rfl⟩ := bt_nI (n := 6) q1
  have ek : nt (nI k) = k := nt_nI (by omega)
  rw [ek]
  refine ⟨vp_in_nI (by omega) (by omega), hk, fun z => ⟨_, ctX4_isWhole m hk, ?_⟩, fun z => RI.i ⟨by rw [whyR, if_neg (by exact fun z => z q1), ek, if_pos z], rfl⟩⟩
  rintro x h' ⟨rfl, rfl⟩
  exact ⟨_, _, m, fun y => RI.i ⟨by rw [whyR, if_neg (by exact fun z => z q1), ek, if_neg z, if_neg (by exact fun c => c (bI_n0.mp y))]; rfl, rfl⟩, fun y => RI.i ⟨by rw [whyR, if_neg (by exact fun z => z q1), ek, if_neg z, if_pos (by exact bI_0.mp y)], rfl⟩⟩
theorem srt_of {t : St} {k : Nat} (h : bt (ho t k) (-6) (-2) = true) : -2 - ho t k = nI (srt t k) ∧ srt t k ≤ 4 := by
  rw [bt_iff] at h
  have hl : (-2 - ho t k).toInt = -2 - (ho t k).toInt := by
    rw [Int32.toInt_sub, show (-2 : Int32).toInt = -2 from rfl, Int.bmod_eq_of_le_mul_two] <;> omega
  have e : srt t k = (-2 - (ho t k).toInt).toNat := by unfold srt nt; rw [← Int32.toNat_toInt, hl]
  refine ⟨?_, by omega⟩
  rw [eq_i, hl, nI_toInt (by omega)]
  omega
theorem fit1_1 {m v : Int32} (c1 : v ≤ m) (c2 : -m ≤ v) : v = fit1 m v := by
  rw [fit1, if_neg (by rw [lt_i]; rw [le_i] at c1; omega), if_neg (by rw [lt_i]; rw [le_i] at c2; omega)]
theorem fit1_2 {m v : Int32} (c1 : v ≤ m) (c2 : ¬ -m ≤ v) : -m = fit1 m v := by
  rw [fit1, if_neg (by rw [lt_i]; rw [le_i] at c1; omega), if_pos (by rw [lt_i]; rw [le_i] at c2; omega)]
theorem fit1_3 {m v : Int32} (c1 : ¬ v ≤ m) : m = fit1 m v := by
  rw [fit1, if_pos (by rw [lt_i]; rw [le_i] at c1; omega)]
theorem ctX4_write {h : Hp} {o g : Nat} {t : St} {e s i n : Int32} (m : MS h o t g) : Ret mX4_write 2 [vR (some o), vI e, vI s, vI i, vI n] h 0 0 (RI fun x h' => x = (spWrite t e s i n).2 ∧ MS h' o (spWrite t e s i n).1 g) := by
  have hsp := m.b_sp
  have B : ∀ z : ¬ (bt e 0 3 = true ∧ bt s 0 5 = true ∧ bt n 1 60 = true), spWrite t e s i n = (t, -1) := fun z => by rw [spWrite, if_pos z]
  refine Ret.go (by decide) rfl rfl RI.ret (bX4_write_0 m ⟨fun q => RIs (B fun z => q z.1) rfl m, fun q1 => ⟨fun q => RIs (B fun z => q z.2.1) rfl m, fun q2 => ⟨fun q3 => ?_, fun q => RIs (B fun z => q z.2.2) rfl m⟩⟩⟩)
  have G : ¬ ¬ (bt e 0 3 = true ∧ bt s 0 5 = true ∧ bt n 1 60 = true) := fun z => z ⟨q1, q2, q3⟩
  obtain ⟨a, h4a, rfl⟩ := bt_nI (n := 4) q1
  obtain ⟨b, hb, rfl⟩ := bt_nI (n := 6) q2
  obtain ⟨N, hN1, hN, rfl⟩ := bt_k (n := 60) q3 (by decide)
  have ea' : nt (nI a) = a := nt_nI (by omega)
  have eb : nt (nI b) = b := nt_nI (by omega)
  have eN : nt (nI N) = N := nt_nI (by omega)
  have va := vp_in_nI (n := a) (N := 4) (by omega) (by omega)
  have vb := vp_in_nI (n := b) (N := 6) (by omega) (by omega)
  have e0 : nI (sp t) = 0 ↔ sp t = 0 := by rw [show (0 : Int32) = nI 0 from rfl, nI_eq (by omega) (by omega)]
  rw [e0, ea', eb]
  refine ⟨fun z => RIs (y := (t, -4)) (by rw [spWrite, if_neg G, if_pos (by exact Or.inl z)]) rfl m, fun z1 => ⟨va, h4a, fun z2 => ⟨vb, hb, fun z3 => ⟨_, ctX4_isWhole m hb, ?_⟩, fun z3 => ?_⟩, fun z2 => RIs (y := (t, -4)) (by rw [spWrite, if_neg G, if_pos]; right; rw [ea', lt_i]; rw [le_i] at z2; omega) rfl m⟩⟩
  · have G2 : ¬ (sp t = 0 ∨ ew t a < 0) := by rintro (c | c); exact z1 c; exact lt0_of.mpr z2 c
    rintro x h' ⟨rfl, rfl⟩
    refine ⟨_, _, m, fun y => ⟨vb, ?_⟩, fun y => RIs (y := (t, -12)) (by rw [spWrite, if_neg G, ea', eb, if_neg G2, if_neg z3, if_pos (by exact bI_0.mp y)]) rfl m⟩
    have y := bI_n0.mp y
    have yy := bt_iff.mp y
    have lb : ho t b < -1 := by rw [lt_i, show (-1 : Int32).toInt = -1 from rfl]; omega
    have hz := m.b_sz b hb lb
    rw [m.a59 hb lb, bt_m1 (by omega)]
    obtain ⟨c1, c2⟩ := srt_of (t := t) (k := b) (bt_iff.mpr (by omega))
    refine ⟨fun q4 => ⟨vb, hb, ?_⟩, fun q4 => RIs (y := (t, -13)) (by rw [spWrite, if_neg G, ea', eb, if_neg G2, if_neg z3, if_neg (by exact fun c => c y), if_pos (by exact q4)]) rfl m⟩
    obtain ⟨j, hj, rfl⟩ := bt_nI q4
    have ej : nt (nI j) = j := nt_nI (by omega)
    have E : spWrite t (nI a) (nI b) (nI j) (nI N) = (uL t (wrL t a b j (min N (min (sp t) (sz t b - j)))), nI (min N (min (sp t) (sz t b - j)))) := by rw [spWrite, if_neg G, ea', eb, if_neg G2, if_neg z3, if_neg (by exact fun c => c y), if_neg (by exact fun c => c q4), ej, eN]
    rw [c1]
    refine ⟨_, ctX4_mostOf (by omega), ?_⟩
    intro x h2 hx
    rw [hx.1, hx.2]
    refine ⟨_, _, m, ?_⟩
    generalize hT : min N (min (sp t) (sz t b - j)) = T at E
    have L : ∀ k, k ≤ T → ∀ h' y7, MS h' o (uL t (wrL t a b j k)) g → AWP mX4_write 2 106 [vR (some o), vI (nI a), vI (nI b), vI (nI j), vI (nI N), vI (mostI (srt t b)), vI (nI k), y7] [] h' (0, 0) (RI fun x h' => x = (spWrite t (nI a) (nI b) (nI j) (nI N)).2 ∧ MS h' o (spWrite t (nI a) (nI b) (nI j) (nI N)).1 g) := by
      refine lo_up ?_ ?_
      · intro k hk hS h' y7 M
        have k1 : k < N := by omega
        have k2 : k < sp t := by omega
        have k3 : k + j < sz t b := by omega
        have e60 : nt (nI (60 * b + j + k)) = 60 * b + j + k := nt_nI (by omega)
        have v60 := vp_in_nI (n := 60 * b + j + k) (N := 360) (by omega) (by omega)
        have e5 : hAI h' (o + 59) b = nI (sz t b) := M.a59 hb lb
        have e49 : hAI h' (o + 49) (200 * a + k) = ha t (200 * a + k) := M.a49 h4a z2 k2
        refine bX4_write_106 M ?_
        have spe : sp (uL t (wrL t a b j k)) = sp t := rfl
        rw [spe, eb, e5, pk_mul, pk_mul]
        simp only [nI_add]
        rw [nt_nI (show 200 * a + k < 2 ^ 31 by omega), e49, e60]
        have fin : ∀ v : Int32, v = fit1 (mostI (srt t b)) (ha t (200 * a + k)) → ∀ h6, h6 = wL h' (o + 60) (60 * b + j + k) v.toInt64 → ∀ y, AWP mX4_write 2 106 [vR (some o), vI (nI a), vI (nI b), vI (nI j), vI (nI N), vI (mostI (srt t b)), vI (nI (k + 1)), y] [] h6 (0, 0) (RI fun x h' => x = (spWrite t (nI a) (nI b) (nI j) (nI N)).2 ∧ MS h' o (spWrite t (nI a) (nI b) (nI j) (nI N)).1 g) := by
          intro v ev h6 q6 y
          rw [q6, ev]
          refine hS _ _ ?_
          have M2 := M.wel (s := b) (i := j + k) (v := (fit1 (mostI (srt t b)) (ha t (200 * a + k))).toInt64) hb
          rw [← Nat.add_assoc] at M2
          exact M2
        refine ⟨fun c => absurd c (nI_ge k1 (by omega)), fun _ => ⟨fun c => absurd c (nI_ge k2 (by omega)), fun _ => ⟨vb, fun c => absurd c (nI_ge (by omega) (by omega)), fun _ => ⟨vp_in_nI (by omega) (by omega), fun c1 => ⟨fun c2 => ⟨v60, fun h6 q6 => fin _ ?_ h6 q6 _⟩, fun c2 => ⟨v60, fun h6 q6 => fin _ ?_ h6 q6 _⟩⟩, fun c1 => ⟨v60, fun h6 q6 => fin _ ?_ h6 q6 _⟩⟩⟩⟩⟩
        · exact fit1_1 c1 c2
        · exact fit1_2 c1 c2
        · exact fit1_3 c1
      · intro h' y7 M
        have e5 : hAI h' (o + 59) b = nI (sz t b) := M.a59 hb lb
        have fin : RI (fun x h' => x = (spWrite t (nI a) (nI b) (nI j) (nI N)).2 ∧ MS h' o (spWrite t (nI a) (nI b) (nI j) (nI N)).1 g) (rI (nI T)) h' := RIs E rfl M
        refine bX4_write_106 M ⟨fun _ => fin, fun c1 => ⟨fun _ => fin, fun c2 => ⟨vb, ?_⟩⟩⟩
        rw [eb, e5, nI_add]
        refine ⟨fun _ => fin, fun c3 => ?_⟩
        have spe : sp (uL t (wrL t a b j T)) = sp t := rfl
        rw [spe] at c2
        rw [nI_leI (by omega) (by omega)] at c1 c2 c3
        omega
    exact L 0 (by omega) h' _ m
  · have G2 : ¬ (sp t = 0 ∨ ew t a < 0) := by rintro (c | c); exact z1 c; exact lt0_of.mpr z2 c
    exact RIs (y := (t, -11)) (by rw [spWrite, if_neg G, ea', eb, if_neg G2, if_pos z3]) rfl m
theorem ctX4_heardIn {h : Hp} {o g s k : Nat} {t : St} (m : MS h o t g) (hs : s < 6) (hw : bt (ho t s) (-4) (-2) = true) (hk : k < sz t s) : Ret mX4_heardIn 1 [vR (some o), vI (nI s), vI (nI k)] h 0 0 (RJ fun x h' => x = hrd t s k ∧ h' = h) := by
  have yy := bt_iff.mp hw
  have lb : ho t s < -1 := by rw [lt_i, show (-1 : Int32).toInt = -1 from rfl]; omega
  have hz := m.b_sz s hs lb
  obtain ⟨c1, c2⟩ := srt_of (t := t) (k := s) (bt_iff.mpr (by omega))
  refine Ret.go (by decide) rfl rfl RJ.ret (bX4_heardIn_0 m ?_)
  rw [pk_mul, nI_add, nt_nI (show s < 2 ^ 31 by omega), nt_nI (by omega), m.a60 hs lb hk, c1]
  refine ⟨vp_in_nI (by omega) (by omega), vp_in_nI (by omega) (by omega), hs, _, ctX4_mostOf (by omega), ?_⟩
  intro x h2 hx
  rw [hx.1, hx.2, lg_cmp_eq]
  exact ⟨_, _, m, fun z => RJ.i ⟨by rw [hrd, if_neg z], rfl⟩, fun z => RJ.i ⟨by rw [hrd, if_pos z], rfl⟩⟩
theorem ctX4_signOf {h : Hp} {n k : Nat} (hn : 1 ≤ n) (hn2 : n ≤ 1000) (hk : k ≤ 1000) : Ret mX4_signOf 0 [vI (nI n), vI (nI k)] h 0 0 (RI fun x h' => x = sgn n k ∧ h' = h) := by
  have hm : k % n < n := Nat.mod_lt _ (by omega)
  refine Ret.go (by decide) rfl rfl RI.ret (bX4_signOf_0 ?_)
  rw [nI_mod (by omega) (by omega), pk_mul]
  have e : (nI n - nI (2 * (k % n))).toInt = (n : Int) - (2 * (k % n) : Nat) := by
    rw [Int32.toInt_sub, nI_toInt (by omega), nI_toInt (by omega), Int.bmod_eq_of_le_mul_two] <;> omega
  have e0 : (0 : Int32).toInt = 0 := rfl
  refine ⟨nI_ne0 (by omega) (by omega), fun z => ⟨fun z2 => RI.i ⟨?_, rfl⟩, fun z2 => RI.i ⟨?_, rfl⟩⟩, fun z => RI.i ⟨?_, rfl⟩⟩
  · rw [le_i, e, e0] at z
    rw [le_i, e, e0] at z2
    rw [sgn, if_neg (by omega), if_neg (by omega)]; rfl
  · rw [le_i, e, e0] at z
    rw [le_i, e, e0] at z2
    rw [sgn, if_neg (by omega), if_pos (by omega)]
  · rw [le_i, e, e0] at z
    rw [sgn, if_pos (by omega)]; rfl
theorem ctX4_loudnessOf {h : Hp} {o g s n : Nat} {t : St} (m : MS h o t g) (hs : s < 6) (hw : bt (ho t s) (-4) (-2) = true) (hn : 2 ≤ n) (hn2 : n ≤ 60) : Ret mX4_loudnessOf 2 [vR (some o), vI (nI s), vI (nI n)] h 0 0 (RJ fun x h' => x = lnO t s n ∧ h' = h) := by
  have yy := bt_iff.mp hw
  have lb : ho t s < -1 := by rw [lt_i, show (-1 : Int32).toInt = -1 from rfl]; omega
  have hz := m.b_sz s hs lb
  have es : nt (nI s) = s := nt_nI (by omega)
  have vs := vp_in_nI (n := s) (N := 6) (by omega) (by omega)
  refine Ret.go (by decide) rfl rfl RJ.ret (bX4_loudnessOf_0 m ?_)
  have L : ∀ k, k ≤ sz t s → AWP mX4_loudnessOf 2 8 [vR (some o), vI (nI s), vI (nI n), vJ (lnC t s n 0 k), vU, vJ (lnC t s n (n / 4) k), vU, vI (nI k)] [] h (0, 0) (RJ fun x h' => x = lnO t s n ∧ h' = h) := by
    refine lo_up ?_ ?_
    · intro k hk hS
      refine bX4_loudnessOf_8 m ?_
      rw [es, m.a59 hs lb, nI_div (by omega) (by omega)]
      simp only [nI_add]
      refine ⟨vs, fun z => absurd z (nI_ge hk (by omega)), fun _ => ⟨_, ctX4_heardIn m hs hw hk, ?_⟩⟩
      rintro x1 h1 ⟨rfl, rfl⟩
      refine ⟨_, _, m, _, ctX4_signOf (by omega) (by omega) (by omega), ?_⟩
      rintro x2 h2 ⟨rfl, rfl⟩
      refine ⟨_, _, m, _, ctX4_heardIn m hs hw hk, ?_⟩
      rintro x3 h3 ⟨rfl, rfl⟩
      refine ⟨_, _, m, _, ctX4_signOf (by omega) (by omega) (by omega), ?_⟩
      rintro x4 h4 ⟨rfl, rfl⟩
      exact ⟨_, _, m, hS⟩
    · refine bX4_loudnessOf_8 m ?_
      rw [es, m.a59 hs lb, lg_cmp_ge, lg_cmp_ge]
      refine ⟨vs, fun _ => ?_, fun z => absurd (nI_le (Nat.le_refl _) (by omega)) z⟩
      generalize hc : lnC t s n 0 (sz t s) = c
      generalize hr : lnC t s n (n / 4) (sz t s) = r
      have fin : ∀ c' r' y, c' = abL c → r' = abL r → AWP mX4_loudnessOf 2 95 [vR (some o), vI (nI s), vI (nI n), vJ c', vU, vJ y, vU, vI (nI (sz t s))] [vJ r'] h (0, 0) (RJ fun x h' => x = lnO t s n ∧ h' = h) := by
        intro c' r' y e1 e2
        refine bX4_loudnessOf_95 m ?_
        rw [lg_cmp_le, e1, e2]
        refine ⟨fun z => RJ.i ⟨?_, rfl⟩, fun z => RJ.i ⟨?_, rfl⟩⟩
        · rw [lnO, hc, hr, if_neg (by rw [Int64.lt_iff_toInt_lt]; rw [Int64.le_iff_toInt_le] at z; omega)]
        · rw [lnO, hc, hr, if_pos (by rw [Int64.lt_iff_toInt_lt]; rw [Int64.le_iff_toInt_le] at z; omega)]
      have A1 : ∀ x : Int64, 0 ≤ x → x = abL x := by intro x hx; rw [abL, if_neg (by rw [Int64.lt_iff_toInt_lt]; rw [Int64.le_iff_toInt_le] at hx; omega)]
      have A2 : ∀ x : Int64, ¬ 0 ≤ x → -x = abL x := by intro x hx; rw [abL, if_pos (by rw [Int64.lt_iff_toInt_lt]; rw [Int64.le_iff_toInt_le] at hx; omega)]
      exact ⟨fun z => ⟨fun z2 => fin _ _ _ (A1 _ z) (A1 _ z2), fun z2 => fin _ _ _ (A1 _ z) (A2 _ z2)⟩, fun z => ⟨fun z2 => fin _ _ _ (A2 _ z) (A1 _ z2), fun z2 => fin _ _ _ (A2 _ z) (A2 _ z2)⟩⟩
  exact L 0 (by omega)
theorem whyR_ok {t : St} {s : Int32} (h : ¬ whyR t s < 0) : bt s 0 5 = true ∧ bt (ho t (nt s)) (-4) (-2) = true := by
  unfold whyR at h
  by_cases q1 : bt s 0 5 = true
  · rw [if_neg (by exact fun z => z q1)] at h
    by_cases q2 : ho t (nt s) = -1
    · rw [if_pos q2] at h; exact absurd (by decide) h
    · rw [if_neg q2] at h
      by_cases q3 : bt (ho t (nt s)) (-4) (-2) = true
      · exact ⟨q1, q3⟩
      · rw [if_pos q3] at h; exact absurd (by decide) h
  · rw [if_pos q1] at h; exact absurd (by decide) h
theorem ctX4_loudness {h : Hp} {o g : Nat} {t : St} {s n : Int32} (m : MS h o t g) : Ret mX4_loudness 3 [vR (some o), vI s, vI n] h 0 0 (RI fun x h' => x = spLness t s n ∧ h' = h) := by
  refine Ret.go (by decide) rfl rfl RI.ret (bX4_loudness_0 m ⟨fun q => RI.i ⟨by rw [spLness, if_pos (by exact fun z => q z.1)], rfl⟩, fun q1 => ⟨fun q2 => ⟨_, ctX4_whyNoRow m, ?_⟩, fun q => RI.i ⟨by rw [spLness, if_pos (by exact fun z => q z.2)], rfl⟩⟩⟩)
  have G : ¬ ¬ (bt s 0 5 = true ∧ bt n 2 60 = true) := fun z => z ⟨q1, q2⟩
  rintro x h' ⟨rfl, rfl⟩
  refine ⟨_, _, m, fun z => ?_, fun z => ⟨_, ctX4_whyNoRow m, ?_⟩⟩
  · have z := lt0_of.mpr z
    obtain ⟨_, hw⟩ := whyR_ok z
    obtain ⟨k, hk, rfl⟩ := bt_nI (n := 6) q1
    obtain ⟨N, hN1, hN, rfl⟩ := bt_k (n := 60) q2 (by decide)
    have ek : nt (nI k) = k := nt_nI (by omega)
    have eN : nt (nI N) = N := nt_nI (by omega)
    rw [ek] at hw
    refine ⟨_, ctX4_loudnessOf m hk hw (by omega) hN, ?_⟩
    rintro x h2 ⟨rfl, rfl⟩
    rw [lg_cmp_le]
    refine ⟨_, _, m, fun c => RI.i ⟨?_, rfl⟩, fun c => RI.i ⟨?_, rfl⟩⟩
    · rw [spLness, if_neg G, if_neg z, ek, eN, if_neg (by rw [Int64.lt_iff_toInt_lt]; rw [Int64.le_iff_toInt_le] at c; omega)]
    · rw [spLness, if_neg G, if_neg z, ek, eN, if_pos (by rw [Int64.lt_iff_toInt_lt]; rw [Int64.le_iff_toInt_le] at c; omega)]
  · rintro x h2 ⟨rfl, rfl⟩
    refine ⟨_, _, m, RI.i ⟨?_, rfl⟩⟩
    rw [spLness, if_neg G, if_pos (by rw [lt_i]; rw [le_i] at z; omega)]
theorem ctX4_strongest {h : Hp} {o g : Nat} {t : St} {s : Int32} (m : MS h o t g) : Ret mX4_strongest 3 [vR (some o), vI s] h 0 0 (RI fun x h' => x = spStrong t s ∧ h' = h) := by
  refine Ret.go (by decide) rfl rfl RI.ret (bX4_strongest_0 m ⟨_, ctX4_whyNoRow m, ?_⟩)
  rintro x h' ⟨rfl, rfl⟩
  refine ⟨_, _, m, fun z => ?_, fun z => ⟨_, ctX4_whyNoRow m, ?_⟩⟩
  · have z := lt0_of.mpr z
    obtain ⟨q1, hw⟩ := whyR_ok z
    obtain ⟨k, hk, rfl⟩ := bt_nI (n := 6) q1
    have ek : nt (nI k) = k := nt_nI (by omega)
    rw [ek] at hw
    have yy := bt_iff.mp hw
    have lb : ho t k < -1 := by rw [lt_i, show (-1 : Int32).toInt = -1 from rfl]; omega
    have hz := m.b_sz k hk lb
    have vk := vp_in_nI (n := k) (N := 6) (by omega) (by omega)
    have e0 : nI (sz t k) = 0 ↔ sz t k = 0 := by rw [show (0 : Int32) = nI 0 from rfl, nI_eq (by omega) (by omega)]
    rw [ek, m.a59 hk lb, e0]
    refine ⟨vk, fun z2 => ⟨_, ctX4_loudnessOf m hk hw (by omega) (by omega), ?_⟩, fun z2 => RI.i ⟨by rw [spStrong, if_neg z, ek, if_pos z2], rfl⟩⟩
    rintro x h2 ⟨rfl, rfl⟩
    rw [m.a59 hk lb]
    have ne : ¬ (nI (sz t k)).toInt64 = 0 := by
      intro c
      have := congrArg Int64.toInt c
      rw [Int32.toInt_toInt64, nI_toInt (by omega), show (0 : Int64).toInt = 0 from rfl] at this
      omega
    have E : spStrong t (nI k) = nI ((List.range' 3 58).foldl (sgF t k) (2, lnO t k 2 / (nI (sz t k)).toInt64)).1 := by rw [spStrong, if_neg z, ek, if_neg z2]
    refine ⟨_, _, m, vk, ne, ?_⟩
    have L : ∀ d, d ≤ 58 → ∀ y6 y7, AWP mX4_strongest 3 46 [vR (some o), vI (nI k), vI (nI ((List.range' 3 d).foldl (sgF t k) (2, lnO t k 2 / (nI (sz t k)).toInt64)).1), vJ ((List.range' 3 d).foldl (sgF t k) (2, lnO t k 2 / (nI (sz t k)).toInt64)).2, vU, vI (nI (3 + d)), y6, y7] [] h2 (0, 0) (RI fun x h' => x = spStrong t (nI k) ∧ h' = h2) := by
      refine lo_up ?_ ?_
      · intro d hd hS y6 y7
        rw [List.range'_1_concat, List.foldl_append] at hS
        generalize (List.range' 3 d).foldl (sgF t k) (2, lnO t k 2 / (nI (sz t k)).toInt64) = u at hS ⊢
        have hS : ∀ y6 y7, AWP mX4_strongest 3 46 [vR (some o), vI (nI k), vI (nI (sgF t k u (3 + d)).1), vJ (sgF t k u (3 + d)).2, vU, vI (nI (3 + (d + 1))), y6, y7] [] h2 (0, 0) (RI fun x h' => x = spStrong t (nI k) ∧ h' = h2) := hS
        refine bX4_strongest_46 m ?_
        rw [nI_ltI (by omega) (by omega)]
        refine ⟨fun c => by omega, fun _ => ⟨_, ctX4_loudnessOf m hk hw (by omega) (by omega), ?_⟩⟩
        rintro x h3 ⟨rfl, rfl⟩
        rw [ek, m.a59 hk lb, lg_cmp_gt]
        simp only [nI_add, Nat.add_assoc]
        unfold sgF at hS
        refine ⟨_, _, m, vk, ne, fun c => ?_, fun c => ?_⟩
        · rw [if_neg (by rw [Int64.le_iff_toInt_le]; rw [Int64.lt_iff_toInt_lt] at c; omega)] at hS
          exact hS _ _
        · rw [if_pos (by rw [Int64.le_iff_toInt_le]; rw [Int64.lt_iff_toInt_lt] at c; omega)] at hS
          exact hS _ _
      · intro y6 y7
        refine bX4_strongest_46 m ?_
        exact ⟨fun _ => RI.i ⟨E.symm, rfl⟩, fun c => absurd (by decide) c⟩
    exact L 0 (by omega) _ _
  · rintro x h2 ⟨rfl, rfl⟩
    refine ⟨_, _, m, RI.i ⟨?_, rfl⟩⟩
    rw [spStrong, if_pos (by rw [lt_i]; rw [le_i] at z; omega)]
