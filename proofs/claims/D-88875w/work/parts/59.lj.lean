theorem ctX4_shift {h : Hp} {o g : Nat} {t : St} {s i r j n : Int32} (m : MS h o t g) : Ret mX4_shift 2 [vR (some o), vI s, vI i, vI r, vI j, vI n] h 0 0 (RI fun x h' => x = (spShift t s i r j n).2 ∧ MS h' o (spShift t s i r j n).1 g) := by
  refine Ret.go (by decide) rfl rfl RI.ret (bX4_shift_0 m ⟨fun q => RIs (y := (t, -1)) (by rw [spShift, if_pos (by exact fun z => q z.1)]) rfl m, fun q1 => ⟨fun q2 => ?_, fun q => RIs (y := (t, -1)) (by rw [spShift, if_pos (by exact fun z => q z.2)]) rfl m⟩⟩)
  have G : ¬ ¬ (bt s 0 5 = true ∧ bt r 0 5 = true) := fun z => z ⟨q1, q2⟩
  obtain ⟨a, ha, rfl⟩ := bt_nI (n := 6) q1
  obtain ⟨b, hb, rfl⟩ := bt_nI (n := 6) q2
  have ea' : nt (nI a) = a := nt_nI (by omega)
  have eb : nt (nI b) = b := nt_nI (by omega)
  have va := vp_in_nI (n := a) (N := 6) (by omega) (by omega)
  have vb := vp_in_nI (n := b) (N := 6) (by omega) (by omega)
  rw [ea', eb]
  refine ⟨va, ha, fun z1 => RIs (y := (t, -11)) (by rw [spShift, if_neg G, ea', eb, if_pos (by exact Or.inl z1)]) rfl m, fun z1 => ⟨vb, hb, fun z2 => ?_, fun z2 => RIs (y := (t, -11)) (by rw [spShift, if_neg G, ea', eb, if_pos (by exact Or.inr z2)]) rfl m⟩⟩
  have G2 : ¬ (ho t a = -1 ∨ ho t b = -1) := by rintro (z | z); exact z1 z; exact z2 z
  refine ⟨va, ha, fun z3 => RIs (y := (t, -12)) (by rw [spShift, if_neg G, ea', eb, if_neg G2, if_pos (by exact Or.inl z3)]) rfl m, fun z3 => ⟨va, ha, vb, hb, fun z4 => ?_, fun z4 => RIs (y := (t, -12)) (by rw [spShift, if_neg G, ea', eb, if_neg G2, if_pos (by exact Or.inr z4)]) rfl m⟩⟩
  have G3 : ¬ (0 ≤ ho t a ∨ ho t a ≠ ho t b) := by rintro (z | z); exact z3 z; exact z z4
  have la := ho_lt z1 z3
  have lb : ho t b < -1 := by rw [← z4]; exact la
  have sa := m.b_sz a ha la
  have sb := m.b_sz b hb lb
  rw [m.a59 ha la, m.a59 hb lb]
  have B : (n < 0 ∨ i < 0 ∨ j < 0 ∨ sz t a < nt i + nt n ∨ sz t b < nt j + nt n) → spShift t (nI a) i (nI b) j n = (t, -13) := fun z => by rw [spShift, if_neg G, ea', eb, if_neg G2, if_neg G3, if_pos z]
  refine ⟨fun z => RIs (B (by simp [z])) rfl m, fun y1 => ⟨fun z => RIs (B (by simp [z])) rfl m, fun y2 => ⟨fun z => RIs (B (by simp [z])) rfl m, fun y3 => ?_⟩⟩⟩
  obtain ⟨n, hn, rfl⟩ := nI_of y1
  obtain ⟨i, hi, rfl⟩ := nI_of y2
  obtain ⟨j, hj, rfl⟩ := nI_of y3
  have en : nt (nI n) = n := nt_nI hn
  have ei : nt (nI i) = i := nt_nI hi
  have ej : nt (nI j) = j := nt_nI hj
  rw [en, ei, ej] at B
  have sub : ∀ x k : Nat, x ≤ 60 → k < 2 ^ 31 → (nI x - nI k).toInt = (x : Int) - k := by
    intro x k hx hk
    rw [Int32.toInt_sub, nI_toInt (by omega), nI_toInt hk, Int.bmod_eq_of_le_mul_two] <;> omega
  refine ⟨va, fun z => RIs (B ?_) rfl m, fun y4 => ⟨vb, fun y5 => ?_, fun z => RIs (B ?_) rfl m⟩⟩
  · rw [lt_i, sub _ _ sa hn, nI_toInt hi] at z
    right; right; right; left; omega
  · rw [lt_i, sub _ _ sa hn, nI_toInt hi] at y4
    rw [le_i, sub _ _ sb hn, nI_toInt hj] at y5
    have h1 : i + n ≤ sz t a := by omega
    have h2 : j + n ≤ sz t b := by omega
    have E : spShift t (nI a) (nI i) (nI b) (nI j) (nI n) = (uL t (fun q => if 60 * b + j ≤ q ∧ q < 60 * b + j + n then el t (60 * a + i + (q - (60 * b + j))) else el t q), nI n) := by
      rw [spShift, if_neg G, ea', eb, if_neg G2, if_neg G3, en, ei, ej, if_neg]
      rintro (z | z | z | z | z)
      · exact y1 z
      · exact y2 z
      · exact y3 z
      · omega
      · omega
    have L2 : ∀ k, k ≤ n → ∀ h', (∀ q < n, hAL h' (o + 61) q = el t (60 * a + i + q)) → MS h' o (uL t (fun q => if 60 * b + j ≤ q ∧ q < 60 * b + j + k then el t (60 * a + i + (q - (60 * b + j))) else el t q)) g → AWP mX4_shift 2 150 [vR (some o), vI (nI a), vI (nI i), vI (nI b), vI (nI j), vI (nI n), vI (nI k)] [] h' (0, 0) (RI fun x h' => x = (spShift t (nI a) (nI i) (nI b) (nI j) (nI n)).2 ∧ MS h' o (spShift t (nI a) (nI i) (nI b) (nI j) (nI n)).1 g) := by
      refine lo_up ?_ ?_
      · intro k hk hS h' hq M
        refine bX4_shift_150 M ⟨fun z => absurd z (nI_ge hk (by omega)), fun _ => ⟨vp_in_nI (by omega) (by omega), ?_⟩⟩
        rw [pk_mul, nI_add, nI_add, nt_nI (by omega), nt_nI (by omega), nI_add]
        refine ⟨vp_in_nI (by omega) (by omega), fun h2 q2 => ?_⟩
        subst q2
        refine hS _ (fun q hq2 => by rw [hAL_wo (by decide)]; exact hq q hq2) ?_
        have M2 := M.wel (s := b) (i := j + k) (v := hAL h' (o + 61) k) hb
        rw [hq k hk, ← Nat.add_assoc] at M2
        rw [hq k hk]
        have ee : ux (el (uL t (fun q => if 60 * b + j ≤ q ∧ q < 60 * b + j + k then el t (60 * a + i + (q - (60 * b + j))) else el t q))) (60 * b + j + k) (el t (60 * a + i + k)) = fun q => if 60 * b + j ≤ q ∧ q < 60 * b + j + (k + 1) then el t (60 * a + i + (q - (60 * b + j))) else el t q := by
          funext q
          show (if q = 60 * b + j + k then el t (60 * a + i + k) else if 60 * b + j ≤ q ∧ q < 60 * b + j + k then el t (60 * a + i + (q - (60 * b + j))) else el t q) = _
          by_cases c1 : q = 60 * b + j + k
          · rw [if_pos c1, if_pos (by omega), show q - (60 * b + j) = k by omega]
          · rw [if_neg c1]
            by_cases c2 : 60 * b + j ≤ q ∧ q < 60 * b + j + k
            · rw [if_pos c2, if_pos (by omega)]
            · rw [if_neg c2, if_neg (by omega)]
        rw [ee] at M2
        exact M2
      · intro h' hq M
        exact bX4_shift_150 M ⟨fun _ => RIs E rfl M, fun z => absurd (nI_le (Nat.le_refl _) (by omega)) z⟩
    have L1 : ∀ k, k ≤ n → ∀ h', (∀ q < k, hAL h' (o + 61) q = el t (60 * a + i + q)) → MS h' o t g → AWP mX4_shift 2 113 [vR (some o), vI (nI a), vI (nI i), vI (nI b), vI (nI j), vI (nI n), vI (nI k)] [] h' (0, 0) (RI fun x h' => x = (spShift t (nI a) (nI i) (nI b) (nI j) (nI n)).2 ∧ MS h' o (spShift t (nI a) (nI i) (nI b) (nI j) (nI n)).1 g) := by
      refine lo_up ?_ ?_
      · intro k hk hS h' hq M
        refine bX4_shift_113 M ⟨fun z => absurd z (nI_ge hk (by omega)), fun _ => ?_⟩
        rw [pk_mul, nI_add, nI_add, nt_nI (by omega), nt_nI (by omega), nI_add]
        refine ⟨vp_in_nI (by omega) (by omega), vp_in_nI (by omega) (by omega), fun h2 q2 => ?_⟩
        subst q2
        refine hS _ (fun q hq2 => ?_) (M.fr (PE.wl (by decide)))
        rw [hAL_wL]
        by_cases c : q = k
        · rw [if_pos c, c, show 60 * a + i + k = 60 * a + (i + k) by omega, M.a60 ha la (by omega)]
        · rw [if_neg c]
          exact hq q (by omega)
      · intro h' hq M
        refine bX4_shift_113 M ⟨fun _ => L2 0 (by omega) h' hq ?_, fun z => absurd (nI_le (Nat.le_refl _) (by omega)) z⟩
        have : (fun q => if 60 * b + j ≤ q ∧ q < 60 * b + j + 0 then el t (60 * a + i + (q - (60 * b + j))) else el t q) = el t := by
          funext q
          rw [if_neg (by omega)]
        rw [this]
        exact M
    exact L1 0 (by omega) h (fun q hq => absurd hq (Nat.not_lt_zero q)) m
  · rw [le_i, sub _ _ sb hn, nI_toInt hj] at z
    right; right; right; right; omega
theorem any_range {p : Nat → Bool} : ∀ {n : Nat}, (List.range n).any p = true ↔ ∃ i, i < n ∧ p i = true := by
  intro n
  rw [List.any_eq_true]
  constructor
  · rintro ⟨x, hx, hp⟩; exact ⟨x, List.mem_range.mp hx, hp⟩
  · rintro ⟨x, hx, hp⟩; exact ⟨x, List.mem_range.mpr hx, hp⟩
theorem ctX4_wish {h : Hp} {o g : Nat} {t : St} {i q v : Int32} (m : MS h o t g) (W : WPl t) : Ret mX4_wish 1 [vR (some o), vI i, vI q, vI v] h 0 0 (RI fun x h' => x = (spWish t i q v).2 ∧ MS h' o (spWish t i q v).1 g) := by
  have hp := m.b_pm
  have hw := m.b_wm
  have hps := m.b_ps
  refine Ret.go (by decide) rfl rfl RI.ret (bX4_wish_0 m ⟨fun z0 => ?_, fun z0 => ?_⟩)
  · have z0 : ¬ pm t = 0 := fun z => z0 (by rw [z]; rfl)
    have hs := W.2.1 z0
    have e1 : nt (nI (ps t)) = ps t := nt_nI (by omega)
    have h6 := m.b_nc _ hs
    have ht : tones t (ps t) ≤ 6 := Nat.le_trans (cntB_le _ _) h6.2
    rw [e1, bt_m1 (by omega)]
    have B : ∀ z : ¬ (isTn t (ps t) i = true ∧ isPt q = true ∧ bt v 0 99 = true), spWish t i q v = (t, -1) := fun z => by rw [spWish, if_neg z0, if_pos z]
    refine ⟨bt_of hs (by omega), fun z => RIs (B (fun y => z y.1)) rfl m, fun q1 => ⟨fun z => RIs (B (fun y => z y.2.1)) rfl m, fun q2 => ⟨fun q3 => ?_, fun z => RIs (B (fun y => z y.2.2)) rfl m⟩⟩⟩
    have G : ¬ ¬ (isTn t (ps t) i = true ∧ isPt q = true ∧ bt v 0 99 = true) := fun z => z ⟨q1, q2, q3⟩
    obtain ⟨a, ha, rfl⟩ := bt_nI q1
    have ea' : nt (nI a) = a := nt_nI (by omega)
    have L : ∀ k, k ≤ wm t → (∀ j < k, ¬ (nI (wt t j) = nI a ∧ wb t j = q)) → AWP mX4_wish 1 86 [vR (some o), vI (nI a), vI q, vI v, vI (nI k)] [] h (0, 0) (RI fun x h' => x = (spWish t (nI a) q v).2 ∧ MS h' o (spWish t (nI a) q v).1 g) := by
      refine lo_up ?_ ?_
      · intro k hk hS hj
        have ek : nt (nI k) = k := nt_nI (by omega)
        refine bX4_wish_86 m ⟨fun z => absurd z (nI_ge hk (by omega)), fun _ => ?_⟩
        rw [ek]
        have vv := vp_in_nI (n := k) (N := 6) (by omega) (by omega)
        have go : ¬ (nI (wt t k) = nI a ∧ wb t k = q) → AWP mX4_wish 1 86 [vR (some o), vI (nI a), vI q, vI v, vI (nI k + nI 1)] [] h (0, 0) (RI fun x h' => x = (spWish t (nI a) q v).2 ∧ MS h' o (spWish t (nI a) q v).1 g) := by
          intro z
          rw [nI_add]
          refine hS (fun j hj2 => ?_)
          by_cases c : j = k
          · rw [c]; exact z
          · exact hj j (by omega)
        refine ⟨vv, hk, fun z => go (fun y => z y.1), fun z1 => ⟨vv, hk, fun z => go (fun y => z y.2), fun z2 => RIs (y := (t, -1)) ?_ rfl m⟩⟩
        rw [spWish, if_neg z0, if_neg G, if_pos]
        exact any_range.mpr ⟨k, hk, decide_eq_true ⟨z1, z2⟩⟩
      · intro hj
        have N1 : ¬ (List.range (wm t)).any (fun k => decide (nI (wt t k) = nI a ∧ wb t k = q)) = true := by
          intro z
          obtain ⟨k, hk, z⟩ := any_range.mp z
          exact hj k hk (of_decide_eq_true z)
        refine bX4_wish_86 m ⟨fun _ => ⟨fun z => ?_, fun z => RIs (y := (t, -3)) (by rw [spWish, if_neg z0, if_neg G, if_neg N1, if_pos]; rwa [nI_eq (by omega) (by omega)] at z) rfl m⟩, fun z => absurd (nI_le (Nat.le_refl _) (by omega)) z⟩
        have z6 : ¬ wm t = 6 := by rwa [nI_eq (by omega) (by omega)] at z
        have vv := vp_in_nI (n := wm t) (N := 6) (by omega) (by omega)
        rw [nt_nI (by omega)]
        refine ⟨vv, fun h5 q5 => ?_⟩
        subst q5
        rw [hFI_w1, m.f456, nt_nI (by omega)]
        refine ⟨vv, fun h5 q5 => ?_⟩
        subst q5
        rw [hFI_w1, hFI_w1, m.f456, nt_nI (by omega)]
        refine ⟨vv, fun h5 q5 h6 q6 => ?_⟩
        subst q5
        rw [hFI_w1, hFI_w1, hFI_w1, m.f456, nI_add] at q6
        subst q6
        rw [hFI_s]
        refine RIs (y := (uN (uI (uI (uA t 8 (ux (wt t) (wm t) a)) 13 (ux (wb t) (wm t) q)) 14 (ux (wi t) (wm t) v)) 7 (wm t + 1), nI (wm t + 1))) (by rw [spWish, if_neg z0, if_neg G, if_neg N1, if_neg z6, ea']) rfl ?_
        refine m.wPl (((((AG.w rfl).tr (AG.w rfl)).tr (AG.w rfl)).tr (AG.oF rfl))) rfl m.1 (by obtain ⟨b1, b2, b3, b4, b5, b6, b7, b8, b9, b10, b11, b12, b13, b14, b15, b16, b17, b18, b19, b20, b21⟩ := m.2.1; exact ⟨b1, b2, b3, b4, b5, b6, by show wm t + 1 ≤ 6; omega, b8, b9, b10, b11, b12, b13, b14, b15, b16, b17, b18, b19, fun r hr => by have hr : r < wm t + 1 := hr; show ux (wt t) (wm t) a r < 6; unfold ux; split <;> first | omega | exact b20 r (by omega), b21⟩) ?_ (fun r => r)
        obtain ⟨a1, a2, a3, a4, a5⟩ := m.Pl
        refine ⟨by rw [hFI_sn (by decide)]; exact a1, by rw [hFI_sn (by decide)]; exact a2, hFI_s, fun r hr => ?_, fun r hr => ?_⟩
        · simp (disch := decide) only [hAI_sF, hAI_wo]
          exact a4 r hr
        · have hr : r < wm t + 1 := hr
          simp (disch := decide) only [hAI_sF, hAI_wo, hAI_w1]
          show (if r = wm t then nI a else hAI h (o + 38) r) = nI (ux (wt t) (wm t) a r) ∧ (if r = wm t then q else hAI h (o + 39) r) = ux (wb t) (wm t) q r ∧ (if r = wm t then v else hAI h (o + 40) r) = ux (wi t) (wm t) v r
          unfold ux
          by_cases c : r = wm t
          · simp only [if_pos c, and_self]
          · simp only [if_neg c]
            exact a5 r (by omega)
    exact L 0 (by omega) (fun j hj => absurd hj (Nat.not_lt_zero j))
  · have z0 : pm t = 0 := by have z0 : nI (pm t) = nI 0 := z0; rwa [nI_eq (by omega) (by omega)] at z0
    have B : ∀ z : ¬ (bt i 0 5 = true ∧ isPt q = true ∧ bt v 0 99 = true), spWish t i q v = (t, -1) := fun z => by rw [spWish, if_pos z0, if_neg z]
    exact ⟨fun z => RIs (B (fun y => z y.1)) rfl m, fun q1 => ⟨fun z => RIs (B (fun y => z y.2.1)) rfl m, fun q2 => ⟨fun z => RIs (B (fun y => z y.2.2)) rfl m, fun q3 => RIs (y := (t, -4)) (by rw [spWish, if_pos z0, if_pos (by exact ⟨q1, q2, q3⟩)]) rfl m⟩⟩⟩
theorem ctX4_plan {h : Hp} {o g : Nat} {t : St} {s a b n : Int32} (m : MS h o t g) (W : WF t) : Ret mX4_plan 2 [vR (some o), vI s, vI a, vI b, vI n] h 0 0 (RI fun x h' => x = (spPlan t s a b n).2 ∧ MS h' o (spPlan t s a b n).1 g) := by
  have hp := m.b_pm
  have hps := m.b_ps
  have hn := m.b_ns
  have B1 : ∀ z : ¬ (isSh t s = true ∧ isCo t s a = true ∧ (b = -1 ∨ isCo t s b = true) ∧ bt n 1 3 = true ∧ (pm t = 0 ∨ nt s = ps t)), spPlan t s a b n = (t, -1) := fun z => by rw [spPlan, if_pos z]
  refine Ret.go (by decide) rfl rfl RI.ret (bX4_plan_0 m ⟨fun q => RIs (B1 fun z => q z.1) rfl m, fun h1 => ⟨h1, fun q => RIs (B1 fun z => q z.2.1) rfl m, fun h2 => ?_⟩⟩)
  obtain ⟨k, i, hk, hi, hi6, rfl, rfl, e1, e2⟩ := isCoN m h1 h2
  have go31 : (b = -1 ∨ isCo t (nI k) b = true) → AWP mX4_plan 2 31 [vR (some o), vI (nI k), vI (nI i), vI b, vI n, vU] [] h (0, 0) (RI fun x h' => x = (spPlan t (nI k) (nI i) b n).2 ∧ MS h' o (spPlan t (nI k) (nI i) b n).1 g) := by
    intro h3
    refine bX4_plan_31 m ⟨fun q => RIs (B1 fun z => q z.2.2.2.1) rfl m, fun h4 => ?_⟩
    have go61 : (pm t = 0 ∨ k = ps t) → AWP mX4_plan 2 61 [vR (some o), vI (nI k), vI (nI i), vI b, vI n, vI (nI 0)] [] h (0, 0) (RI fun x h' => x = (spPlan t (nI k) (nI i) b n).2 ∧ MS h' o (spPlan t (nI k) (nI i) b n).1 g) := by
      intro h5
      have G : ¬ ¬ (isSh t (nI k) = true ∧ isCo t (nI k) (nI i) = true ∧ (b = -1 ∨ isCo t (nI k) b = true) ∧ bt n 1 3 = true ∧ (pm t = 0 ∨ nt (nI k) = ps t)) := fun z => z ⟨h1, h2, h3, h4, by rw [e1]; exact h5⟩
      have same : ∀ j < pm t, samP t (nI i) b j = true → spPlan t (nI k) (nI i) b n = (t, -1) := fun j hj z => by rw [spPlan, if_neg G, if_pos (any_range.mpr ⟨j, hj, z⟩)]
      have b5 : 0 ≤ b → isCo t (nI k) b = true ∧ ∃ j, j < 6 ∧ b = nI j ∧ nt b = j := by
        intro z
        have hb : isCo t (nI k) b = true := by
          rcases h3 with q | q
          · rw [q] at z; exact absurd z (by decide)
          · exact q
        obtain ⟨_, j, _, _, hj6, _, ej, _, e4⟩ := isCoN m h1 hb
        exact ⟨hb, j, hj6, ej, e4⟩
      have L : ∀ j, j ≤ pm t → (∀ x < j, samP t (nI i) b x = false) → AWP mX4_plan 2 61 [vR (some o), vI (nI k), vI (nI i), vI b, vI n, vI (nI j)] [] h (0, 0) (RI fun x h' => x = (spPlan t (nI k) (nI i) b n).2 ∧ MS h' o (spPlan t (nI k) (nI i) b n).1 g) := by
        refine lo_up ?_ ?_
        · intro j hj hS hx
          have ej : nt (nI j) = j := nt_nI (by omega)
          have vv := vp_in_nI (n := j) (N := 8) (by omega) (by omega)
          have go : samP t (nI i) b j = false → AWP mX4_plan 2 61 [vR (some o), vI (nI k), vI (nI i), vI b, vI n, vI (nI j + nI 1)] [] h (0, 0) (RI fun x h' => x = (spPlan t (nI k) (nI i) b n).2 ∧ MS h' o (spPlan t (nI k) (nI i) b n).1 g) := by
            intro z
            rw [nI_add]
            refine hS (fun x hx2 => ?_)
            by_cases c : x = j
            · rw [c]; exact z
            · exact hx x (by omega)
          have go92 : ¬ (nI (pa t j) = nI i ∧ pb t j = b) → AWP mX4_plan 2 92 [vR (some o), vI (nI k), vI (nI i), vI b, vI n, vI (nI j)] [] h (0, 0) (RI fun x h' => x = (spPlan t (nI k) (nI i) b n).2 ∧ MS h' o (spPlan t (nI k) (nI i) b n).1 g) := by
            intro z
            refine bX4_plan_92 m ?_
            rw [ej]
            have S : samP t (nI i) b j = false ↔ ¬ (0 ≤ b ∧ nI (pa t j) = b ∧ pb t j = nI i) := by
              rw [samP, decide_eq_false_iff_not]
              constructor
              · exact fun y c => y (Or.inr c)
              · rintro y (c | c)
                · exact z c
                · exact y c
            exact ⟨fun y => go (S.mpr fun c => lt0_of.mpr c.1 y), fun y => ⟨vv, hj, fun y2 => go (S.mpr fun c => y2 c.2.1), fun y2 => ⟨vv, hj, fun y3 => go (S.mpr fun c => y3 c.2.2), fun y3 => RIs (same j hj (decide_eq_true (Or.inr ⟨lt0_of.mp y, y2, y3⟩))) rfl m⟩⟩⟩
          refine bX4_plan_61 m ⟨fun z => absurd z (nI_ge hj (by omega)), fun _ => ?_⟩
          rw [ej]
          exact ⟨vv, hj, fun z => go92 fun y => z y.1, fun z1 => ⟨vv, hj, fun z2 => RIs (same j hj (decide_eq_true (Or.inl ⟨z1, z2⟩))) rfl m, fun z2 => go92 fun y => z2 y.2⟩⟩
        · intro hx
          have N1 : ¬ (List.range (pm t)).any (samP t (nI i) b) = true := by
            intro z
            obtain ⟨j, hj, z⟩ := any_range.mp z
            rw [hx j hj] at z
            exact absurd z (by decide)
          have go148 : ¬ (0 ≤ b ∧ has t (nt (nI k)) (nt (nI i)) (nt b) = false) → AWP mX4_plan 2 148 [vR (some o), vI (nI k), vI (nI i), vI b, vI n, vI (nI (pm t))] [] h (0, 0) (RI fun x h' => x = (spPlan t (nI k) (nI i) b n).2 ∧ MS h' o (spPlan t (nI k) (nI i) b n).1 g) := by
            intro N2
            refine bX4_plan_148 m ⟨fun z h2 q2 => ?_, fun z => RIs (y := (t, -3)) (by rw [spPlan, if_neg G, if_neg N1, if_neg N2, if_pos]; rwa [nI_eq (by omega) (by omega)] at z) rfl m⟩
            have z6 : ¬ pm t = 6 := by rwa [nI_eq (by omega) (by omega)] at z
            obtain ⟨c, hc1, hc3, rfl⟩ := bt_k (n := 3) h4 (by decide)
            have ec : nt (nI c) = c := nt_nI (by omega)
            have vv := vp_in_nI (n := pm t) (N := 8) (by omega) (by omega)
            subst q2
            rw [hFI_sn (by decide), m.f451, nt_nI (by omega)]
            refine ⟨vv, fun h5 q5 => ?_⟩
            subst q5
            rw [hFI_w1, hFI_sn (by decide), m.f451, nt_nI (by omega)]
            refine ⟨vv, fun h5 q5 => ?_⟩
            subst q5
            rw [hFI_w1, hFI_w1, hFI_sn (by decide), m.f451, nt_nI (by omega)]
            refine ⟨vv, fun h5 q5 h6 q6 => ?_⟩
            subst q5
            rw [hFI_w1, hFI_w1, hFI_w1, hFI_sn (by decide), m.f451, nI_add] at q6
            subst q6
            rw [hFI_s]
            refine RIs (y := (uN (uN (uA (uI (uA t 6 (ux (pa t) (pm t) i)) 12 (ux (pb t) (pm t) b)) 7 (ux (po t) (pm t) c)) 6 k) 5 (pm t + 1), nI (pm t + 1))) (by rw [spPlan, if_neg G, if_neg N1, if_neg N2, if_neg z6, e1, e2, ec]) rfl ?_
            refine m.wPl ((((((AG.oF rfl).tr (AG.w rfl)).tr (AG.w rfl)).tr (AG.w rfl)).tr (AG.oF rfl))) rfl m.1 (by obtain ⟨b1, b2, b3, b4, b5, b6, b7, b8, b9, b10, b11, b12, b13, b14, b15, b16, b17, b18, b19, b20, b21⟩ := m.2.1; exact ⟨b1, b2, b3, b4, b5, by show pm t + 1 ≤ 6; omega, b7, b8, b9, b10, b11, b12, b13, b14, b15, b16, b17, by show k ≤ 12; omega, fun r hr => by have hr : r < pm t + 1 := hr; show ux (pa t) (pm t) i r < 6 ∧ 1 ≤ ux (po t) (pm t) c r ∧ ux (po t) (pm t) c r ≤ 3; unfold ux; split <;> first | exact ⟨hi6, by omega, by omega⟩ | exact b19 r (by omega), b20, b21⟩) ?_ (fun r => r)
            obtain ⟨a1, a2, a3, a4, a5⟩ := m.Pl
            refine ⟨hFI_s, by rw [hFI_sn (by decide), hFI_w1, hFI_w1, hFI_w1, hFI_s]; rfl, by rw [hFI_sn (by decide), hFI_w1, hFI_w1, hFI_w1, hFI_sn (by decide)]; exact a3, fun r hr => ?_, fun r hr => ?_⟩
            · have hr : r < pm t + 1 := hr
              simp (disch := decide) only [hAI_sF, hAI_wo, hAI_w1]
              show (if r = pm t then nI i else hAI h (o + 35) r) = nI (ux (pa t) (pm t) i r) ∧ (if r = pm t then b else hAI h (o + 36) r) = ux (pb t) (pm t) b r ∧ (if r = pm t then nI c else hAI h (o + 37) r) = nI (ux (po t) (pm t) c r)
              unfold ux
              by_cases c : r = pm t
              · simp only [if_pos c, and_self]
              · simp only [if_neg c]
                exact a4 r (by omega)
            · simp (disch := decide) only [hAI_sF, hAI_wo]
              exact a5 r hr
          refine bX4_plan_61 m ⟨fun _ => ⟨fun z => go148 fun y => lt0_of.mpr y.1 z, fun z => ?_⟩, fun z => absurd (nI_le (Nat.le_refl _) (by omega)) z⟩
          have z := lt0_of.mp z
          obtain ⟨hb, j, hj6, rfl, e4⟩ := b5 z
          rw [e1, e2, e4]
          rw [e1, e2, e4] at go148
          refine ⟨fun y => ?_, fun y => ⟨⟨h1, isCo5 m h1 h2, isCo5 m h1 hb⟩, fun y2 => go148 fun y3 => by rw [y3.2] at y2; exact absurd y2 (by decide), fun y2 => ?_⟩⟩
          · rw [nI_eq (by omega) (by omega)] at y
            subst y
            exact RIs (y := (t, -2)) (by rw [spPlan, if_neg G, if_neg N1, e1, e2, if_pos (by exact ⟨z, W.hd k hk i hi6⟩)]) rfl m
          · exact RIs (y := (t, -2)) (by rw [spPlan, if_neg G, if_neg N1, e1, e2, e4, if_pos (by exact ⟨z, by simpa using y2⟩)]) rfl m
      exact L 0 (by omega) (fun x hx => absurd hx (Nat.not_lt_zero x))
    refine ⟨fun z => go61 (Or.inl ?_), fun z => ⟨fun z2 => go61 (Or.inr ?_), fun z2 => RIs (B1 ?_) rfl m⟩⟩
    · rcases Nat.eq_zero_or_pos (pm t) with c | c
      · exact c
      · exact absurd z (nI_nle c (by omega))
    · rwa [nI_eq (by omega) (by omega)] at z2
    · rintro ⟨_, _, _, _, c | c⟩
      · rw [c] at z; exact z (by decide)
      · rw [e1] at c; exact z2 (by rw [c])
  exact ⟨fun z => go31 (Or.inl z), fun z => ⟨h1, fun q => RIs (B1 (by rintro ⟨_, _, c | c, _⟩; exact z c; exact q c)) rfl m, fun q => go31 (Or.inr q)⟩⟩
