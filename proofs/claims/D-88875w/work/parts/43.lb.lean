theorem isShN {t : St} {s : Int32} (h : isSh t s) : ∃ k, k < ns t ∧ s = nI k := bt_nI h
theorem isMk_iff {s : Int32} : isMk s = true ↔ bt s 0 999 = true ∧ nt s % 10 ≠ 0 := by rw [isMk, Bool.and_eq_true, decide_eq_true_eq]
theorem ctX4_isShape {h : Hp} {o g : Nat} {t : St} {s : Int32} (m : MS h o t g) : Ret mX4_isShape 1 [vR (some o), vI s] h 0 0 (RI fun x h' => x = bI (isSh t s) ∧ h' = h) := by
  have := m.b_ns
  exact Ret.go (by decide) rfl rfl RI.ret (bX4_isShape_0 m (RI.i ⟨bI_c (bt_m1 (by omega)), rfl⟩))
theorem ctX4_isBody {h : Hp} {o g : Nat} {t : St} {s : Int32} (m : MS h o t g) : Ret mX4_isBody 1 [vR (some o), vI s] h 0 0 (RI fun x h' => x = bI (bt s 0 (nb t - 1)) ∧ h' = h) := by
  have := m.b_nb
  exact Ret.go (by decide) rfl rfl RI.ret (bX4_isBody_0 m (RI.i ⟨bI_c (bt_m1 (by omega)), rfl⟩))
theorem ctX4_isEar {h : Hp} {s : Int32} : Ret mX4_isEar 1 [vI s] h 0 0 (RI fun x h' => x = bI (bt s 0 3) ∧ h' = h) := Ret.go (by decide) rfl rfl RI.ret (bX4_isEar_0 (RI.i ⟨rfl, rfl⟩))
theorem ctX4_isShelf {h : Hp} {s : Int32} : Ret mX4_isShelf 1 [vI s] h 0 0 (RI fun x h' => x = bI (bt s 0 5) ∧ h' = h) := Ret.go (by decide) rfl rfl RI.ret (bX4_isShelf_0 (RI.i ⟨rfl, rfl⟩))
theorem ctX4_isCorner {h : Hp} {o g : Nat} {t : St} {s c : Int32} (m : MS h o t g) (hs : isSh t s) : Ret mX4_isCorner 1 [vR (some o), vI s, vI c] h 0 0 (RI fun x h' => x = bI (isCo t s c) ∧ h' = h) := by
  have hn := m.b_ns
  obtain ⟨k, hk, rfl⟩ := isShN hs
  have e : nt (nI k) = k := nt_nI (by omega)
  have := (m.b_nc k hk).2
  refine Ret.go (by decide) rfl rfl RI.ret (bX4_isCorner_0 m ⟨vp_in_nI (by omega) (by omega), by rw [e]; exact hk, RI.i ⟨bI_c ?_, rfl⟩⟩)
  unfold isCo
  rw [e]
  exact bt_m1 (n := nc t k) (by omega)
theorem ix_lt {n s a b : Nat} (hs : s < n) (ha : a < 6) (hb : b < 6) : ix s a b < 36 * n := by unfold ix; omega
theorem ix_nI (s a b : Nat) : nI 36 * nI s + nI 6 * nI a + nI b = nI (ix s a b) := by rw [pk_mul, pk_mul, nI_add, nI_add]; rfl
theorem ctX4_hasPiece {h : Hp} {o g : Nat} {t : St} {s a b : Int32} (m : MS h o t g) (hs : isSh t s ∧ bt a 0 5 ∧ bt b 0 5) : Ret mX4_hasPiece 1 [vR (some o), vI s, vI a, vI b] h 0 0 (RI fun x h' => x = bI (has t (nt s) (nt a) (nt b) = true) ∧ h' = h) := by
  have hn := m.b_ns
  have hb2 := m.b_nb
  obtain ⟨h1, h2, h3⟩ := hs
  obtain ⟨k, hk, rfl⟩ := isShN h1
  obtain ⟨i, hi, rfl⟩ := bt_nI (n := 6) h2
  obtain ⟨j, hj, rfl⟩ := bt_nI (n := 6) h3
  have e1 : nt (nI k) = k := nt_nI (by omega)
  have e2 : nt (nI i) = i := nt_nI (by omega)
  have e3 : nt (nI j) = j := nt_nI (by omega)
  have hx := ix_lt hk hi hj
  have e4 : nt (nI (ix k i j)) = ix k i j := nt_nI (by omega)
  refine Ret.go (by decide) rfl rfl RI.ret (bX4_hasPiece_0 m ?_)
  rw [ix_nI]
  refine ⟨vp_in_nI (by omega) (by omega), by rw [e4]; exact hx, ?_⟩
  rw [e1, e2, e3, e4]
  have e5 := m.b_bo _ hx
  refine ⟨fun e => RI.i ⟨?_, rfl⟩, fun e => RI.i ⟨?_, rfl⟩⟩
  · rw [bI_f]; rfl
    rw [has, decide_eq_true_eq]
    rw [le_i, nI_toInt (by omega)] at e
    simp only [show (0 : Int32).toInt = 0 from rfl] at e
    omega
  · rw [bI_t]; rfl
    rw [has, decide_eq_true_eq]
    rw [le_i, nI_toInt (by omega)] at e
    simp only [show (0 : Int32).toInt = 0 from rfl] at e
    omega
theorem ctX4_tonesOf {h : Hp} {o g : Nat} {t : St} {s : Int32} (m : MS h o t g) (hs : isSh t s) : Ret mX4_tonesOf 0 [vR (some o), vI s] h 0 0 (RI fun x h' => x = nI (tones t (nt s)) ∧ h' = h) := by
  have hn := m.b_ns
  obtain ⟨k, hk, rfl⟩ := isShN hs
  have e : nt (nI k) = k := nt_nI (by omega)
  have h6 := (m.b_nc k hk).2
  rw [e]
  refine Ret.go (by decide) rfl rfl RI.ret (bX4_tonesOf_0 m ?_)
  refine lo_up (n := nc t k) (S := fun i => AWP mX4_tonesOf 0 4 [vR (some o), vI (nI k), vI (nI (cntB (fun c => decide (hl t (6 * k + c) = 0)) i)), vI (nI i)] [] h (0, 0) _) ?_ ?_ 0 (Nat.zero_le _)
  · intro i hi hS
    refine bX4_tonesOf_4 m ⟨vp_in_nI (by omega) (by omega), by rw [e]; exact hk, ?_⟩
    rw [e, pk_mul, nI_add, nt_nI (by omega)]
    refine ⟨fun q => absurd q (nI_ge hi (by omega)), fun _ => ⟨vp_in_nI (by omega) (by omega), by omega, ?_, ?_⟩⟩
    · intro q
      rw [nI_add, nI_add]
      simpa only [cntB, q, decide_true, if_true] using hS
    · intro q
      rw [nI_add, nI_add]
      simpa only [cntB, q, decide_false, Bool.false_eq_true, if_false] using hS
  · refine bX4_tonesOf_4 m ⟨vp_in_nI (by omega) (by omega), by rw [e]; exact hk, ?_⟩
    rw [e]
    exact ⟨fun _ => RI.i ⟨rfl, rfl⟩, fun q => absurd (nI_le (Nat.le_refl _) (by omega)) q⟩
theorem ctX4_isMark {h : Hp} {s : Int32} : Ret mX4_isMark 1 [vI s] h 0 0 (RI fun x h' => x = bI (isMk s) ∧ h' = h) := by
  refine Ret.go (by decide) rfl rfl RI.ret (bX4_isMark_0 ⟨fun e => RI.i ⟨?_, rfl⟩, fun e => ?_⟩)
  · rw [bI_f]; rfl
    exact fun q => e (isMk_iff.mp q).1
  · obtain ⟨k, _, hk, rfl⟩ := bt_k (n := 999) e (by decide)
    have e1 : nt (nI k) = k := nt_nI (by omega)
    rw [nI_mod (by omega) (by omega)]
    refine ⟨fun e2 => RI.i ⟨?_, rfl⟩, fun e2 => RI.i ⟨?_, rfl⟩⟩
    · rw [bI_f]; rfl
      intro q
      have := (isMk_iff.mp q).2
      rw [e1] at this
      exact nI_nle (by omega) (by omega) e2
    · rw [bI_t]; rfl
      refine isMk_iff.mpr ⟨e, ?_⟩
      rw [e1]
      intro q
      rw [q] at e2
      exact e2 (by decide)
def prsN (t : St) (s : Nat) : Nat → Nat
  | 0 => 0
  | a + 1 => prsN t s a + cntB (fun b => decide (a < b) && has t s a b) 6
theorem cntB_le (p : Nat → Bool) : ∀ n, cntB p n ≤ n
  | 0 => Nat.le_refl _
  | n + 1 => by have := cntB_le p n; simp only [cntB]; split <;> omega
theorem cntB_0 {p : Nat → Bool} : ∀ n, (∀ i < n, p i = false) → cntB p n = 0
  | 0, _ => rfl
  | n + 1, q => by rw [cntB, cntB_0 n (fun i h => q i (by omega)), q n (by omega)]; rfl
theorem prsN_le (t : St) (s : Nat) : ∀ a, prsN t s a ≤ 6 * a
  | 0 => Nat.le_refl _
  | a + 1 => by have := prsN_le t s a; have := cntB_le (fun b => decide (a < b) && has t s a b) 6; simp only [prsN]; omega
