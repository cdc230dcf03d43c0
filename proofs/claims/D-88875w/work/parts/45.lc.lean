theorem ctX4_piecesOf {h : Hp} {o g : Nat} {t : St} {s : Int32} (m : MS h o t g) (hs : isSh t s) : Ret mX4_piecesOf 2 [vR (some o), vI s] h 0 0 (RI fun x h' => x = nI (prsN t (nt s) 6) ∧ h' = h) := by
  have hn := m.b_ns
  obtain ⟨k, hk, rfl⟩ := isShN hs
  have e : nt (nI k) = k := nt_nI (by omega)
  rw [e]
  refine Ret.go (by decide) rfl rfl RI.ret (bX4_piecesOf_0 m ?_)
  have L : ∀ a, a ≤ 6 → ∀ y, AWP mX4_piecesOf 2 4 [vR (some o), vI (nI k), vI (nI (prsN t k a)), vI (nI a), y] [] h (0, 0) (RI fun x h' => x = nI (prsN t k 6) ∧ h' = h) := by
    refine lo_up ?_ ?_
    · intro a ha hS y
      refine bX4_piecesOf_4 m ⟨fun q => absurd q (nI_ge ha (by omega)), fun _ => ?_⟩
      rw [nI_add]
      have := lo_up (n := 6) (S := fun j => a + 1 ≤ j → AWP mX4_piecesOf 2 15 [vR (some o), vI (nI k), vI (nI (prsN t k a + cntB (fun b => decide (a < b) && has t k a b) j)), vI (nI a), vI (nI j)] [] h (0, 0) (RI fun x h' => x = nI (prsN t k 6) ∧ h' = h)) ?_ ?_ (a + 1) (by omega) (by omega)
      · rwa [cntB_0 (a + 1) (fun i hi => by simp [show ¬ a < i by omega])] at this
      · intro j hj hS2 haj
        have hS2 := hS2 (by omega)
        refine bX4_piecesOf_15 m ⟨fun q => absurd q (nI_ge hj (by omega)), fun _ => ⟨⟨hs, bt_of (n := 6) ha (by omega), bt_of (n := 6) hj (by omega)⟩, ?_⟩⟩
        rw [e, nt_nI (by omega), nt_nI (by omega)]
        have : decide (a < j) = true := decide_eq_true haj
        refine ⟨fun q => ?_, fun q => ?_⟩
        · rw [nI_add, nI_add]
          simpa only [cntB, this, Bool.true_and, q, Bool.false_eq_true, if_false, Nat.add_zero] using hS2
        · rw [nI_add, nI_add]
          simpa only [cntB, this, Bool.true_and, q, if_true, Nat.add_assoc] using hS2
      · intro _
        refine bX4_piecesOf_15 m ⟨fun _ => ?_, fun q => absurd (nI_le (Nat.le_refl _) (by omega)) q⟩
        rw [nI_add]
        exact hS _
    · intro y
      exact bX4_piecesOf_4 m ⟨fun _ => RI.i ⟨rfl, rfl⟩, fun q => absurd (nI_le (Nat.le_refl _) (by omega)) q⟩
  exact L 0 (by omega) _
theorem isCo5 {h : Hp} {o g : Nat} {t : St} {s c : Int32} (m : MS h o t g) (hs : isSh t s) (hc : isCo t s c) : bt c 0 5 := by
  obtain ⟨k, hk, rfl⟩ := isShN hs
  have hn := m.b_ns
  have := m.b_nc k hk
  have e : nt (nI k) = k := nt_nI (by omega)
  unfold isCo at hc
  rw [e] at hc
  rw [bt_iff] at hc ⊢
  omega
theorem isCoN {h : Hp} {o g : Nat} {t : St} {s c : Int32} (m : MS h o t g) (hs : isSh t s) (hc : isCo t s c) : ∃ k i, k < ns t ∧ i < nc t k ∧ i < 6 ∧ s = nI k ∧ c = nI i ∧ nt s = k ∧ nt c = i := by
  obtain ⟨k, hk, rfl⟩ := isShN hs
  have hn := m.b_ns
  have := m.b_nc k hk
  have e : nt (nI k) = k := nt_nI (by omega)
  unfold isCo at hc
  rw [e] at hc
  obtain ⟨i, hi, rfl⟩ := bt_nI hc
  exact ⟨k, i, hk, hi, by omega, rfl, rfl, e, nt_nI (by omega)⟩
theorem ctX4_piece {h : Hp} {o g : Nat} {t : St} {s a b w : Int32} (m : MS h o t g) (hd : ∀ k < ns t, ∀ i < 6, has t k i i = false) : Ret mX4_piece 2 [vR (some o), vI s, vI a, vI b, vI w] h 0 0 (RI fun x h' => x = spPiece t s a b w ∧ h' = h) := by
  refine Ret.go (by decide) rfl rfl RI.ret (bX4_piece_0 m ⟨fun e => RI.i ⟨?_, rfl⟩, fun h1 => ⟨h1, fun e => RI.i ⟨?_, rfl⟩, fun h2 => ⟨h1, fun e => RI.i ⟨?_, rfl⟩, fun h3 => ⟨fun h4 => ?_, fun e => RI.i ⟨?_, rfl⟩⟩⟩⟩⟩)
  · simp [spPiece, e]
  · simp [spPiece, e]
  · simp [spPiece, e]
  · have h25 := isCo5 m h1 h2
    have h35 := isCo5 m h1 h3
    obtain ⟨k, i, hk, hi, hi6, rfl, rfl, e1, e2⟩ := isCoN m h1 h2
    obtain ⟨k', j, hk', hj, hj6, e0, rfl, e3, e4⟩ := isCoN m h1 h3
    have hx := ix_lt hk hi6 hj6
    have hn := m.b_ns
    have e5 : nt (nI (ix k i j)) = ix k i j := nt_nI (by omega)
    rw [ix_nI, e1, e2, e4, e5]
    have hv := vp_in_nI (n := ix k i j) (N := 468) (by omega) (by omega)
    refine ⟨fun e => RI.i ⟨?_, rfl⟩, fun e => ⟨⟨h1, h25, h35⟩, fun q => ⟨fun z0 => ⟨fun z1 => ⟨hv, hx, RI.i ⟨?_, rfl⟩⟩, fun z1 => ⟨hv, hx, RI.i ⟨?_, rfl⟩⟩⟩, fun z0 => ⟨hv, hx, RI.i ⟨?_, rfl⟩⟩⟩, fun q => RI.i ⟨?_, rfl⟩⟩⟩
    · have : i = j := by rwa [nI_eq (by omega) (by omega)] at e
      subst this
      rw [spPiece, if_neg (by exact fun q => q ⟨h1, h2, h3, h4⟩), e1, e2, if_pos (hd k hk i hi6)]
    · rw [spPiece, if_neg (by exact fun q => q ⟨h1, h2, h3, h4⟩), e1, e2, e4, if_neg (by simp [q]), if_neg (by exact z0), if_neg (by exact z1)]
    · rw [spPiece, if_neg (by exact fun q => q ⟨h1, h2, h3, h4⟩), e1, e2, e4, if_neg (by simp [q]), if_neg (by exact z0), if_pos (by exact z1)]
    · have q1 : 1 ≤ bo t (ix k i j) := of_decide_eq_true q
      rw [spPiece, if_neg (by exact fun q => q ⟨h1, h2, h3, h4⟩), e1, e2, e4, if_neg (by simp [q]), if_pos (by exact z0), nI_sub q1]
    · rw [spPiece, if_neg (by exact fun q => q ⟨h1, h2, h3, h4⟩), e1, e2, e4, if_pos (by simpa using q)]
  · simp [spPiece, e]
theorem ctX4_of {h : Hp} {o g : Nat} {t : St} {s w : Int32} (m : MS h o t g) (hp : ∀ k < ns t, prsN t k 6 = (PL t k).length) (hl2 : ∀ k < ns t, ∀ c < nc t k, hl t (6 * k + c) = 0 ∨ hl t (6 * k + c) = 1) : Ret mX4_of 3 [vR (some o), vI s, vI w] h 0 0 (RI fun x h' => x = spOf t s w ∧ h' = h) := by
  refine Ret.go (by decide) rfl rfl RI.ret (bX4_of_0 m ⟨fun e => RI.i ⟨?_, rfl⟩, fun h1 => ⟨fun h2 => ?_, fun e => RI.i ⟨?_, rfl⟩⟩⟩)
  · simp [spOf, e]
  · have hn := m.b_ns
    obtain ⟨k, hk, rfl⟩ := isShN h1
    have e1 : nt (nI k) = k := nt_nI (by omega)
    have hc := m.b_nc k hk
    obtain ⟨n, hn31, rfl⟩ := nI_of (x := w) (by rw [lt_i]; rw [le_i] at h2; omega)
    have e2 : nt (nI n) = n := nt_nI hn31
    have g0 : ¬ (¬ isSh t (nI k) = true ∨ nI n < 0) := by
      rintro (q | q)
      · exact q h1
      · exact nI_pos hn31 q
    rw [nI_mod hn31 (by omega), e1]
    refine ⟨fun z => ⟨h1, fun q => ?_, fun q => RI.i ⟨?_, rfl⟩⟩, fun z => ⟨fun z0 => ⟨fun z1 => ⟨fun z2 => RI.i ⟨?_, rfl⟩, fun z2 => ⟨h1, RI.i ⟨?_, rfl⟩⟩⟩, fun z1 => ⟨_, ctX4_piecesOf m h1, ?_⟩⟩, fun z0 => ⟨vp_in_nI (by omega) (by omega), by omega, RI.i ⟨?_, rfl⟩⟩⟩⟩
    · have z : 10 ≤ n := by rwa [nI_leI (by omega) hn31] at z
      have qc : n % 10 < nc t k := by
        unfold isCo at q
        rw [bt_iff, nI_toInt (by omega), e1] at q
        omega
      rw [pk_mul, nI_add]
      have e3 : nt (nI (6 * k + n % 10)) = 6 * k + n % 10 := nt_nI (by omega)
      have hv := vp_in_nI (n := 6 * k + n % 10) (N := 78) (by omega) (by omega)
      have hx : 6 * k + n % 10 < 6 * ns t := by omega
      have b0 : ¬ nI n = 0 := nI_ne0 (by omega) hn31
      have b1 : ¬ nI n = 1 := by rw [show (1 : Int32) = nI 1 from rfl, nI_eq hn31 (by omega)]; omega
      have b2 : ¬ nI n = 2 := by rw [show (2 : Int32) = nI 2 from rfl, nI_eq hn31 (by omega)]; omega
      rw [e3, nI_leI (by omega) hn31, nI_leI (by omega) hn31, nI_leI (by omega) hn31, nI_leI (by omega) hn31]
      refine ⟨fun y2 => ⟨fun y3 => ⟨fun y4 => ⟨fun y5 => RI.i ⟨?_, rfl⟩, fun y5 => ⟨hv, hx, fun q0 => RI.i ⟨?_, rfl⟩, fun q0 => RI.i ⟨?_, rfl⟩⟩⟩, fun y4 => ⟨hv, hx, RI.i ⟨?_, rfl⟩⟩⟩, fun y3 => ⟨hv, hx, RI.i ⟨?_, rfl⟩⟩⟩, fun y2 => ⟨hv, hx, RI.i ⟨?_, rfl⟩⟩⟩
      all_goals rw [spOf, if_neg g0, if_neg b0, if_neg b1, if_neg b2, e1, e2, if_neg (by exact fun z => z qc)]
      · rw [if_neg (by omega), if_neg (by omega), if_neg (by omega), if_neg (by omega)]
      · rw [if_neg (by omega), if_neg (by omega), if_neg (by omega), if_pos (by omega), q0]; rfl
      · rw [if_neg (by omega), if_neg (by omega), if_neg (by omega), if_pos (by omega)]
        rcases hl2 k hk _ qc with z | z
        · exact absurd z q0
        · rw [z]; rfl
      · rw [if_neg (by omega), if_neg (by omega), if_pos (by omega)]
      · rw [if_neg (by omega), if_pos (by omega)]
      · rw [if_pos (by omega)]
    · have z : 10 ≤ n := by rwa [nI_leI (by omega) hn31] at z
      have qc : ¬ n % 10 < nc t k := by
        intro z
        apply q
        unfold isCo
        rw [bt_iff, nI_toInt (by omega), e1]
        omega
      have b0 : ¬ nI n = 0 := nI_ne0 (by omega) hn31
      have b1 : ¬ nI n = 1 := by rw [show (1 : Int32) = nI 1 from rfl, nI_eq hn31 (by omega)]; omega
      have b2 : ¬ nI n = 2 := by rw [show (2 : Int32) = nI 2 from rfl, nI_eq hn31 (by omega)]; omega
      rw [spOf, if_neg g0, if_neg b0, if_neg b1, if_neg b2, e1, e2, if_pos qc]
    · have z : ¬ 10 ≤ n := by rwa [nI_leI (by omega) hn31] at z
      rw [spOf, if_neg g0, if_neg (by exact z0), if_neg (by exact z1), if_neg (by exact z2), e1, e2]
      split
      · rfl
      · rw [if_neg (by omega), if_neg (by omega), if_neg (by omega), if_neg (by omega)]
    · rw [spOf, if_neg g0, if_neg (by exact z0), if_neg (by exact z1), if_pos (by exact z2), e1]
    · rintro x h' ⟨rfl, rfl⟩
      refine ⟨t, g, m, RI.i ⟨?_, rfl⟩⟩
      rw [spOf, if_neg g0, if_neg (by exact z0), if_pos (by exact z1), e1, hp k hk]
    · rw [spOf, if_neg g0, if_pos (by exact z0), e1]
  · rw [spOf, if_pos]
    right
    rw [lt_i]; rw [le_i] at e; omega
