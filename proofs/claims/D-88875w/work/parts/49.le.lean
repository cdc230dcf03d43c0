theorem MS.wc {h : Hp} {o g i k j : Nat} {t : St} {v : Int32} (m : MS h o t g) (hk : k = 2 ∧ j = 0 ∨ k = 3 ∧ j = 1 ∨ k = 4 ∧ j = 2 ∨ k = 5 ∧ j = 3) : MS (w1 h (o + k) i v) o (uI t j (ux (t.2.2.1 j) i v)) g := by
  obtain ⟨a1, a2, a3, a4, a5⟩ := m.Sh
  rcases hk with ⟨rfl, rfl⟩ | ⟨rfl, rfl⟩ | ⟨rfl, rfl⟩ | ⟨rfl, rfl⟩
  all_goals
    refine m.wSh (AG.w rfl) rfl m.1 (by obtain ⟨b1, b2, b3, b4, b5, b6, b7, b8, b9, b10, b11, b12, b13, b14, b15, b16, b17, b18, b19, b20, b21⟩ := m.2.1; exact ⟨b1, b2, b3, b4, b5, b6, b7, b8, b9, b10, b11, b12, b13, b14, b15, b16, b17, b18, b19, b20, b21⟩) ⟨a1, fun j hj => ?_, fun j hj => ?_, fun j hj => ?_, fun j hj => ?_⟩ (fun r => r)
    · rw [hAI_wo (by decide)]; exact a2 j hj
    · simp (disch := decide) only [hAI_wo, hAI_w1]
      obtain ⟨c1, c2, c3, c4⟩ := a3 j hj
      rw [c1, c2, c3, c4]
      exact ⟨rfl, rfl, rfl, rfl⟩
    · simp (disch := decide) only [hAI_wo]; exact a4 j hj
    · simp (disch := decide) only [hAI_wo]; exact a5 j hj
theorem ctX4_set {h : Hp} {o g f p : Nat} {t : St} {v c : Int32} (m : MS h o t g) (hf : f ≤ 5) (h6 : f = 3 ∨ f = 4 → p < 36 * ns t ∧ bo t p ≠ 0 ∧ bo t (ix (p / 36) (p % 6) (p / 6 % 6)) = bo t p) (hq : f ≠ 3 → f ≠ 4 → p < 6 * ns t) (h2 : f = 2 → v = 0 ∨ v = 1) : Ret mX4_set 3 [vR (some o), vI (nI f), vI (nI p), vI v, vI c] h 0 0 (RV fun h' => MS h' o (setA t f p v c) g) := by
  have hn := m.b_ns
  refine Ret.go (by decide) rfl rfl RV.ret (bX4_set_0 m ⟨fun e => ?_, fun e => ?_, fun e => ?_, fun e => ?_, fun e => ?_, fun e => ?_⟩)
  · rw [nI_eq (by omega) (by omega)] at e
    have hp := hq (by omega) (by omega)
    rw [nt_nI (by omega)]
    refine ⟨vp_in_nI (by omega) (by omega), fun h1 q => RV.i ?_⟩
    subst q
    rw [setA, if_pos e]
    exact m.wc (by decide)
  · rw [nI_eq (by omega) (by omega)] at e
    have hp := hq (by omega) (by omega)
    rw [nt_nI (by omega)]
    refine ⟨vp_in_nI (by omega) (by omega), fun h1 q => RV.i ?_⟩
    subst q
    rw [setA, if_neg (by omega), if_pos e]
    exact m.wc (by decide)
  · rw [nI_eq (by omega) (by omega)] at e
    have hp := hq (by omega) (by omega)
    rw [nt_nI (by omega)]
    refine ⟨fun z => ⟨vp_in_nI (by omega) (by omega), fun h1 q => RV.i ?_⟩, fun z => ⟨vp_in_nI (by omega) (by omega), fun h1 q => RV.i ?_⟩⟩
    · subst q
      rw [setA, if_neg (by omega), if_neg (by omega), if_pos e]
      have : v = 0 := (h2 e).resolve_right z
      rw [this]
      exact m.wc (by decide)
    · subst q
      rw [setA, if_neg (by omega), if_neg (by omega), if_pos e]
      have : v = 1 := z
      rw [this]
      exact m.wc (by decide)
  · rw [nI_eq (by omega) (by omega)] at e
    obtain ⟨p1, p2, p3⟩ := h6 (Or.inl e)
    rw [nt_nI (by omega)]
    refine ⟨vp_in_nI (by omega) (by omega), p1, _, ctX4_setStiff m p1 p2 p3, fun h1 M => ⟨_, _, M, RV.i ?_⟩⟩
    rw [setA, if_neg (by omega), if_neg (by omega), if_neg (by omega), if_pos e]
    exact M
  · rw [nI_eq (by omega) (by omega)] at e
    obtain ⟨p1, p2, p3⟩ := h6 (Or.inr e)
    refine ⟨_, ctX4_setStiff m p1 p2 p3, fun h1 M => ⟨_, _, M, RV.i ?_⟩⟩
    rw [setA, if_neg (by omega), if_neg (by omega), if_neg (by omega), if_neg (by omega), if_pos e]
    exact M
  · simp only [nI_eq (show f < 2 ^ 31 by omega) (show 0 < 2 ^ 31 by omega), nI_eq (show f < 2 ^ 31 by omega) (show 1 < 2 ^ 31 by omega), nI_eq (show f < 2 ^ 31 by omega) (show 2 < 2 ^ 31 by omega), nI_eq (show f < 2 ^ 31 by omega) (show 3 < 2 ^ 31 by omega), nI_eq (show f < 2 ^ 31 by omega) (show 4 < 2 ^ 31 by omega)] at e
    have hp := hq (by omega) (by omega)
    rw [nt_nI (by omega)]
    refine ⟨vp_in_nI (by omega) (by omega), fun h1 q => RV.i ?_⟩
    subst q
    rw [setA, if_neg (by omega), if_neg (by omega), if_neg (by omega), if_neg (by omega), if_neg (by omega)]
    exact m.wc (by decide)
