/-! a new shape: the heap with the shape counted already -/
def GS (h : Hp) (o : Nat) (t : St) (g : Nat) : Prop := MS (sFI h 401 o (nI (ns t))) o t g
theorem ctX4_clear {h : Hp} {o s : Nat} (m : MO h o) (hs : s ≤ 12) : Ret mX4_clear 0 [vR (some o), vI (nI s)] h 0 0 (RV fun h' => MO h' o ∧ FR h h' o [] [1, 2, 3, 4, 5, 6, 7, 8] [] ∧ (∀ j, hAI h' (o + 1) j = if j = s then nI 0 else hAI h (o + 1) j) ∧ (∀ k, 2 ≤ k → k ≤ 5 → ∀ j, hAI h' (o + k) j = if 6 * s ≤ j ∧ j < 6 * s + 6 then nI 0 else hAI h (o + k) j) ∧ ∀ k, 6 ≤ k → k ≤ 8 → ∀ j, hAI h' (o + k) j = if 36 * s ≤ j ∧ j < 36 * s + 36 then nI 0 else hAI h (o + k) j) := by
  refine Ret.go (by decide) rfl rfl RV.ret (bX4_clear_0 m ⟨vp_in_nI (by omega) (by omega), fun h1 q1 => ?_⟩)
  rw [nt_nI (by omega)] at q1
  have L2 : ∀ d, d ≤ 36 → ∀ h', MO h' o → FR h h' o [] [1, 2, 3, 4, 5, 6, 7, 8] [] → (∀ j, hAI h' (o + 1) j = if j = s then nI 0 else hAI h (o + 1) j) → (∀ k, 2 ≤ k → k ≤ 5 → ∀ j, hAI h' (o + k) j = if 6 * s ≤ j ∧ j < 6 * s + 6 then nI 0 else hAI h (o + k) j) → (∀ k, 6 ≤ k → k ≤ 8 → ∀ j, hAI h' (o + k) j = if 36 * s ≤ j ∧ j < 36 * s + d then nI 0 else hAI h (o + k) j) → AWP mX4_clear 0 74 [vR (some o), vI (nI s), vI (nI (36 * s + d))] [] h' (0, 0) (RV fun h' => MO h' o ∧ FR h h' o [] [1, 2, 3, 4, 5, 6, 7, 8] [] ∧ (∀ j, hAI h' (o + 1) j = if j = s then nI 0 else hAI h (o + 1) j) ∧ (∀ k, 2 ≤ k → k ≤ 5 → ∀ j, hAI h' (o + k) j = if 6 * s ≤ j ∧ j < 6 * s + 6 then nI 0 else hAI h (o + k) j) ∧ ∀ k, 6 ≤ k → k ≤ 8 → ∀ j, hAI h' (o + k) j = if 36 * s ≤ j ∧ j < 36 * s + 36 then nI 0 else hAI h (o + k) j) := by
    refine lo_up ?_ ?_
    · intro d hd hS h' M F R1 R2 R3
      refine bX4_clear_74 M ?_
      rw [pk_mul, nt_nI (by omega)]
      simp only [nI_add]
      rw [nI_leI (by omega) (by omega)]
      have vx := vp_in_nI (n := 36 * s + d) (N := 468) (by omega) (by omega)
      refine ⟨fun z => by omega, fun _ => ⟨vx, fun h2 q2 => ⟨vx, fun h3 q3 => ⟨vx, fun h4 q4 => ?_⟩⟩⟩⟩
      have F4 : FR h' h4 o [] [6, 7, 8] [] := by rw [q4, q3, q2]; exact ((FR.w rfl).tr (FR.w rfl)).tr (FR.w rfl)
      refine hS h4 (by rw [q4, q3, q2]; exact M) (F.tr (F4.mono rfl rfl rfl)) (fun j => by rw [F4.2.1 1 rfl]; exact R1 j) (fun k k1 k2 j => ?_) (fun k k1 k2 j => ?_)
      · have : [6, 7, 8].contains k = false := by simp; omega
        rw [F4.2.1 k this]; exact R2 k k1 k2 j
      · have key : hAI h4 (o + k) j = if j = 36 * s + d then nI 0 else hAI h' (o + k) j := by
          have ck : k = 6 ∨ k = 7 ∨ k = 8 := by omega
          rw [q4, q3, q2]
          rcases ck with rfl | rfl | rfl <;> simp (disch := decide) only [hAI_wo, hAI_w1]
        rw [key, R3 k k1 k2 j]
        by_cases c : j = 36 * s + d
        · rw [if_pos c, if_pos (by omega)]
        · rw [if_neg c]
          by_cases c2 : 36 * s ≤ j ∧ j < 36 * s + d
          · rw [if_pos c2, if_pos (by omega)]
          · rw [if_neg c2, if_neg (by omega)]
    · intro h' M F R1 R2 R3
      refine bX4_clear_74 M ?_
      rw [pk_mul, nI_add]
      exact ⟨fun _ => RV.i ⟨M, F, R1, R2, R3⟩, fun z => absurd (nI_le (Nat.le_refl _) (by omega)) z⟩
  have L1 : ∀ d, d ≤ 6 → ∀ h', MO h' o → FR h h' o [] [1, 2, 3, 4, 5, 6, 7, 8] [] → (∀ j, hAI h' (o + 1) j = if j = s then nI 0 else hAI h (o + 1) j) → (∀ k, 2 ≤ k → k ≤ 5 → ∀ j, hAI h' (o + k) j = if 6 * s ≤ j ∧ j < 6 * s + d then nI 0 else hAI h (o + k) j) → (∀ k, 6 ≤ k → k ≤ 8 → hAI h' (o + k) = hAI h (o + k)) → AWP mX4_clear 0 9 [vR (some o), vI (nI s), vI (nI d)] [] h' (0, 0) (RV fun h' => MO h' o ∧ FR h h' o [] [1, 2, 3, 4, 5, 6, 7, 8] [] ∧ (∀ j, hAI h' (o + 1) j = if j = s then nI 0 else hAI h (o + 1) j) ∧ (∀ k, 2 ≤ k → k ≤ 5 → ∀ j, hAI h' (o + k) j = if 6 * s ≤ j ∧ j < 6 * s + 6 then nI 0 else hAI h (o + k) j) ∧ ∀ k, 6 ≤ k → k ≤ 8 → ∀ j, hAI h' (o + k) j = if 36 * s ≤ j ∧ j < 36 * s + 36 then nI 0 else hAI h (o + k) j) := by
    refine lo_up ?_ ?_
    · intro d hd hS h' M F R1 R2 R3
      refine bX4_clear_9 M ?_
      simp only [pk_mul, nI_add]
      rw [nt_nI (by omega)]
      have vx := vp_in_nI (n := 6 * s + d) (N := 78) (by omega) (by omega)
      refine ⟨fun z => absurd z (nI_ge hd (by omega)), fun _ => ⟨vx, fun h2 q2 => ⟨vx, fun h3 q3 => ⟨vx, fun h4 q4 => ⟨vx, fun h5 q5 => ?_⟩⟩⟩⟩⟩
      have e0 : vp_nar .boolean (nI 0) = nI 0 := rfl
      rw [e0] at q5
      have F5 : FR h' h5 o [] [2, 3, 4, 5] [] := by rw [q5, q4, q3, q2]; exact (((FR.w rfl).tr (FR.w rfl)).tr (FR.w rfl)).tr (FR.w rfl)
      refine hS h5 (by rw [q5, q4, q3, q2]; exact M) (F.tr (F5.mono rfl rfl rfl)) (fun j => by rw [F5.2.1 1 rfl]; exact R1 j) (fun k k1 k2 j => ?_) (fun k k1 k2 => ?_)
      · have key : hAI h5 (o + k) j = if j = 6 * s + d then nI 0 else hAI h' (o + k) j := by
          have ck : k = 2 ∨ k = 3 ∨ k = 4 ∨ k = 5 := by omega
          rw [q5, q4, q3, q2]
          rcases ck with rfl | rfl | rfl | rfl <;> simp (disch := decide) only [hAI_wo, hAI_w1]
        rw [key, R2 k k1 k2 j]
        by_cases c : j = 6 * s + d
        · rw [if_pos c, if_pos (by omega)]
        · rw [if_neg c]
          by_cases c2 : 6 * s ≤ j ∧ j < 6 * s + d
          · rw [if_pos c2, if_pos (by omega)]
          · rw [if_neg c2, if_neg (by omega)]
      · have : [2, 3, 4, 5].contains k = false := by simp; omega
        rw [F5.2.1 k this]; exact R3 k k1 k2
    · intro h' M F R1 R2 R3
      refine bX4_clear_9 M ⟨fun _ => ?_, fun z => absurd (by decide) z⟩
      rw [pk_mul]
      refine L2 0 (by omega) h' M F R1 R2 (fun k k1 k2 j => ?_)
      rw [R3 k k1 k2, if_neg (by omega)]
  have F1 : FR h h1 o [] [1] [] := by rw [q1]; exact FR.w rfl
  refine L1 0 (by omega) h1 (by rw [q1]; exact m) (F1.mono rfl rfl rfl) (fun j => by rw [q1, hAI_w1]) (fun k k1 k2 j => ?_) (fun k k1 k2 => ?_)
  · have : [1].contains k = false := by simp; omega
    rw [F1.2.1 k this, if_neg (by omega)]
  · have : [1].contains k = false := by simp; omega
    rw [F1.2.1 k this]
theorem ctX4_bear {h : Hp} {o g s a b : Nat} {t : St} (m : GS h o t g) (hs : s < ns t) (ha : a < 6) (hb : b < 6) (hn : nb t < 200) : Ret mX4_bear 2 [vR (some o), vI (nI s), vI (nI a), vI (nI b)] h 0 0 (RV fun h' => GS h' o (bear t s (a, b, sf t (ix s a b), ck t (ix s a b))) g ∧ hFI h' 401 o = hFI h 401 o) := by
  have hns : ns t ≤ 12 := m.b_ns
  have hx := ix_lt hs ha hb
  have e2 : hFI h 412 o = nI (nb t) := by have := m.f412; rwa [hFI_sn (by decide)] at this
  have vn := vp_in_nI (n := nb t) (N := 200) (by omega) (by omega)
  have vx := vp_in_nI (n := ix s a b) (N := 468) (by omega) (by omega)
  have e6 : hAI h (o + 6) (ix s a b) = sf t (ix s a b) := m.a6 hx
  have e7 : hAI h (o + 7) (ix s a b) = ck t (ix s a b) := m.a7 hx
  refine Ret.go (by decide) rfl rfl RV.ret (bX4_bear_0 m.1 ?_)
  rw [ix_nI, e2, nt_nI (show nb t < 2 ^ 31 by omega), nt_nI (show ix s a b < 2 ^ 31 by omega), nI_add]
  refine ⟨vn, fun h1 q1 => ?_⟩
  rw [show hFI h1 412 o = nI (nb t) by rw [q1]; exact e2, nt_nI (by omega)]
  refine ⟨vn, fun h2 q2 => ⟨vx, vx, ?_⟩⟩
  have c2 : hFI h2 412 o = nI (nb t) := by rw [q2, q1]; exact e2
  have c6 : hAI h2 (o + 6) (ix s a b) = sf t (ix s a b) := by rw [q2, q1, hAI_wo (by decide), hAI_wo (by decide)]; exact e6
  have c7 : hAI h2 (o + 7) (ix s a b) = ck t (ix s a b) := by rw [q2, q1, hAI_wo (by decide), hAI_wo (by decide)]; exact e7
  rw [c2, c6, c7]
  have mo2 : MO h2 o := by rw [q2, q1]; exact m.1
  have m2 : GS h2 o t g := by
    rw [q2, q1]
    refine m.wBo (((AG.w rfl).tr (AG.w rfl))) rfl m.1 m.2.1 ⟨m.Bo.1, fun r hr => ?_⟩ (fun r => r)
    have := m.Bo.2 r hr
    have e11 : hAI (sFI (w1 (w1 h (o + 11) (nb t) (nI 1)) (o + 12) (nb t) (nI (ix s a b + 1))) 401 o (nI (ns t))) (o + 11) r = if r = nb t then nI 1 else hAI h (o + 11) r := by rw [hAI_sF, hAI_wo (by decide), hAI_w1]
    have e12 : hAI (sFI (w1 (w1 h (o + 11) (nb t) (nI 1)) (o + 12) (nb t) (nI (ix s a b + 1))) 401 o (nI (ns t))) (o + 12) r = if r = nb t then nI (ix s a b + 1) else hAI h (o + 12) r := by rw [hAI_sF, hAI_w1, hAI_wo (by decide)]
    show hAI (sFI (w1 (w1 h (o + 11) (nb t) (nI 1)) (o + 12) (nb t) (nI (ix s a b + 1))) 401 o (nI (ns t))) (o + 11) r = _ ∧ hAI (sFI (w1 (w1 h (o + 11) (nb t) (nI 1)) (o + 12) (nb t) (nI (ix s a b + 1))) 401 o (nI (ns t))) (o + 12) r = _
    rw [e11, e12, if_neg (by omega), if_neg (by omega)]
    exact this
  refine ⟨_, ctX4_setPiece mo2 (by omega) ha hb, ?_⟩
  intro h4 q4
  rw [nI_add] at q4
  have m4 := m2.w33 (s := s) (a := a) (b := b) (n := nb t + 1) (y := sf t (ix s a b)) (z := ck t (ix s a b)) hs ha hb (by omega)
  have f4 : hFI h4 412 o = nI (nb t) := by rw [q4]; exact c2
  refine ⟨by rw [q4]; exact mo2, fun h7 q7 => ?_⟩
  rw [f4, nI_add] at q7
  refine RV.i ⟨?_, ?_⟩
  · have key : sFI h7 401 o (nI (ns t)) = sFI (sFI (w3 (w3 h2 o (ix s a b) (nI (nb t + 1)) (sf t (ix s a b)) (ck t (ix s a b))) o (ix s b a) (nI (nb t + 1)) (sf t (ix s a b)) (ck t (ix s a b))) 412 o (nI (nb t + 1))) 401 o (nI (ns t)) := by rw [q7, q4]
    show MS (sFI h7 401 o (nI (ns t))) o (bear t s (a, b, sf t (ix s a b), ck t (ix s a b))) g
    rw [key]
    refine m4.wBo (h' := sFI (sFI (w3 (w3 h2 o (ix s a b) (nI (nb t + 1)) (sf t (ix s a b)) (ck t (ix s a b))) o (ix s b a) (nI (nb t + 1)) (sf t (ix s a b)) (ck t (ix s a b))) 412 o (nI (nb t + 1))) 401 o (nI (ns t))) ⟨fun f hf => ?_, fun k hk => rfl⟩ rfl mo2 (by obtain ⟨b1, b2, b3, b4, b5, b6, b7, b8, b9, b10, b11, b12, b13, b14, b15, b16, b17, b18, b19, b20, b21⟩ := m4.2.1; exact ⟨b1, b2, by show nb t + 1 ≤ 200; omega, b4, b5, b6, b7, b8, b9, b10, b11, b12, b13, b14, b15, fun r hr => by have hr : r < nb t + 1 := hr; show ux (bk t) (nb t) 1 r ≤ 5 ∧ ux (li t) (nb t) (ix s a b + 1) r ≤ 36 * ns t; unfold ux; split <;> first | exact b16 r (by show r < nb t; omega) | exact ⟨by omega, by omega⟩, b17, b18, b19, b20, b21⟩) ⟨?_, fun r hr => ?_⟩ (fun r => r)
    · by_cases c : f = 401
      · subst c; rw [hFI_s]; show nI (ns t) = hFI (sFI h2 401 o (nI (ns t))) 401 o; exact hFI_s.symm
      · rw [hFI_sn c]
        have cc : f ≠ 412 := by rintro rfl; exact absurd hf (by decide)
        rw [hFI_sn cc]
        exact (hFI_sn c).symm
    · rw [hFI_sn (by decide)]; exact hFI_s
    · have hr : r < nb t + 1 := hr
      have e11 : hAI (sFI (sFI (w3 (w3 h2 o (ix s a b) (nI (nb t + 1)) (sf t (ix s a b)) (ck t (ix s a b))) o (ix s b a) (nI (nb t + 1)) (sf t (ix s a b)) (ck t (ix s a b))) 412 o (nI (nb t + 1))) 401 o (nI (ns t))) (o + 11) r = if r = nb t then nI 1 else hAI h (o + 11) r := by
        rw [hAI_sF, hAI_sF, hA_w3 (by decide) (by decide) (by decide), hA_w3 (by decide) (by decide) (by decide), q2, q1, hAI_wo (by decide), hAI_w1]
      have e12 : hAI (sFI (sFI (w3 (w3 h2 o (ix s a b) (nI (nb t + 1)) (sf t (ix s a b)) (ck t (ix s a b))) o (ix s b a) (nI (nb t + 1)) (sf t (ix s a b)) (ck t (ix s a b))) 412 o (nI (nb t + 1))) 401 o (nI (ns t))) (o + 12) r = if r = nb t then nI (ix s a b + 1) else hAI h (o + 12) r := by
        rw [hAI_sF, hAI_sF, hA_w3 (by decide) (by decide) (by decide), hA_w3 (by decide) (by decide) (by decide), q2, q1, hAI_w1, hAI_wo (by decide)]
      rw [e11, e12]
      show _ = nI (ux (bk t) (nb t) 1 r) ∧ _ = nI (ux (li t) (nb t) (ix s a b + 1) r)
      unfold ux
      by_cases c : r = nb t
      · simp only [if_pos c, and_self]
      · simp only [if_neg c]
        exact m.Bo.2 r (by omega)
  · rw [q7, hFI_sn (by decide), q4]
    show hFI h2 401 o = _
    rw [q2, q1]
    rfl
/-! corners copied -/
def cp1 {α : Type} (f : Nat → α) (s j b c : Nat) : Nat → α := fun x => if 6 * j + b ≤ x ∧ x < 6 * j + b + c then f (6 * s + (x - (6 * j + b))) else f x
def cpC (t : St) (s j b c : Nat) : St := uI (uI (uI (uI t 0 (cp1 (hv t) s j b c)) 1 (cp1 (pd t) s j b c)) 2 (cp1 (wg t) s j b c)) 3 (cp1 (hl t) s j b c)
theorem cp1_s {α : Type} {f : Nat → α} {s j b c x : Nat} : cp1 f s j b (c + 1) x = if x = 6 * j + b + c then f (6 * s + c) else cp1 f s j b c x := by
  unfold cp1
  by_cases q : x = 6 * j + b + c
  · rw [if_pos q, if_pos (by omega), q, show 6 * j + b + c - (6 * j + b) = c by omega]
  · rw [if_neg q]
    by_cases q2 : 6 * j + b ≤ x ∧ x < 6 * j + b + c
    · rw [if_pos q2, if_pos (by omega)]
    · rw [if_neg q2, if_neg (by omega)]
theorem ctX4_copyCorners {h : Hp} {o g s j b : Nat} {t : St} (m : GS h o t g) (hs : s < ns t) (hj : j < ns t) (hsj : s ≠ j) (hb : b + nc t s ≤ 6) (hl2 : ∀ c < nc t s, hl t (6 * s + c) = 0 ∨ hl t (6 * s + c) = 1) : Ret mX4_copyCorners 0 [vR (some o), vI (nI s), vI (nI j), vI (nI b)] h 0 0 (RV fun h' => GS h' o (cpC t s j b (nc t s)) g ∧ hFI h' 401 o = hFI h 401 o) := by
  have hns : ns t ≤ 12 := m.b_ns
  refine Ret.go (by decide) rfl rfl RV.ret (bX4_copyCorners_0 m.1 ?_)
  have L : ∀ c, c ≤ nc t s → ∀ h' y5 y6, GS h' o (cpC t s j b c) g → hFI h' 401 o = hFI h 401 o → AWP mX4_copyCorners 0 3 [vR (some o), vI (nI s), vI (nI j), vI (nI b), vI (nI c), y5, y6] [] h' (0, 0) (RV fun h' => GS h' o (cpC t s j b (nc t s)) g ∧ hFI h' 401 o = hFI h 401 o) := by
    refine lo_up ?_ ?_
    · intro c hc hS h' y5 y6 M e1
      have en : hAI h' (o + 1) s = nI (nc t s) := M.a1 hs
      have out : ∀ {α : Type} {f : Nat → α}, cp1 f s j b c (6 * s + c) = f (6 * s + c) := by
        intro α f
        unfold cp1
        rw [if_neg (by omega)]
      have r2 : hAI h' (o + 2) (6 * s + c) = hv t (6 * s + c) := (M.a2 (show 6 * s + c < 6 * ns t by omega)).trans out
      have r3 : hAI h' (o + 3) (6 * s + c) = pd t (6 * s + c) := (M.a3 (show 6 * s + c < 6 * ns t by omega)).trans out
      have r4 : hAI h' (o + 4) (6 * s + c) = wg t (6 * s + c) := (M.a4 (show 6 * s + c < 6 * ns t by omega)).trans out
      have r5 : hAI h' (o + 5) (6 * s + c) = hl t (6 * s + c) := (M.a5 (show 6 * s + c < 6 * ns t by omega)).trans out
      refine bX4_copyCorners_3 M.1 ?_
      simp only [pk_mul, nI_add]
      rw [nt_nI (show s < 2 ^ 31 by omega), nt_nI (show 6 * s + c < 2 ^ 31 by omega), nt_nI (show 6 * j + b + c < 2 ^ 31 by omega), en, r2]
      have v1 := vp_in_nI (n := 6 * s + c) (N := 78) (by omega) (by omega)
      have v2 := vp_in_nI (n := 6 * j + b + c) (N := 78) (by omega) (by omega)
      refine ⟨vp_in_nI (by omega) (by omega), fun z => absurd z (nI_ge hc (by omega)), fun _ => ⟨v1, v2, fun h2 q2 => ⟨v1, v2, fun h3 q3 => ⟨v1, v2, fun h4 q4 => ⟨v1, v2, fun h5 q5 => ?_⟩⟩⟩⟩⟩
      have q3 : h3 = w1 h2 (o + 3) (6 * j + b + c) (pd t (6 * s + c)) := by rw [q3, show hAI h2 (o + 3) (6 * s + c) = pd t (6 * s + c) by rw [q2, hAI_wo (by decide)]; exact r3]
      have q4 : h4 = w1 h3 (o + 4) (6 * j + b + c) (wg t (6 * s + c)) := by rw [q4, show hAI h3 (o + 4) (6 * s + c) = wg t (6 * s + c) by rw [q3, hAI_wo (by decide), q2, hAI_wo (by decide)]; exact r4]
      have eb : vp_nar .boolean (hl t (6 * s + c)) = hl t (6 * s + c) := by
        rcases hl2 c hc with z | z <;> rw [z] <;> rfl
      have q5 : h5 = w1 h4 (o + 5) (6 * j + b + c) (hl t (6 * s + c)) := by rw [q5, show hAI h4 (o + 5) (6 * s + c) = hl t (6 * s + c) by rw [q4, hAI_wo (by decide), q3, hAI_wo (by decide), q2, hAI_wo (by decide)]; exact r5, eb]
      refine hS h5 _ _ ?_ (by rw [q5, q4, q3, q2]; exact e1)
      rw [q5, q4, q3, q2]
      obtain ⟨a1, a2, a3, a4, a5⟩ := M.Sh
      refine M.wSh (((((AG.w rfl).tr (AG.w rfl)).tr (AG.w rfl)).tr (AG.w rfl))) rfl M.1 M.2.1 ⟨hFI_s, fun x hx => ?_, fun x hx => ?_, fun x hx => ?_, fun x hx => ?_⟩ (fun r => r)
      · show hAI (w1 (w1 (w1 (w1 h' (o + 2) (6 * j + b + c) (hv t (6 * s + c))) (o + 3) (6 * j + b + c) (pd t (6 * s + c))) (o + 4) (6 * j + b + c) (wg t (6 * s + c))) (o + 5) (6 * j + b + c) (hl t (6 * s + c))) (o + 1) x = _
        simp (disch := decide) only [hAI_wo]
        exact a2 x hx
      · show hAI (w1 (w1 (w1 (w1 h' (o + 2) (6 * j + b + c) (hv t (6 * s + c))) (o + 3) (6 * j + b + c) (pd t (6 * s + c))) (o + 4) (6 * j + b + c) (wg t (6 * s + c))) (o + 5) (6 * j + b + c) (hl t (6 * s + c))) (o + 2) x = cp1 (hv t) s j b (c + 1) x ∧ hAI (w1 (w1 (w1 (w1 h' (o + 2) (6 * j + b + c) (hv t (6 * s + c))) (o + 3) (6 * j + b + c) (pd t (6 * s + c))) (o + 4) (6 * j + b + c) (wg t (6 * s + c))) (o + 5) (6 * j + b + c) (hl t (6 * s + c))) (o + 3) x = cp1 (pd t) s j b (c + 1) x ∧ hAI (w1 (w1 (w1 (w1 h' (o + 2) (6 * j + b + c) (hv t (6 * s + c))) (o + 3) (6 * j + b + c) (pd t (6 * s + c))) (o + 4) (6 * j + b + c) (wg t (6 * s + c))) (o + 5) (6 * j + b + c) (hl t (6 * s + c))) (o + 4) x = cp1 (wg t) s j b (c + 1) x ∧ hAI (w1 (w1 (w1 (w1 h' (o + 2) (6 * j + b + c) (hv t (6 * s + c))) (o + 3) (6 * j + b + c) (pd t (6 * s + c))) (o + 4) (6 * j + b + c) (wg t (6 * s + c))) (o + 5) (6 * j + b + c) (hl t (6 * s + c))) (o + 5) x = cp1 (hl t) s j b (c + 1) x
        simp (disch := decide) only [hAI_wo, hAI_w1]
        rw [cp1_s, cp1_s, cp1_s, cp1_s]
        obtain ⟨f1, f2, f3, f4⟩ := a3 x hx
        have f1 : hAI h' (o + 2) x = cp1 (hv t) s j b c x := f1
        have f2 : hAI h' (o + 3) x = cp1 (pd t) s j b c x := f2
        have f3 : hAI h' (o + 4) x = cp1 (wg t) s j b c x := f3
        have f4 : hAI h' (o + 5) x = cp1 (hl t) s j b c x := f4
        rw [f1, f2, f3, f4]
        exact ⟨rfl, rfl, rfl, rfl⟩
      · show hAI (w1 (w1 (w1 (w1 h' (o + 2) (6 * j + b + c) (hv t (6 * s + c))) (o + 3) (6 * j + b + c) (pd t (6 * s + c))) (o + 4) (6 * j + b + c) (wg t (6 * s + c))) (o + 5) (6 * j + b + c) (hl t (6 * s + c))) (o + 6) x = _ ∧ hAI (w1 (w1 (w1 (w1 h' (o + 2) (6 * j + b + c) (hv t (6 * s + c))) (o + 3) (6 * j + b + c) (pd t (6 * s + c))) (o + 4) (6 * j + b + c) (wg t (6 * s + c))) (o + 5) (6 * j + b + c) (hl t (6 * s + c))) (o + 7) x = _ ∧ hAI (w1 (w1 (w1 (w1 h' (o + 2) (6 * j + b + c) (hv t (6 * s + c))) (o + 3) (6 * j + b + c) (pd t (6 * s + c))) (o + 4) (6 * j + b + c) (wg t (6 * s + c))) (o + 5) (6 * j + b + c) (hl t (6 * s + c))) (o + 8) x = _
        simp (disch := decide) only [hAI_wo]
        exact a4 x hx
      · show hAI (w1 (w1 (w1 (w1 h' (o + 2) (6 * j + b + c) (hv t (6 * s + c))) (o + 3) (6 * j + b + c) (pd t (6 * s + c))) (o + 4) (6 * j + b + c) (wg t (6 * s + c))) (o + 5) (6 * j + b + c) (hl t (6 * s + c))) (o + 9) x = _ ∧ (_ → hAI (w1 (w1 (w1 (w1 h' (o + 2) (6 * j + b + c) (hv t (6 * s + c))) (o + 3) (6 * j + b + c) (pd t (6 * s + c))) (o + 4) (6 * j + b + c) (wg t (6 * s + c))) (o + 5) (6 * j + b + c) (hl t (6 * s + c))) (o + 10) x = _)
        simp (disch := decide) only [hAI_wo]
        exact a5 x hx
    · intro h' y5 y6 M e1
      have en : hAI h' (o + 1) s = nI (nc t s) := M.a1 hs
      refine bX4_copyCorners_3 M.1 ?_
      rw [nt_nI (show s < 2 ^ 31 by omega), en]
      exact ⟨vp_in_nI (by omega) (by omega), fun _ => RV.i ⟨M, e1⟩, fun z => absurd (nI_le (Nat.le_refl _) (by omega)) z⟩
  refine L 0 (by omega) h _ _ ?_ rfl
  have e : ∀ {α : Type} {f : Nat → α}, cp1 f s j b 0 = f := by
    intro α f
    funext x
    unfold cp1
    rw [if_neg (by omega)]
  have : cpC t s j b 0 = t := by
    unfold cpC
    rw [e, e, e, e]
    have e1 : uI t 0 (hv t) = t := uI_s
    have e2 : uI t 1 (pd t) = t := uI_s
    have e3 : uI t 2 (wg t) = t := uI_s
    have e4 : uI t 3 (hl t) = t := uI_s
    rw [e1, e2, e3, e4]
  rw [this]
  exact m
