/-! reading -/
theorem MS.wreg {h : Hp} {o g i k : Nat} {t : St} {v : Int32} (m : MS h o t g) (hk : k = 1 ∧ ns t ≤ i ∨ 2 ≤ k ∧ k ≤ 5 ∧ 6 * ns t ≤ i ∨ 6 ≤ k ∧ k ≤ 8 ∧ 36 * ns t ≤ i) : MS (w1 h (o + k) i v) o t g := by
  obtain ⟨a1, a2, a3, a4, a5⟩ := m.Sh
  have key : ∀ j x, (j ≠ k ∨ x ≠ i) → hAI (w1 h (o + k) i v) (o + j) x = hAI h (o + j) x := by
    intro j x q
    by_cases c : j = k
    · subst c
      rw [hAI_w1, if_neg (q.resolve_left (fun z => z rfl))]
    · rw [hAI_wo c]
  refine m.wSh ⟨fun f hf => rfl, fun j hj => hAI_wo ?_⟩ rfl m.1 m.2.1 ⟨a1, fun s hs => ?_, fun x hx => ?_, fun x hx => ?_, fun s hs => ?_⟩ (fun r => r)
  · have := (List.all_eq_true (p := fun j => decide (9 ≤ j))).mp (by decide +kernel) j hj
    have := of_decide_eq_true this
    omega
  · rw [key 1 s (by omega)]; exact a2 s hs
  · rw [key 2 x (by omega), key 3 x (by omega), key 4 x (by omega), key 5 x (by omega)]; exact a3 x hx
  · rw [key 6 x (by omega), key 7 x (by omega), key 8 x (by omega)]; exact a4 x hx
  · rw [key 9 s (by omega), key 10 s (by omega)]; exact a5 s hs
theorem MS.w3reg {h : Hp} {o g p : Nat} {t : St} {v x y : Int32} (m : MS h o t g) (hp : 36 * ns t ≤ p) : MS (w3 h o p v x y) o t g :=
  ((m.wreg (k := 8) (i := p) (by omega)).wreg (k := 6) (i := p) (by omega)).wreg (k := 7) (i := p) (by omega)
theorem ctX4_look {h : Hp} {o g i : Nat} {t : St} (m : MS h o t g) (hi : hFI h 417 o = nI i) (h31 : i < 1000) : Ret mX4_look 0 [vR (some o)] h 0 0 (RI fun y h' => y = ch t i ∧ h' = h) := by
  have ht := m.b_tl
  refine Ret.go (by decide) rfl rfl RI.ret (bX4_look_0 m.1 ?_)
  rw [m.f416, hi, nI_leI (by omega) (by omega), nt_nI (by omega)]
  exact ⟨fun z => RI.i ⟨by rw [ch, if_neg (by omega)], rfl⟩, fun z => ⟨vp_in_nI (by omega) (by omega), RI.i ⟨by rw [ch, if_pos (by omega)]; exact m.a13 (by omega), rfl⟩⟩⟩
theorem ctX4_wrong {h : Hp} {o : Nat} (m : MO h o) (hf : hFI h 418 o = -1) : Ret mX4_wrong 0 [vR (some o)] h 0 0 (RV fun h' => h' = sFI h 418 o (hFI h 417 o)) := by
  refine Ret.go (by decide) rfl rfl RV.ret (bX4_wrong_0 m ⟨fun z => ?_, fun _ h2 q2 => RV.i q2⟩)
  rw [hf] at z
  exact absurd z (by decide)
theorem ctX4_isDigit {h : Hp} {o g i : Nat} {t : St} (m : MS h o t g) (hi : hFI h 417 o = nI i) (h31 : i < 1000) : Ret mX4_isDigit 1 [vR (some o)] h 0 0 (RI fun y h' => y = bI (isD t i = true) ∧ h' = h) := by
  refine Ret.go (by decide) rfl rfl RI.ret (bX4_isDigit_0 m.1 ⟨_, ctX4_look m hi h31, ?_⟩)
  rintro z h2 ⟨rfl, rfl⟩
  exact ⟨m.1, RI.i ⟨rfl, rfl⟩⟩
theorem ctX4_digit {h : Hp} {o g i : Nat} {t : St} (m : MS h o t g) (hi : hFI h 417 o = nI i) (h31 : i < 1000) (hf : hFI h 418 o = -1) : Ret mX4_digit 2 [vR (some o)] h 0 0 (RI fun y h' => (isD t i = true ∧ y = ch t i - 48 ∧ h' = sFI h 417 o (nI (i + 1))) ∨ (isD t i = false ∧ h' = sFI h 418 o (nI i))) := by
  refine Ret.go (by decide) rfl rfl RI.ret (bX4_digit_0 m.1 ⟨_, ctX4_isDigit m hi h31, ?_⟩)
  rintro z h2 ⟨rfl, rfl⟩
  refine ⟨m.1, fun z => ⟨_, ctX4_look m hi h31, ?_⟩, fun z => ⟨_, ctX4_wrong m.1 hf, ?_⟩⟩
  · rintro y h3 ⟨rfl, rfl⟩
    refine ⟨m.1, fun h10 q10 => RI.i (Or.inl ⟨bI_n0.mp z, rfl, ?_⟩)⟩
    rw [q10, hi, nI_add]
  · intro h12 q12
    refine ⟨by rw [q12]; exact m.1, RI.i (Or.inr ⟨by simpa using bI_0.mp z, ?_⟩)⟩
    rw [q12, hi]
theorem ch_b {t : St} (W : WTp t) {i : Nat} : -128 ≤ (ch t i).toInt ∧ (ch t i).toInt ≤ 127 := by
  unfold ch
  split
  · rename_i c
    exact bt_iff.mp (W i c)
  · exact ⟨by decide, by decide⟩
theorem ctX4_letter {h : Hp} {o g i n : Nat} {t : St} (m : MS h o t g) (W : WTp t) (hi : hFI h 417 o = nI i) (h31 : i < 1000) (hn : hAI h (o + 1) (ns t) = nI n) (hn6 : n ≤ 6) : Ret mX4_letter 2 [vR (some o)] h 0 0 (RI fun y h' => ((∃ a, ltr t n i = some a ∧ a < n ∧ y = nI a) ∨ (ltr t n i = none ∧ y = -1)) ∧ h' = h) := by
  have hns := m.b_ns
  refine Ret.go (by decide) rfl rfl RI.ret (bX4_letter_0 m.1 ⟨_, ctX4_look m hi h31, ?_⟩)
  rintro z h2 ⟨rfl, rfl⟩
  obtain ⟨b1, b2⟩ := ch_b W (i := i)
  have e : (ch t i - nI 97).toInt = (ch t i).toInt - 97 := by
    rw [Int32.toInt_sub, show (nI 97).toInt = 97 from rfl, Int.bmod_eq_of_le_mul_two] <;> omega
  rw [m.f401]
  refine ⟨m.1, (RI fun x h' => x = bI (nI 0 ≤ ch t i - nI 97 ∧ ch t i - nI 97 ≤ nI n - nI 1) ∧ h' = h2) |> fun _ => (fun x h' => x = bI (nI 0 ≤ ch t i - nI 97 ∧ ch t i - nI 97 ≤ nI n - nI 1) ∧ h' = h2), Ret.go (by decide) rfl rfl RI.ret (bX4_isCorner_0m m.1 ⟨vp_in_nI (by omega) (by omega), RI.i ⟨by rw [nt_nI (by omega), hn], rfl⟩⟩), ?_⟩
  rintro z h6 ⟨rfl, rfl⟩
  have K : (nI 0 ≤ ch t i - nI 97 ∧ ch t i - nI 97 ≤ nI n - nI 1) ↔ bt (ch t i) 97 (96 + n) = true := by
    rw [le_i, le_i, e, nI_m1 (by omega), show (nI 0).toInt = 0 from rfl, bt_iff]
    omega
  refine ⟨m.1, fun y => RI.i ⟨Or.inr ⟨?_, rfl⟩, rfl⟩, fun y => RI.i ⟨Or.inl ⟨nt (ch t i - 97), ?_, ?_, ?_⟩, rfl⟩⟩
  · rw [ltr, if_neg (fun c => bI_0.mp y (K.mpr c))]
  · rw [ltr, if_pos (K.mp (bI_n0.mp y))]
  · have := bt_iff.mp (K.mp (bI_n0.mp y))
    have e : (ch t i - 97).toInt = (ch t i).toInt - 97 := e
    unfold nt
    rw [← Int32.toNat_toInt, e]
    omega
  · have := bt_iff.mp (K.mp (bI_n0.mp y))
    have e' : (ch t i - 97).toInt = (ch t i).toInt - 97 := e
    rw [eq_i, e]
    unfold nt
    rw [← Int32.toNat_toInt, e', nI_toInt (by omega)]
    omega
