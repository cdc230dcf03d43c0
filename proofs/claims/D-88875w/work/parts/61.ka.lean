/-! scratch: what is changed at most (fields, int rows, long rows) -/
def FR (h h' : Hp) (o : Nat) (F A L : List Nat) : Prop := (∀ f, F.contains f = false → hFI h' f o = hFI h f o) ∧ (∀ k, A.contains k = false → hAI h' (o + k) = hAI h (o + k)) ∧ ∀ k, L.contains k = false → hAL h' (o + k) = hAL h (o + k)
theorem FR.rf {h : Hp} {o : Nat} {F A L : List Nat} : FR h h o F A L := ⟨fun _ _ => rfl, fun _ _ => rfl, fun _ _ => rfl⟩
theorem FR.tr {h h1 h2 : Hp} {o : Nat} {F A L : List Nat} (a : FR h h1 o F A L) (b : FR h1 h2 o F A L) : FR h h2 o F A L := ⟨fun f q => (b.1 f q).trans (a.1 f q), fun f q => (b.2.1 f q).trans (a.2.1 f q), fun f q => (b.2.2 f q).trans (a.2.2 f q)⟩
theorem FR.mono {h h' : Hp} {o : Nat} {F A L F' A' L' : List Nat} (a : FR h h' o F A L) (x : F.all (fun f => F'.contains f) = true) (y : A.all (fun f => A'.contains f) = true) (z : L.all (fun f => L'.contains f) = true) : FR h h' o F' A' L' := by
  have key : ∀ {X X' : List Nat}, X.all (fun f => X'.contains f) = true → ∀ f, X'.contains f = false → X.contains f = false := by
    intro X X' q f hf
    rw [List.all_eq_true] at q
    cases hc : X.contains f with
    | false => rfl
    | true =>
      have := q f (by simpa using hc)
      rw [hf] at this
      exact absurd this (by decide)
  exact ⟨fun f q => a.1 f (key x f q), fun f q => a.2.1 f (key y f q), fun f q => a.2.2 f (key z f q)⟩
theorem cne {X : List Nat} {k j : Nat} (hk : X.contains k = true) (hj : X.contains j = false) : j ≠ k := by
  rintro rfl
  rw [hk] at hj
  exact absurd hj (by decide)
theorem FR.w {h : Hp} {o k i : Nat} {v : Int32} {F A L : List Nat} (hk : A.contains k = true) : FR h (w1 h (o + k) i v) o F A L := ⟨fun _ _ => rfl, fun j q => hAI_wo (cne hk q), fun _ _ => rfl⟩
theorem FR.wl {h : Hp} {o k i : Nat} {v : Int64} {F A L : List Nat} (hk : L.contains k = true) : FR h (wL h (o + k) i v) o F A L := ⟨fun _ _ => rfl, fun _ _ => rfl, fun j q => hAL_wo (cne hk q)⟩
theorem FR.oF {h : Hp} {o f : Nat} {v : Int32} {F A L : List Nat} (hk : F.contains f = true) : FR h (sFI h f o v) o F A L := ⟨fun j q => hFI_sn (cne hk q), fun _ _ => rfl, fun _ _ => rfl⟩
def TK (h : Hp) (o : Nat) (k : Tk) : Prop := kN k ≤ 6 ∧ hFI h 435 o = nI (kN k) ∧ ∀ a < kN k, hAI h (o + 23) a = kM k a ∧ hAI h (o + 24) a = kP k a ∧ hAI h (o + 25) a = kH k a ∧ ∀ b < kN k, hAI h (o + 26) (6 * a + b) = kC k a b
theorem TK.fr {h h' : Hp} {o : Nat} {k : Tk} {F A L : List Nat} (m : TK h o k) (e : FR h h' o F A L) (hf : F.contains 435 = false) (h3 : A.contains 23 = false) (h4 : A.contains 24 = false) (h5 : A.contains 25 = false) (h6 : A.contains 26 = false) : TK h' o k := by
  unfold TK
  rw [e.1 435 hf, e.2.1 23 h3, e.2.1 24 h4, e.2.1 25 h5, e.2.1 26 h6]
  exact m
theorem ctX4_take {h : Hp} {o g s : Nat} {t : St} (m : MS h o t g) (W : WSh t) (hs : s < ns t) : Ret mX4_take 2 [vR (some o), vI (nI s)] h 0 0 (RV fun h' => MS h' o t g ∧ TK h' o (tkO t s) ∧ FR h h' o [435] [23, 24, 25, 26] []) := by
  have hn := m.b_ns
  have hc := m.b_nc s hs
  have es : nt (nI s) = s := nt_nI (by omega)
  have hsh : isSh t (nI s) = true := bt_of hs (by omega)
  refine Ret.go (by decide) rfl rfl RV.ret (bX4_take_0 m ⟨vp_in_nI (by omega) (by omega), by rw [es]; exact hs, fun h1 q1 => ?_⟩)
  rw [es] at q1
  subst q1
  -- the rows that are laid
  have L : ∀ a, a ≤ nc t s → ∀ h' y, MS h' o t g → hFI h' 435 o = nI (nc t s) → (∀ i < a, hAI h' (o + 23) i = kM (tkO t s) i ∧ hAI h' (o + 24) i = kP (tkO t s) i ∧ hAI h' (o + 25) i = kH (tkO t s) i ∧ ∀ b < nc t s, hAI h' (o + 26) (6 * i + b) = kC (tkO t s) i b) → FR h h' o [435] [23, 24, 25, 26] [] → AWP mX4_take 2 12 [vR (some o), vI (nI s), vI (nI a), y] [] h' (0, 0) (RV fun h' => MS h' o t g ∧ TK h' o (tkO t s) ∧ FR h h' o [435] [23, 24, 25, 26] []) := by
    refine lo_up ?_ ?_
    · intro a ha hS h' y M e435 R F
      refine bX4_take_12 M ?_
      rw [e435, pk_mul, nI_add]
      have ei : nt (nI (6 * s + a)) = 6 * s + a := nt_nI (by omega)
      have ea' : nt (nI a) = a := nt_nI (by omega)
      rw [ei, ea']
      have vv := vp_in_nI (n := 6 * s + a) (N := 78) (by omega) (by omega)
      have va := vp_in_nI (n := a) (N := 6) (by omega) (by omega)
      have hx : 6 * s + a < 6 * ns t := by omega
      refine ⟨fun z => absurd z (nI_ge ha (by omega)), fun _ => ⟨vv, hx, vv, hx, va, fun h2 q2 => ⟨vv, hx, va, fun h3 q3 => ⟨vv, hx, va, fun h4 q4 => ?_⟩⟩⟩⟩
      have eb : vp_nar .boolean (hl t (6 * s + a)) = hl t (6 * s + a) := by
        rcases (W s hs a ha).2.2.2 with z | z <;> rw [z] <;> rfl
      rw [eb] at q4
      have F4 : FR h h4 o [435] [23, 24, 25, 26] [] := by
        rw [q4, q3, q2]
        exact ((F.tr (FR.w rfl)).tr (FR.w rfl)).tr (FR.w rfl)
      have M4 : MS h4 o t g := by
        rw [q4, q3, q2]
        exact ((M.fr (PE.w rfl)).fr (PE.w rfl)).fr (PE.w rfl)
      have e4 : hFI h4 435 o = nI (nc t s) := by rw [q4, q3, q2, hFI_w1, hFI_w1, hFI_w1]; exact e435
      have R4 : ∀ i < a + 1, hAI h4 (o + 23) i = kM (tkO t s) i ∧ hAI h4 (o + 24) i = kP (tkO t s) i ∧ hAI h4 (o + 25) i = kH (tkO t s) i := by
        intro i hi
        rw [q4, q3, q2]
        simp (disch := decide) only [hAI_wo, hAI_w1]
        by_cases c : i = a
        · simp only [if_pos c]
          rw [c]
          exact ⟨rfl, rfl, rfl⟩
        · simp only [if_neg c]
          obtain ⟨c1, c2, c3, _⟩ := R i (by omega)
          exact ⟨c1, c2, c3⟩
      have R5 : ∀ i < a, ∀ b < nc t s, hAI h4 (o + 26) (6 * i + b) = kC (tkO t s) i b := by
        intro i hi b hb
        rw [q4, q3, q2]
        simp (disch := decide) only [hAI_wo]
        exact (R i hi).2.2.2 b hb
      clear q4 q3 q2 R F M e435
      have K : ∀ b, b ≤ nc t s → ∀ h', MS h' o t g → hFI h' 435 o = nI (nc t s) → (∀ i < a + 1, hAI h' (o + 23) i = kM (tkO t s) i ∧ hAI h' (o + 24) i = kP (tkO t s) i ∧ hAI h' (o + 25) i = kH (tkO t s) i) → (∀ i < a, ∀ b < nc t s, hAI h' (o + 26) (6 * i + b) = kC (tkO t s) i b) → (∀ j < b, hAI h' (o + 26) (6 * a + j) = kC (tkO t s) a j) → FR h h' o [435] [23, 24, 25, 26] [] → AWP mX4_take 2 87 [vR (some o), vI (nI s), vI (nI a), vI (nI b)] [] h' (0, 0) (RV fun h' => MS h' o t g ∧ TK h' o (tkO t s) ∧ FR h h' o [435] [23, 24, 25, 26] []) := by
        refine lo_up ?_ ?_
        · intro b hb hS2 h' M e435 R1 R2 R3 F
          refine bX4_take_87 M ?_
          rw [e435]
          refine ⟨fun z => absurd z (nI_ge hb (by omega)), fun _ => ⟨⟨hsh, bt_of (n := 6) (by omega) (by omega), bt_of (n := 6) (by omega) (by omega)⟩, ?_⟩⟩
          have eb : nt (nI b) = b := nt_nI (by omega)
          have e6 : nt (nI (6 * a + b)) = 6 * a + b := nt_nI (by omega)
          have v6 := vp_in_nI (n := 6 * a + b) (N := 36) (by omega) (by omega)
          have hx := ix_lt (a := a) (b := b) hs (by omega) (by omega)
          have eix : nt (nI (ix s a b)) = ix s a b := nt_nI (by omega)
          have vix := vp_in_nI (n := ix s a b) (N := 468) (by omega) (by omega)
          rw [ix_nI, pk_mul, nI_add, nI_add, es, ea', eb, e6, eix]
          have fin : ∀ x, x = kC (tkO t s) a b → AWP mX4_take 2 87 [vR (some o), vI (nI s), vI (nI a), vI (nI (b + 1))] [] (w1 h' (o + 26) (6 * a + b) x) (0, 0) (RV fun h' => MS h' o t g ∧ TK h' o (tkO t s) ∧ FR h h' o [435] [23, 24, 25, 26] []) := by
            intro x ex
            refine hS2 _ (M.fr (PE.w rfl)) e435 (fun i hi => ?_) (fun i hi j hj => ?_) (fun j hj => ?_) (F.tr (FR.w rfl))
            · simp (disch := decide) only [hAI_wo]
              exact R1 i hi
            · rw [hAI_w1, if_neg (by omega)]
              exact R2 i hi j hj
            · rw [hAI_w1]
              by_cases c : j = b
              · rw [if_pos (by omega), c, ex]
              · rw [if_neg (by omega)]
                exact R3 j (by omega)
          refine ⟨fun z => ⟨v6, fun h3 q3 => ?_⟩, fun z => ⟨vix, hx, vix, hx, v6, fun h3 q3 => ?_⟩⟩
          · rw [q3]
            refine fin _ ?_
            show nI 0 = cnt t s a b
            rw [cnt, if_neg z]
            rfl
          · rw [q3]
            refine fin _ ?_
            show _ = cnt t s a b
            rw [cnt, if_pos z]
        · intro h' M e435 R1 R2 R3 F
          refine bX4_take_87 M ?_
          rw [e435]
          refine ⟨fun _ => ?_, fun z => absurd (nI_le (Nat.le_refl _) (by omega)) z⟩
          rw [nI_add]
          refine hS _ _ M e435 (fun i hi => ?_) F
          obtain ⟨c1, c2, c3⟩ := R1 i hi
          refine ⟨c1, c2, c3, fun b hb => ?_⟩
          by_cases c : i = a
          · rw [c]; exact R3 b hb
          · exact R2 i (by omega) b hb
      exact K 0 (by omega) h4 M4 e4 R4 R5 (fun j hj => absurd hj (Nat.not_lt_zero j)) F4
    · intro h' y M e435 R F
      refine bX4_take_12 M ?_
      rw [e435]
      exact ⟨fun _ => RV.i ⟨M, ⟨hc.2, e435, R⟩, F⟩, fun z => absurd (nI_le (Nat.le_refl _) (by omega)) z⟩
  exact L 0 (by omega) _ _ (m.fr (PE.F rfl)) hFI_s (fun i hi => absurd hi (Nat.not_lt_zero i)) (FR.oF rfl)
