def XS (h : Hp) (o : Nat) (z : XU) : Prop := ∀ i < 6, hAI h (o + 46) i = z.1 i ∧ hAI h (o + 47) i = z.2 i
def tB (t : St) (s : Nat) (H : Nat → Int32) (n : Nat) : St := uN (uI (uI t 17 (ewS t s)) 18 H) 10 n
theorem ewS_b {t : St} {s e : Nat} (hc : nc t s ≤ 6) (h0 : 0 ≤ ewS t s e) : nt (ewS t s e) < 6 ∧ vp_in (ewS t s e) 6 ∧ nt (ewS t s e) < nc t s := by
  unfold ewS at h0 ⊢
  split at h0
  · rename_i c
    rw [if_pos c]
    obtain ⟨k, hk, ek⟩ := bt_nI c
    rw [ek]
    have e1 : nt (nI k) = k := nt_nI (by omega)
    rw [e1]
    exact ⟨by omega, vp_in_nI (by omega) (by omega), hk⟩
  · exact absurd h0 (by decide)
theorem ctX4_begin {h : Hp} {o g s : Nat} {t : St} (m : MS h o t g) (W : WSh t) (hs : s < ns t) : Ret mX4_begin 3 [vR (some o), vI (nI s)] h 0 0 (RV fun h' => (∀ H, MS h' o (tB t s H 0) g) ∧ TK h' o (tkO t s) ∧ XS h' o (fun _ => 0, fun _ => 0)) := by
  have hn := m.b_ns
  have es : nt (nI s) = s := nt_nI (by omega)
  refine Ret.go (by decide) rfl rfl RV.ret (bX4_begin_0 m ⟨_, ctX4_take m W hs, ?_⟩)
  rintro h2 ⟨m2, K2, F2⟩
  refine ⟨_, _, m2, ?_⟩
  have L2 : ∀ e, e ≤ 4 → ∀ h', MS h' o (uI (uI t 17 (fun x => if x < e then ewS t s x else ew t x)) 18 (hAI h' (o + 49))) g → TK h' o (tkO t s) → XS h' o (fun _ => 0, fun _ => 0) → AWP mX4_begin 3 35 [vR (some o), vI (nI s), vI (nI e)] [] h' (0, 0) (RV fun h' => (∀ H, MS h' o (tB t s H 0) g) ∧ TK h' o (tkO t s) ∧ XS h' o (fun _ => 0, fun _ => 0)) := by
    refine lo_up ?_ ?_
    · intro e he hS h' M K X
      have ee : nt (nI e) = e := nt_nI (by omega)
      have v4 := vp_in_nI (n := e) (N := 4) (by omega) (by omega)
      refine bX4_begin_35 M ?_
      rw [ee, nI_add]
      have fin : ∀ v, v = ewS t s e → ∀ h4, h4 = w1 h' (o + 45) e v → AWP mX4_begin 3 35 [vR (some o), vI (nI s), vI (nI (e + 1))] [] h4 (0, 0) (RV fun h' => (∀ H, MS h' o (tB t s H 0) g) ∧ TK h' o (tkO t s) ∧ XS h' o (fun _ => 0, fun _ => 0)) := by
        intro v ev h4 q4
        have F4 : FR h' h4 o [] [45] [] := by rw [q4]; exact FR.w rfl
        refine hS h4 ?_ (K.fr F4 rfl rfl rfl rfl rfl) (fun i hi => by rw [F4.2.1 46 rfl, F4.2.1 47 rfl]; exact X i hi)
        rw [q4]
        refine M.wBl ((AG.w rfl)) rfl M.1 M.2.1 ?_ (fun r => r)
        obtain ⟨a1, a2, a3, a4, a5⟩ := M.Bl
        refine ⟨a1, a2, a3, fun j hj => ⟨?_, ?_, fun _ k _ => rfl⟩, fun r hr => ?_⟩
        · rw [hAI_wo (by decide)]; exact (a4 j hj).1
        · rw [hAI_w1]
          show _ = if j < e + 1 then ewS t s j else ew t j
          by_cases c : j = e
          · rw [if_pos c, if_pos (by omega), c, ev]
          · rw [if_neg c]
            have := (a4 j hj).2.1
            rw [this]
            show (if j < e then ewS t s j else ew t j) = _
            by_cases c2 : j < e
            · rw [if_pos c2, if_pos (by omega)]
            · rw [if_neg c2, if_neg (by omega)]
        · simp (disch := decide) only [hAI_wo]; exact a5 r hr
      refine ⟨fun z => absurd z (nI_ge he (by omega)), fun _ => ⟨v4, he, bt_of hs (by omega), fun z => ⟨v4, fin _ ?_⟩, fun z => ⟨v4, he, v4, fin _ ?_⟩⟩⟩
      · have z : ¬ isCo t (nI s) (ea t e) = true := z
        unfold isCo at z
        rw [es] at z
        rw [ewS, if_neg z]
      · have z : isCo t (nI s) (ea t e) = true := z
        unfold isCo at z
        rw [es] at z
        show ea t e = _
        rw [ewS, if_pos z]
    · intro h' M K X
      refine bX4_begin_35 M ⟨fun _ h2 q2 => ?_, fun z => absurd (by decide) z⟩
      have F2 : FR h' h2 o [474] [] [] := by rw [q2]; exact FR.oF rfl
      refine RV.i ⟨fun H => ?_, K.fr F2 rfl rfl rfl rfl rfl, fun i hi => by rw [F2.2.1 46 rfl, F2.2.1 47 rfl]; exact X i hi⟩
      rw [q2]
      refine M.wBl ((AG.oF rfl)) rfl M.1 (by obtain ⟨b1, b2, b3, b4, b5, b6, b7, b8, b9, b10, b11, b12, b13, b14, b15, b16, b17, b18, b19, b20, b21⟩ := M.2.1; exact ⟨b1, b2, b3, b4, b5, b6, b7, b8, b9, by show 0 ≤ 200; omega, b11, b12, b13, b14, b15, b16, b17, b18, b19, b20, b21⟩) ?_ (fun r => r)
      obtain ⟨a1, a2, a3, a4, a5⟩ := M.Bl
      refine ⟨by rw [hFI_sn (by decide)]; exact a1, hFI_s, by rw [hFI_sn (by decide)]; exact a3, fun j hj => ⟨(a4 j hj).1, ?_, fun _ k hk => absurd hk (Nat.not_lt_zero k)⟩, a5⟩
      have := (a4 j hj).2.1
      rw [hAI_sF, this]
      show (if j < 4 then ewS t s j else ew t j) = ewS t s j
      rw [if_pos hj]
  have L1 : ∀ c, c ≤ 6 → ∀ h', MS h' o t g → TK h' o (tkO t s) → (∀ i < c, hAI h' (o + 46) i = 0 ∧ hAI h' (o + 47) i = 0) → AWP mX4_begin 3 7 [vR (some o), vI (nI s), vI (nI c)] [] h' (0, 0) (RV fun h' => (∀ H, MS h' o (tB t s H 0) g) ∧ TK h' o (tkO t s) ∧ XS h' o (fun _ => 0, fun _ => 0)) := by
    refine lo_up ?_ ?_
    · intro c hc hS h' M K R
      refine bX4_begin_7 M ?_
      rw [nt_nI (by omega), nI_add]
      have v6 := vp_in_nI (n := c) (N := 6) (by omega) (by omega)
      refine ⟨fun z => absurd z (nI_ge hc (by omega)), fun _ => ⟨v6, fun h2 q2 => ⟨v6, fun h3 q3 => ?_⟩⟩⟩
      have F3 : FR h' h3 o [] [46, 47] [] := by rw [q3, q2]; exact (FR.w rfl).tr (FR.w rfl)
      refine hS h3 (by rw [q3, q2]; exact (M.fr (PE.w rfl)).fr (PE.w rfl)) (K.fr F3 rfl rfl rfl rfl rfl) (fun i hi => ?_)
      rw [q3, q2]
      simp (disch := decide) only [hAI_wo, hAI_w1]
      by_cases e : i = c
      · simp only [if_pos e]
        exact ⟨rfl, rfl⟩
      · simp only [if_neg e]
        exact R i (by omega)
    · intro h' M K R
      refine bX4_begin_7 M ⟨fun _ => L2 0 (by omega) h' ?_ K R, fun z => absurd (by decide) z⟩
      refine M.wBl AG.rfl' rfl M.1 M.2.1 ?_ (fun r => r)
      obtain ⟨a1, a2, a3, a4, a5⟩ := M.Bl
      exact ⟨a1, a2, a3, fun j hj => ⟨(a4 j hj).1, (a4 j hj).2.1, fun _ k _ => rfl⟩, a5⟩
  exact L1 0 (by omega) h2 m2 K2 (fun i hi => absurd hi (Nat.not_lt_zero i))
theorem ctX4_step {h : Hp} {o g s n : Nat} {t : St} {k : Tk} {z : XU} {H : Nat → Int32} (m : MS h o (tB t s H n) g) (K : TK h o k) (X : XS h o z) (hs : s < ns t) (hkM : ∀ i < kN k, kM k i ≠ 0) (hn : n < 200) (hH : ∀ e < 4, 0 ≤ ewS t s e → H (200 * e + n) = (stS k (nI (dp t)) z).1 (nt (ewS t s e))) : Ret mX4_step 1 [vR (some o)] h 0 0 (RI fun y h' => y = mxS k (stS k (nI (dp t)) z).1 (kN k) ∧ MS h' o (tB t s H (n + 1)) g ∧ TK h' o k ∧ XS h' o (stS k (nI (dp t)) z)) := by
  have h6 := K.1
  refine Ret.go (by decide) rfl rfl RI.ret (bX4_step_0 m ?_)
  generalize hz : stS k (nI (dp t)) z = z' at *
  -- ears
  have L3 : ∀ e, e ≤ 4 → ∀ h' y, MS h' o (tB t s H n) g → TK h' o k → XS h' o z' → (∀ j < e, 0 ≤ ewS t s j → hAI h' (o + 49) (200 * j + n) = H (200 * j + n)) → AWP mX4_step 1 194 [vR (some o), vI (mxS k z'.1 (kN k)), vI (nI e), y] [] h' (0, 0) (RI fun y h' => y = mxS k z'.1 (kN k) ∧ MS h' o (tB t s H (n + 1)) g ∧ TK h' o k ∧ XS h' o z') := by
    refine lo_up ?_ ?_
    · intro e he hS h' y M K X R
      have ee : nt (nI e) = e := nt_nI (by omega)
      have v4 := vp_in_nI (n := e) (N := 4) (by omega) (by omega)
      have ew1 : ew (tB t s H n) e = ewS t s e := rfl
      have sp1 : sp (tB t s H n) = n := rfl
      refine bX4_step_194 M ?_
      rw [ee, ew1, sp1, pk_mul, nI_add, nI_add, nI_add]
      refine ⟨fun c => absurd c (nI_ge he (by omega)), fun _ => ⟨v4, he, fun c => hS h' y M K X (fun j hj h0 => ?_), fun c => ?_⟩⟩
      · by_cases cc : j = e
        · rw [cc] at h0; exact absurd c (lt0_of.mpr h0)
        · exact R j (by omega) h0
      · have c := lt0_of.mp c
        obtain ⟨b1, b2, b3⟩ := ewS_b (t := t) (s := s) (e := e) (m.b_nc s hs).2 c
        rw [nt_nI (by omega), (X _ b1).1, ← hH e he c]
        refine ⟨v4, he, b2, vp_in_nI (by omega) (by omega), fun h4 q4 => ?_⟩
        have F4 : FR h' h4 o [] [49] [] := by rw [q4]; exact FR.w rfl
        refine hS h4 y ?_ (K.fr F4 rfl rfl rfl rfl rfl) (fun i hi => by rw [F4.2.1 46 rfl, F4.2.1 47 rfl]; exact X i hi) (fun j hj h0 => ?_)
        · rw [q4]
          refine M.wBl ((AG.w rfl)) rfl M.1 M.2.1 ?_ (fun r => r)
          obtain ⟨a1, a2, a3, a4, a5⟩ := M.Bl
          refine ⟨a1, a2, a3, fun j hj => ⟨?_, ?_, fun h0 x hx => ?_⟩, fun r hr => ?_⟩
          · rw [hAI_wo (by decide)]; exact (a4 j hj).1
          · rw [hAI_wo (by decide)]; exact (a4 j hj).2.1
          · have hx : x < n := hx
            rw [hAI_w1, if_neg (by omega)]
            exact (a4 j hj).2.2 h0 x hx
          · simp (disch := decide) only [hAI_wo]; exact a5 r hr
        · rw [q4, hAI_w1]
          by_cases cc : j = e
          · rw [if_pos (by omega), cc]
          · rw [if_neg (by omega)]; exact R j (by omega) h0
    · intro h' y M K X R
      refine bX4_step_194 M ⟨fun _ h2 q2 => ?_, fun c => absurd (by decide) c⟩
      have sp1 : sp (tB t s H n) = n := rfl
      rw [sp1, nI_add] at q2
      have F2 : FR h' h2 o [474] [] [] := by rw [q2]; exact FR.oF rfl
      refine RI.i ⟨rfl, ?_, K.fr F2 rfl rfl rfl rfl rfl, fun i hi => by rw [F2.2.1 46 rfl, F2.2.1 47 rfl]; exact X i hi⟩
      rw [q2]
      refine M.wBl ((AG.oF rfl)) rfl M.1 (by obtain ⟨b1, b2, b3, b4, b5, b6, b7, b8, b9, b10, b11, b12, b13, b14, b15, b16, b17, b18, b19, b20, b21⟩ := M.2.1; exact ⟨b1, b2, b3, b4, b5, b6, b7, b8, b9, by show n + 1 ≤ 200; omega, b11, b12, b13, b14, b15, b16, b17, b18, b19, b20, b21⟩) ?_ (fun r => r)
      obtain ⟨a1, a2, a3, a4, a5⟩ := M.Bl
      refine ⟨by rw [hFI_sn (by decide)]; exact a1, hFI_s, by rw [hFI_sn (by decide)]; exact a3, fun j hj => ⟨(a4 j hj).1, (a4 j hj).2.1, fun h0 x hx => ?_⟩, a5⟩
      have hx : x < n + 1 := hx
      by_cases c : x = n
      · rw [c]; exact R j hj h0
      · exact (a4 j hj).2.2 h0 x (by show x < n; omega)
  -- speeds and places
  have L2 : ∀ a, a ≤ kN k → ∀ h' y, MS h' o (tB t s H n) g → TK h' o k → (∀ i < kN k, hAI h' (o + 48) i = plS k z.1 i) → XS h' o (fun i => if i < a then z'.1 i else z.1 i, fun i => if i < a then z'.2 i else z.2 i) → AWP mX4_step 1 95 [vR (some o), vI (mxS k z'.1 a), vI (nI a), y] [] h' (0, 0) (RI fun y h' => y = mxS k z'.1 (kN k) ∧ MS h' o (tB t s H (n + 1)) g ∧ TK h' o k ∧ XS h' o z') := by
    refine lo_up ?_ ?_
    · intro a ha hS h' y M K P X
      have ea' : nt (nI a) = a := nt_nI (by omega)
      have v6 := vp_in_nI (n := a) (N := 6) (by omega) (by omega)
      refine bX4_step_95 M ?_
      rw [K.2.1, ea', (K.2.2 a ha).2.2.1, nI_add]
      refine ⟨fun c => absurd c (nI_ge ha (by omega)), fun _ => ⟨v6, fun c => ⟨v6, v6, v6, fun h3 q3 => ⟨v6, v6, v6, fun h4 q4 => ⟨v6, v6, v6, fun h5 q5 => ⟨v6, ?_⟩⟩⟩⟩, fun c => ?_⟩⟩
      · obtain ⟨x1, x2⟩ := X a (by omega)
        have x1 : hAI h' (o + 46) a = z.1 a := by rw [x1]; show (if a < a then _ else _) = _; rw [if_neg (by omega)]
        have x2 : hAI h' (o + 47) a = z.2 a := by rw [x2]; show (if a < a then _ else _) = _; rw [if_neg (by omega)]
        rw [x2, P a ha] at q3
        have e3 : hAI h3 (o + 47) a = z.2 a - plS k z.1 a := by rw [q3, hAI_w1, if_pos rfl]
        have q4 : h4 = w1 h3 (o + 47) a (uS k (nI (dp t)) z a) := by rw [q4, e3]; rfl
        have e4 : hAI h4 (o + 47) a = uS k (nI (dp t)) z a := by rw [q4, hAI_w1, if_pos rfl]
        have e46 : hAI h4 (o + 46) a = z.1 a := by rw [q4, hAI_wo (by decide), q3, hAI_wo (by decide)]; exact x1
        have q5 : h5 = w1 h4 (o + 46) a (z.1 a + uS k (nI (dp t)) z a / 8) := by rw [q5, e4, e46]; rfl
        have ez1 : z'.1 a = z.1 a + uS k (nI (dp t)) z a / 8 := by rw [← hz]; show (if a < kN k ∧ kH k a = 0 then _ else _) = _; rw [if_pos ⟨ha, c⟩]
        have ez2 : z'.2 a = uS k (nI (dp t)) z a := by rw [← hz]; show (if a < kN k ∧ kH k a = 0 then _ else _) = _; rw [if_pos ⟨ha, c⟩]
        have F5 : FR h' h5 o [] [46, 47] [] := by rw [q5, q4, q3]; exact ((FR.w rfl).tr (FR.w rfl)).tr (FR.w rfl)
        have := hS h5 y (by rw [q5, q4, q3]; exact ((M.fr (PE.w rfl)).fr (PE.w rfl)).fr (PE.w rfl)) (K.fr F5 rfl rfl rfl rfl rfl) (fun i hi => by rw [F5.2.1 48 rfl]; exact P i hi) (fun i hi => ?_)
        · rw [mxS, if_pos c, ez1] at this
          rw [show hAI h5 (o + 46) a = z.1 a + uS k (nI (dp t)) z a / 8 by rw [q5, hAI_w1, if_pos rfl]]
          exact this
        · obtain ⟨y1, y2⟩ := X i hi
          show _ = (if i < a + 1 then z'.1 i else z.1 i) ∧ _ = (if i < a + 1 then z'.2 i else z.2 i)
          have y1 : hAI h' (o + 46) i = if i < a then z'.1 i else z.1 i := y1
          have y2 : hAI h' (o + 47) i = if i < a then z'.2 i else z.2 i := y2
          rw [q5, q4, q3]
          simp (disch := decide) only [hAI_wo, hAI_w1]
          by_cases cc : i = a
          · simp only [if_pos cc, if_pos (show i < a + 1 by omega)]
            rw [cc, ez1, ez2]
            exact ⟨rfl, rfl⟩
          · simp only [if_neg cc, y1, y2]
            by_cases c2 : i < a
            · simp only [if_pos c2, if_pos (show i < a + 1 by omega), and_self]
            · simp only [if_neg c2, if_neg (show ¬ i < a + 1 by omega), and_self]
      · have ez1 : z'.1 a = z.1 a := by rw [← hz]; show (if a < kN k ∧ kH k a = 0 then _ else _) = _; rw [if_neg (fun y => c y.2)]
        have ez2 : z'.2 a = z.2 a := by rw [← hz]; show (if a < kN k ∧ kH k a = 0 then _ else _) = _; rw [if_neg (fun y => c y.2)]
        have := hS h' y M K P (fun i hi => ?_)
        · rw [mxS, if_neg c] at this
          exact this
        · obtain ⟨y1, y2⟩ := X i hi
          have y1 : hAI h' (o + 46) i = if i < a then z'.1 i else z.1 i := y1
          have y2 : hAI h' (o + 47) i = if i < a then z'.2 i else z.2 i := y2
          show _ = (if i < a + 1 then z'.1 i else z.1 i) ∧ _ = (if i < a + 1 then z'.2 i else z.2 i)
          rw [y1, y2]
          by_cases cc : i = a
          · simp only [if_neg (show ¬ i < a by omega), if_pos (show i < a + 1 by omega)]
            rw [cc, ez1, ez2]
            exact ⟨rfl, rfl⟩
          · by_cases c2 : i < a
            · simp only [if_pos c2, if_pos (show i < a + 1 by omega), and_self]
            · simp only [if_neg c2, if_neg (show ¬ i < a + 1 by omega), and_self]
    · intro h' y M K P X
      refine bX4_step_95 M ?_
      rw [K.2.1]
      refine ⟨fun _ => L3 0 (by omega) h' y M K (fun i hi => ?_) (fun j hj => absurd hj (Nat.not_lt_zero j)), fun c => absurd (nI_le (Nat.le_refl _) (by omega)) c⟩
      obtain ⟨y1, y2⟩ := X i hi
      have y1 : hAI h' (o + 46) i = if i < kN k then z'.1 i else z.1 i := y1
      have y2 : hAI h' (o + 47) i = if i < kN k then z'.2 i else z.2 i := y2
      rw [y1, y2]
      by_cases c2 : i < kN k
      · rw [if_pos c2, if_pos c2]; exact ⟨rfl, rfl⟩
      · rw [if_neg c2, if_neg c2, ← hz]
        show z.1 i = (if i < kN k ∧ kH k i = 0 then _ else _) ∧ z.2 i = (if i < kN k ∧ kH k i = 0 then _ else _)
        rw [if_neg (fun y => c2 y.1), if_neg (fun y => c2 y.1)]
        exact ⟨rfl, rfl⟩
  -- pulls
  have L1 : ∀ a, a ≤ kN k → ∀ h' y2 y3, MS h' o (tB t s H n) g → TK h' o k → XS h' o z → (∀ i < a, hAI h' (o + 48) i = plS k z.1 i) → AWP mX4_step 1 2 [vR (some o), vI (nI a), y2, y3] [] h' (0, 0) (RI fun y h' => y = mxS k z'.1 (kN k) ∧ MS h' o (tB t s H (n + 1)) g ∧ TK h' o k ∧ XS h' o z') := by
    refine lo_up ?_ ?_
    · intro a ha hS h' y2 y3 M K X P
      have ea' : nt (nI a) = a := nt_nI (by omega)
      have v6 := vp_in_nI (n := a) (N := 6) (by omega) (by omega)
      refine bX4_step_2 M ?_
      rw [K.2.1, ea', (K.2.2 a ha).2.1, (X a (by omega)).1]
      refine ⟨fun c => absurd c (nI_ge ha (by omega)), fun _ => ⟨v6, v6, ?_⟩⟩
      have L0 : ∀ b, b ≤ kN k → AWP mX4_step 1 26 [vR (some o), vI (nI a), vI (kP k a * z.1 a + sumI (fun j => kC k a j * (z.1 a - z.1 j)) b), vI (nI b)] [] h' (0, 0) (RI fun y h' => y = mxS k z'.1 (kN k) ∧ MS h' o (tB t s H (n + 1)) g ∧ TK h' o k ∧ XS h' o z') := by
        refine lo_up ?_ ?_
        · intro b hb hS2
          refine bX4_step_26 M ?_
          rw [K.2.1, ea', nt_nI (show b < 2 ^ 31 by omega), pk_mul, nI_add, nI_add, nI_add, nt_nI (by omega), (K.2.2 a ha).2.2.2 b hb, (X a (by omega)).1, (X b (by omega)).1]
          refine ⟨fun c => absurd c (nI_ge hb (by omega)), fun _ => ⟨vp_in_nI (by omega) (by omega), v6, vp_in_nI (by omega) (by omega), ?_⟩⟩
          rw [sumI, ← Int32.add_assoc] at hS2
          exact hS2
        · refine bX4_step_26 M ?_
          rw [K.2.1, ea', (K.2.2 a ha).1, nI_add]
          refine ⟨fun _ => ⟨v6, hkM a ha, v6, fun h2 q2 => ?_⟩, fun c => absurd (nI_le (Nat.le_refl _) (by omega)) c⟩
          have F2 : FR h' h2 o [] [48] [] := by rw [q2]; exact FR.w rfl
          refine hS h2 _ _ (by rw [q2]; exact M.fr (PE.w rfl)) (K.fr F2 rfl rfl rfl rfl rfl) (fun i hi => by rw [F2.2.1 46 rfl, F2.2.1 47 rfl]; exact X i hi) (fun i hi => ?_)
          rw [q2, hAI_w1]
          by_cases c : i = a
          · rw [if_pos c, c]; rfl
          · rw [if_neg c]; exact P i (by omega)
      have := L0 0 (by omega)
      rwa [sumI, show kP k a * z.1 a + 0 = kP k a * z.1 a from Int32.add_zero _] at this
    · intro h' y2 y3 M K X P
      refine bX4_step_2 M ?_
      rw [K.2.1]
      refine ⟨fun _ => L2 0 (by omega) h' _ M K P (fun i hi => ?_), fun c => absurd (nI_le (Nat.le_refl _) (by omega)) c⟩
      show _ = (if i < 0 then z'.1 i else z.1 i) ∧ _ = (if i < 0 then z'.2 i else z.2 i)
      rw [if_neg (by omega), if_neg (by omega)]
      exact X i hi
  exact L1 0 (by omega) h _ _ m K X (fun i hi => absurd hi (Nat.not_lt_zero i))
