def w3 (h : Hp) (o p : Nat) (v x y : Int32) : Hp := w1 (w1 (w1 h (o + 8) p v) (o + 6) p x) (o + 7) p y
theorem hA_w3 {h : Hp} {o p : Nat} {v x y : Int32} {j : Nat} (q6 : j ≠ 6) (q7 : j ≠ 7) (q8 : j ≠ 8) : hAI (w3 h o p v x y) (o + j) = hAI h (o + j) := by rw [w3, hAI_wo q7, hAI_wo q6, hAI_wo q8]
theorem hA6_w3 {h : Hp} {o p i : Nat} {v x y : Int32} : hAI (w3 h o p v x y) (o + 6) i = if i = p then x else hAI h (o + 6) i := by rw [w3, hAI_wo (by decide), hAI_w1, hAI_wo (by decide)]
theorem hA7_w3 {h : Hp} {o p i : Nat} {v x y : Int32} : hAI (w3 h o p v x y) (o + 7) i = if i = p then y else hAI h (o + 7) i := by rw [w3, hAI_w1, hAI_wo (by decide), hAI_wo (by decide)]
theorem hA8_w3 {h : Hp} {o p i : Nat} {v x y : Int32} : hAI (w3 h o p v x y) (o + 8) i = if i = p then v else hAI h (o + 8) i := by rw [w3, hAI_wo (by decide), hAI_wo (by decide), hAI_w1]
theorem AG.w3 {h : Hp} {o p : Nat} {v x y : Int32} {F A : List Nat} (q6 : A.contains 6 = false) (q7 : A.contains 7 = false) (q8 : A.contains 8 = false) : AG h (w3 h o p v x y) o F A := ((AG.w q8).tr (AG.w q6)).tr (AG.w q7)
theorem ctX4_setPiece {h : Hp} {o s a b : Nat} {x y z : Int32} (m : MO h o) (hs : s ≤ 12) (ha : a < 6) (hb : b < 6) : Ret mX4_setPiece 1 [vR (some o), vI (nI s), vI (nI a), vI (nI b), vI x, vI y, vI z] h 0 0 (RV fun h' => h' = w3 (w3 h o (ix s a b) (x + nI 1) y z) o (ix s b a) (x + nI 1) y z) := by
  refine Ret.go (by decide) rfl rfl RV.ret (bX4_setPiece_0 m ?_)
  have h1 : ix s a b < 468 := Nat.lt_of_lt_of_le (ix_lt (n := 13) (by omega) ha hb) (by omega)
  have h2 : ix s b a < 468 := Nat.lt_of_lt_of_le (ix_lt (n := 13) (by omega) hb ha) (by omega)
  have v1 := vp_in_nI h1 (by omega)
  have v2 := vp_in_nI h2 (by omega)
  refine bX4_setPiece_3 m ⟨fun q => absurd q (by decide), fun _ => ⟨fun q => absurd rfl q, fun _ => ?_⟩⟩
  refine bX4_setPiece_29 m ?_
  rw [ix_nI, nt_nI (by omega)]
  refine ⟨v1, fun h3 e3 => ⟨v1, fun h4 e4 => ⟨v1, fun h5 e5 => ?_⟩⟩⟩
  subst e3 e4 e5
  refine bX4_setPiece_3 m ⟨fun q => absurd q (by decide), fun _ => ⟨fun _ => ?_, fun q => absurd q (by decide)⟩⟩
  refine bX4_setPiece_29 m ?_
  rw [ix_nI, nt_nI (by omega)]
  refine ⟨v2, fun h3 e3 => ⟨v2, fun h4 e4 => ⟨v2, fun h5 e5 => ?_⟩⟩⟩
  subst e3 e4 e5
  exact bX4_setPiece_3 m ⟨fun _ => RV.i rfl, fun q => absurd (by decide) q⟩
theorem ux_same {α : Type} {f : Nat → α} {i : Nat} : ux f i (f i) = f := by
  funext j
  unfold ux
  split
  · next q => rw [q]
  · rfl
theorem MS.w33 {h : Hp} {o g : Nat} {t : St} {s a b n : Nat} {y z : Int32} (m : MS h o t g) (hs : s < ns t) (ha : a < 6) (hb : b < 6) (hn : n ≤ 200) : MS (w3 (w3 h o (ix s a b) (nI n) y z) o (ix s b a) (nI n) y z) o (uA (setP t s a b y z) 1 (ux (ux (bo t) (ix s a b) n) (ix s b a) n)) g := by
  refine m.wSh ((AG.w3 rfl rfl rfl).tr (AG.w3 rfl rfl rfl)) rfl m.1 (by obtain ⟨b1, b2, b3, b4, b5, b6, b7, b8, b9, b10, b11, b12, b13, b14, b15, b16, b17, b18, b19, b20, b21⟩ := m.2.1; exact ⟨b1, b2, b3, b4, b5, b6, b7, b8, b9, b10, b11, b12, b13, b14, fun i hi => by show ux (ux (bo t) _ n) _ n i ≤ 200; unfold ux; have := b15 i hi; (repeat' split) <;> first | exact hn | exact this, b16, b17, b18, b19, b20, b21⟩) ?_ (fun r => r)
  obtain ⟨a1, a2, a3, a4, a5⟩ := m.Sh
  refine ⟨a1, fun i hi => ?_, fun i hi => ?_, fun i hi => ?_, fun i hi => ?_⟩
  · rw [hA_w3 (by decide) (by decide) (by decide), hA_w3 (by decide) (by decide) (by decide)]; exact a2 i hi
  · rw [hA_w3 (by decide) (by decide) (by decide), hA_w3 (by decide) (by decide) (by decide), hA_w3 (by decide) (by decide) (by decide), hA_w3 (by decide) (by decide) (by decide), hA_w3 (by decide) (by decide) (by decide), hA_w3 (by decide) (by decide) (by decide), hA_w3 (by decide) (by decide) (by decide), hA_w3 (by decide) (by decide) (by decide)]; exact a3 i hi
  · rw [hA6_w3, hA6_w3, hA7_w3, hA7_w3, hA8_w3, hA8_w3]
    obtain ⟨c1, c2, c3⟩ := a4 i hi
    rw [c1, c2, c3]
    refine ⟨rfl, rfl, ?_⟩
    show _ = nI (ux (ux (bo t) _ n) _ n i)
    unfold ux
    split
    · rfl
    · split <;> rfl
  · rw [hA_w3 (by decide) (by decide) (by decide), hA_w3 (by decide) (by decide) (by decide), hA_w3 (by decide) (by decide) (by decide), hA_w3 (by decide) (by decide) (by decide)]; exact a5 i hi
theorem ix_of {p : Nat} : ix (p / 36) (p / 6 % 6) (p % 6) = p := by unfold ix; omega
theorem ctX4_setStiff {h : Hp} {o g p : Nat} {t : St} {y z : Int32} (m : MS h o t g) (hp : p < 36 * ns t) (h0 : bo t p ≠ 0) (hb : bo t (ix (p / 36) (p % 6) (p / 6 % 6)) = bo t p) : Ret mX4_setStiff 2 [vR (some o), vI (nI p), vI y, vI z] h 0 0 (RV fun h' => MS h' o (setSt t p y z) g) := by
  have hn := m.b_ns
  have e1 : nt (nI p) = p := nt_nI (by omega)
  refine Ret.go (by decide) rfl rfl RV.ret (bX4_setStiff_0 m ⟨vp_in_nI (by omega) (by omega), by rw [e1]; exact hp, ?_⟩)
  rw [e1, nI_div (by omega) (by omega), nI_div (by omega) (by omega), pk_mul, nI_sub (Nat.div_mul_le_self p 6), nI_div (by omega) (by omega), pk_mul, nI_sub (Nat.div_mul_le_self _ 6), nI_sub (by omega), show p / 6 - p / 6 / 6 * 6 = p / 6 % 6 by omega, show p - p / 6 * 6 = p % 6 by omega]
  refine ⟨_, ctX4_setPiece m.1 (by omega) (Nat.mod_lt _ (by omega)) (Nat.mod_lt _ (by omega)), fun h' e => ?_⟩
  have hs : p / 36 < ns t := by omega
  have M := m.w33 (y := y) (z := z) hs (Nat.mod_lt (p / 6) (show 0 < 6 by omega)) (Nat.mod_lt p (show 0 < 6 by omega)) (m.b_bo p hp)
  rw [nI_add, show bo t p - 1 + 1 = bo t p by omega] at e
  rw [← e, ix_of, ux_same] at M
  have e2 : ux (bo t) (ix (p / 36) (p % 6) (p / 6 % 6)) (bo t p) = bo t := by rw [← hb]; exact ux_same
  rw [e2] at M
  have M : MS h' o (setSt t p y z) g := M
  exact ⟨_, _, M, RV.i M⟩
/-! acts -/
def sh1 {α : Type} (f : Nat → α) (k : Nat) : Nat → α := fun j => if j + 1 < k then f (j + 1) else f j
def shk (t : St) (k : Nat) : St := uI (uI (uI (uA (uA t 4 (sh1 (ao t) k)) 5 (sh1 (aa t) k)) 9 (sh1 (be t) k)) 10 (sh1 (bh t) k)) 11 (sh1 (cb t) k)
theorem sh1_s {α : Type} {f : Nat → α} {k j : Nat} (hk : 1 ≤ k) : sh1 f (k + 1) j = if j = k - 1 then f k else sh1 f k j := by
  unfold sh1
  by_cases q : j = k - 1
  · rw [if_pos (by omega), if_pos q, q, show k - 1 + 1 = k by omega]
  · rw [if_neg q]
    by_cases q2 : j + 1 < k
    · rw [if_pos (by omega), if_pos q2]
    · rw [if_neg (by omega), if_neg q2]
theorem ctX4_kept120 {h : Hp} {o g f p : Nat} {t : St} {was is cw : Int32} {y : AV} (m : MS h o t g) (hd : dn t < 40) (hu : ud t = 0) (hf : f ≤ 5) (hp : p < 36 * ns t) : AWP mX4_kept 0 120 [vR (some o), vI (nI f), vI (nI p), vI was, vI is, vI cw, y] [] h (0, 0) (RV fun h' => MS h' o (keep1 t f p was is cw) g) := by
  have hn := m.b_ns
  have v1 := vp_in_nI hd (by omega)
  have e1 := m.f424
  refine bX4_kept_120 m ?_
  rw [nt_nI (by omega)]
  refine ⟨v1, fun h1 q1 => ?_⟩
  subst q1
  rw [hFI_w1, e1, nt_nI (by omega)]
  refine ⟨v1, fun h1 q1 => ?_⟩
  subst q1
  rw [hFI_w1, hFI_w1, e1, nt_nI (by omega)]
  refine ⟨v1, fun h1 q1 => ?_⟩
  subst q1
  rw [hFI_w1, hFI_w1, hFI_w1, e1, nt_nI (by omega)]
  refine ⟨v1, fun h1 q1 => ?_⟩
  subst q1
  rw [hFI_w1, hFI_w1, hFI_w1, hFI_w1, e1, nt_nI (by omega)]
  refine ⟨v1, fun h1 q1 => ?_⟩
  subst q1
  rw [hFI_w1, hFI_w1, hFI_w1, hFI_w1, hFI_w1, e1, nI_add]
  intro h1 q1
  subst q1
  refine RV.i (m.wAc (((((((AG.w rfl).tr (AG.w rfl)).tr (AG.w rfl)).tr (AG.w rfl)).tr (AG.w rfl)).tr (AG.oF rfl))) rfl m.1 (by obtain ⟨b1, b2, b3, b4, b5, b6, b7, b8, b9, b10, b11, b12, b13, b14, b15, b16, b17, b18, b19, b20, b21⟩ := m.2.1; exact ⟨b1, b2, b3, b4, by show dn t + 1 + ud t ≤ 40; omega, b6, b7, b8, b9, b10, b11, b12, b13, b14, b15, b16, fun k hk => by have hk : k < dn t + 1 + ud t := hk; show ux (ao t) (dn t) f k ≤ 5 ∧ ux (aa t) (dn t) p k < 36 * ns t; unfold ux; split <;> first | exact ⟨hf, hp⟩ | exact b17 k (by omega), b18, b19, b20, b21⟩) ?_ (fun r => r))
  · refine ⟨hFI_s, ?_, fun k hk => ?_⟩
    · rw [hFI_sn (by decide)]
      exact m.f425
    · have hk : k < dn t + 1 + ud t := hk
      simp (disch := decide) only [hAI_sF, hAI_wo, hAI_w1]
      show (if k = dn t then nI f else hAI h (o + 18) k) = nI (ux (ao t) (dn t) f k) ∧ (if k = dn t then nI p else hAI h (o + 19) k) = nI (ux (aa t) (dn t) p k) ∧ (if k = dn t then was else hAI h (o + 20) k) = ux (be t) (dn t) was k ∧ (if k = dn t then is else hAI h (o + 21) k) = ux (bh t) (dn t) is k ∧ (if k = dn t then cw else hAI h (o + 22) k) = ux (cb t) (dn t) cw k
      unfold ux
      by_cases q : k = dn t
      · simp only [if_pos q, and_self]
      · simp only [if_neg q]
        exact m.Ac.2.2 k (by omega)
theorem uA_s {t : St} {k : Nat} : uA t k (t.2.1 k) = t := by
  obtain ⟨a, b, c, d⟩ := t
  have : (fun g => if g = k then b k else b g) = b := by funext g; split <;> simp_all
  simp only [uA, this]
theorem uI_s {t : St} {k : Nat} : uI t k (t.2.2.1 k) = t := by
  obtain ⟨a, b, c, d⟩ := t
  have : (fun g => if g = k then c k else c g) = c := by funext g; split <;> simp_all
  simp only [uI, this]
theorem uN_s {t : St} {k : Nat} : uN t k (t.1 k) = t := by
  obtain ⟨a, b, c, d⟩ := t
  have : (fun g => if g = k then a k else a g) = a := by funext g; split <;> simp_all
  simp only [uN, this]
theorem sh1_1 {α : Type} {f : Nat → α} : sh1 f 1 = f := by
  funext j
  unfold sh1
  rw [if_neg (by omega)]
theorem ctX4_kept {h : Hp} {o g f p : Nat} {t : St} {was is cw : Int32} (m : MS h o t g) (hf : f ≤ 5) (hp : p < 36 * ns t) : Ret mX4_kept 0 [vR (some o), vI (nI f), vI (nI p), vI was, vI is, vI cw] h 0 0 (RV fun h' => MS h' o (keptS t f p was is cw) g) := by
  refine Ret.go (by decide) rfl rfl RV.ret (bX4_kept_0 m ?_)
  intro h1 q1
  subst q1
  have hac := m.b_ac
  have m1 : MS (sFI h 425 o (nI 0)) o (uN t 4 0) g := by
    refine m.wAc (AG.oF rfl) rfl m.1 (by obtain ⟨b1, b2, b3, b4, b5, b6, b7, b8, b9, b10, b11, b12, b13, b14, b15, b16, b17, b18, b19, b20, b21⟩ := m.2.1; exact ⟨b1, b2, b3, b4, by show dn t + 0 ≤ 40; omega, b6, b7, b8, b9, b10, b11, b12, b13, b14, b15, b16, fun k hk => by have hk : k < dn t + 0 := hk; exact b17 k (by omega), b18, b19, b20, b21⟩) ?_ (fun r => r)
    refine ⟨by rw [hFI_sn (by decide)]; exact m.f424, hFI_s, fun k hk => ?_⟩
    have hk : k < dn t + 0 := hk
    exact m.Ac.2.2 k (by omega)
  rw [hFI_sn (by decide), m.f424]
  refine ⟨fun q => ?_, fun q => ?_⟩
  · rw [nI_eq (by omega) (by omega)] at q
    rw [keptS, if_neg q]
    exact ctX4_kept120 m1 (by show dn t < 40; omega) rfl hf hp
  · rw [nI_eq (by omega) (by omega)] at q
    rw [keptS, if_pos q]
    have hu : ud t = 0 := by omega
    have L : ∀ k, k ≤ 40 → 1 ≤ k → ∀ h, MS h o (shk (uN t 4 0) k) g → AWP mX4_kept 0 17 [vR (some o), vI (nI f), vI (nI p), vI was, vI is, vI cw, vI (nI k)] [] h (0, 0) (RV fun h' => MS h' o (keep1 (drop1 (uN t 4 0)) f p was is cw) g) := by
      refine lo_up ?_ ?_
      · intro k hk hS h1 h M
        refine bX4_kept_17 M ⟨fun z => absurd z (nI_ge hk (by omega)), fun _ => ?_⟩
        have vk := vp_in_nI hk (by omega)
        have vk1 := vp_in_nI (n := k - 1) (N := 40) (by omega) (by omega)
        rw [nI_sub h1, nt_nI (by omega), nt_nI (by omega)]
        refine ⟨vk, by show k < dn t + 0; omega, vk1, fun h1 q1 => ⟨vk, vk1, fun h2 q2 => ⟨vk, vk1, fun h3 q3 => ⟨vk, vk1, fun h4 q4 => ⟨vk, vk1, fun h5 q5 => ?_⟩⟩⟩⟩⟩
        subst q1 q2 q3 q4 q5
        rw [nI_add]
        refine hS (by omega) _ ?_
        have b17 := m.b_aa
        refine M.wAc ((((((AG.w rfl).tr (AG.w rfl)).tr (AG.w rfl)).tr (AG.w rfl)).tr (AG.w rfl))) rfl M.1 (by obtain ⟨b1, b2, b3, b4, b5, b6, b7, b8, b9, b10, b11, b12, b13, b14, b15, b16, b17, b18, b19, b20, b21⟩ := M.2.1; exact ⟨b1, b2, b3, b4, b5, b6, b7, b8, b9, b10, b11, b12, b13, b14, b15, b16, fun j hj => by have hj : j < dn t + 0 := hj; have c1 := b17 j hj; show sh1 (ao t) (k + 1) j ≤ 5 ∧ sh1 (aa t) (k + 1) j < 36 * ns t; rw [sh1_s (by omega), sh1_s (by omega)]; split <;> first | exact m.b_aa k (by omega) | exact c1, b18, b19, b20, b21⟩) ?_ (fun r => r)
        refine ⟨M.f424, M.f425, fun j hj => ?_⟩
        have hj : j < dn t + 0 := hj
        have M2 := M.Ac.2.2
        simp (disch := decide) only [hAI_wo, hAI_w1]
        show (if j = k - 1 then nI (sh1 (ao t) k k) else hAI h (o + 18) j) = nI (sh1 (ao t) (k + 1) j) ∧ (if j = k - 1 then hAI h (o + 19) k else hAI h (o + 19) j) = nI (sh1 (aa t) (k + 1) j) ∧ (if j = k - 1 then hAI h (o + 20) k else hAI h (o + 20) j) = sh1 (be t) (k + 1) j ∧ (if j = k - 1 then hAI h (o + 21) k else hAI h (o + 21) j) = sh1 (bh t) (k + 1) j ∧ (if j = k - 1 then hAI h (o + 22) k else hAI h (o + 22) j) = sh1 (cb t) (k + 1) j
        rw [sh1_s (by omega), sh1_s (by omega), sh1_s (by omega), sh1_s (by omega), sh1_s (by omega)]
        by_cases z : j = k - 1
        · simp only [if_pos z]
          have c := M2 k (by show k < dn t + 0; omega)
          have ek : ∀ {α : Type} {f : Nat → α}, sh1 f k k = f k := by intro α f; unfold sh1; rw [if_neg (by omega)]
          obtain ⟨c1, c2, c3, c4, c5⟩ := c
          refine ⟨?_, ?_, ?_, ?_, ?_⟩
          · rw [ek]
          · rw [c2]; show nI (sh1 (aa t) k k) = _; rw [ek]
          · rw [c3]; show sh1 (be t) k k = _; rw [ek]
          · rw [c4]; show sh1 (bh t) k k = _; rw [ek]
          · rw [c5]; show sh1 (cb t) k k = _; rw [ek]
        · simp only [if_neg z]
          exact M2 j hj
      · intro _ h M
        refine bX4_kept_17 M ⟨fun _ h2 q2 => ?_, fun z => absurd (nI_le (Nat.le_refl _) (by omega)) z⟩
        have q : dn t = 40 := q
        have e40 : dn (shk (uN t 4 0) 40) = 40 := q
        rw [e40, nI_sub (by omega)] at q2
        subst q2
        have M3 : MS (sFI h 424 o (nI (40 - 1))) o (drop1 (uN t 4 0)) g := by
          refine M.wAc (AG.oF rfl) rfl M.1 (by obtain ⟨b1, b2, b3, b4, b5, b6, b7, b8, b9, b10, b11, b12, b13, b14, b15, b16, b17, b18, b19, b20, b21⟩ := M.2.1; exact ⟨b1, b2, b3, b4, by show dn t - 1 + 0 ≤ 40; omega, b6, b7, b8, b9, b10, b11, b12, b13, b14, b15, b16, fun j hj => by have hj : j < dn t - 1 + 0 := hj; exact m.b_aa (j + 1) (by omega), b18, b19, b20, b21⟩) ?_ (fun r => r)
          refine ⟨by rw [hFI_s]; show _ = nI (dn t - 1); rw [q], by rw [hFI_sn (by decide)]; exact M.f425, fun j hj => ?_⟩
          have hj : j < dn t - 1 + 0 := hj
          have c := M.Ac.2.2 j (by show j < dn t + 0; omega)
          have ek : ∀ {α : Type} {f : Nat → α}, sh1 f 40 j = shf f j := by intro α f; unfold sh1 shf; rw [if_pos (by omega)]
          obtain ⟨c1, c2, c3, c4, c5⟩ := c
          refine ⟨?_, ?_, ?_, ?_, ?_⟩
          · rw [hAI_sF, c1]; show nI (sh1 (ao t) 40 j) = nI (shf (ao t) j); rw [ek]
          · rw [hAI_sF, c2]; show nI (sh1 (aa t) 40 j) = nI (shf (aa t) j); rw [ek]
          · rw [hAI_sF, c3]; show sh1 (be t) 40 j = shf (be t) j; rw [ek]
          · rw [hAI_sF, c4]; show sh1 (bh t) 40 j = shf (bh t) j; rw [ek]
          · rw [hAI_sF, c5]; show sh1 (cb t) 40 j = shf (cb t) j; rw [ek]
        exact ctX4_kept120 M3 (by show dn t - 1 < 40; omega) rfl hf hp
    refine L 1 (by omega) (by omega) _ ?_
    have e : shk (uN t 4 0) 1 = uN t 4 0 := by
      unfold shk
      simp only [sh1_1]
      have e1 : uA (uN t 4 0) 4 (ao (uN t 4 0)) = uN t 4 0 := uA_s
      have e2 : uA (uN t 4 0) 5 (aa (uN t 4 0)) = uN t 4 0 := uA_s
      have e3 : uI (uN t 4 0) 9 (be (uN t 4 0)) = uN t 4 0 := uI_s
      have e4 : uI (uN t 4 0) 10 (bh (uN t 4 0)) = uN t 4 0 := uI_s
      have e5 : uI (uN t 4 0) 11 (cb (uN t 4 0)) = uN t 4 0 := uI_s
      rw [e1, e2, e3, e4, e5]
    rw [e]
    exact m1
