def MT (h : Hp) (o : Nat) (M : Nat → Nat → Int64) (r : Nat) : Prop := r ≤ 6 ∧ hFI h 437 o = nI r ∧ ∀ i < r, ∀ j < r, hAL h (o + 27) (6 * i + j) = M i j
theorem MT.fr {h h' : Hp} {o r : Nat} {M : Nat → Nat → Int64} {F A L : List Nat} (m : MT h o M r) (e : FR h h' o F A L) (hf : F.contains 437 = false) (hl : L.contains 27 = false) : MT h' o M r := by
  unfold MT
  rw [e.1 437 hf, e.2.2 27 hl]
  exact m
theorem rws_le (k : Tk) : (rws k).length ≤ kN k := by
  have := List.length_filter_le (fun a => decide (kH k a = 0)) (List.range (kN k))
  rwa [List.length_range] at this
/-- the rows among the first a corners -/
def rwf (k : Tk) (a : Nat) : List Nat := (List.range a).filter (fun a => decide (kH k a = 0))
theorem rwf_s {k : Tk} {a : Nat} : rwf k (a + 1) = if kH k a = 0 then rwf k a ++ [a] else rwf k a := by
  unfold rwf
  rw [List.range_succ, List.filter_append]
  by_cases q : kH k a = 0
  · rw [if_pos q]; simp [q]
  · rw [if_neg q]; simp [q]
theorem rwf_lt {k : Tk} {a x : Nat} (h : x ∈ rwf k a) : x < a := by
  unfold rwf at h
  rw [List.mem_filter, List.mem_range] at h
  exact h.1
theorem getD_app {l : List Nat} {x i : Nat} : (l ++ [x]).getD i 0 = if i < l.length then l.getD i 0 else if i = l.length then x else 0 := by
  simp only [List.getD_eq_getElem?_getD, List.getElem?_append]
  by_cases q : i < l.length
  · rw [if_pos q, if_pos q]
  · rw [if_neg q, if_neg q]
    by_cases q2 : i = l.length
    · rw [if_pos q2, q2]; simp
    · rw [if_neg q2]
      rw [List.getElem?_eq_none (by simp; omega)]
      rfl
theorem rwa_lt {k : Tk} {i : Nat} (h : i < (rws k).length) : rwa k i < kN k := by
  unfold rwa
  rw [List.getD_eq_getElem?_getD, List.getElem?_eq_getElem h]
  exact rwf_lt (k := k) (List.getElem_mem h)
theorem ctX4_layMatrix {h : Hp} {o g : Nat} {t : St} {k : Tk} {p q : Int32} (m : MS h o t (g + 1)) (K : TK h o k) : Ret mX4_layMatrix 0 [vR (some o), vI p, vI q] h 0 0 (RV fun h' => MS h' o t g ∧ MT h' o (mt k p q) (rws k).length ∧ (∀ i < 4096, hAI h' (o + 31) i ≠ hFI h' 442 o) ∧ FR h h' o [442, 437] [29] [27]) := by
  have h6 := K.1
  refine Ret.go (by decide) rfl rfl RV.ret (bX4_layMatrix_0 m fun h1 q1 h2 q2 => ?_)
  obtain ⟨n, gn, gb, gm⟩ := m.Gs
  rw [gn, nI_add] at q1
  have m2 : MS h2 o t g := by
    have e1 : AG h h2 o (pF.filter (· ≠ 442)) pK := by
      rw [q2, q1]
      exact (AG.oF (by decide +kernel)).tr (AG.oF (by decide +kernel))
    have mo : MO h2 o := by rw [q2, q1]; exact m.1
    have el : hAL h2 (o + 60) = hAL h (o + 60) := by rw [q2, q1]; rfl
    refine ⟨mo, m.2.1, m.Sh.fr (e1.sub (by decide +kernel) (by decide +kernel)), m.Bo.fr (e1.sub (by decide +kernel) (by decide +kernel)), m.Tp.fr (e1.sub (by decide +kernel) (by decide +kernel)), m.Ac.fr (e1.sub (by decide +kernel) (by decide +kernel)), m.Pl.fr (e1.sub (by decide +kernel) (by decide +kernel)), m.He.fr (e1.sub (by decide +kernel) (by decide +kernel)), m.Bl.fr (e1.sub (by decide +kernel) (by decide +kernel)), m.Rt.fr (e1.sub (by decide +kernel) (by decide +kernel)), m.Tr.fr (e1.sub (by decide +kernel) (by decide +kernel)), m.Sv.fr (e1.sub (by decide +kernel) (by decide +kernel)) el, n + 1, ?_, by omega, fun i hi => ?_⟩
    · rw [q2, q1, hFI_sn (by decide), hFI_s]
    · obtain ⟨x, hx, ex⟩ := gm i hi
      exact ⟨x, by omega, by rw [q2, q1]; exact ex⟩
  have N2 : ∀ i < 4096, hAI h2 (o + 31) i ≠ hFI h2 442 o := by
    intro i hi
    obtain ⟨x, hx, ex⟩ := gm i hi
    rw [q2, q1, hFI_sn (by decide), hFI_s, hAI_sF, hAI_sF, ex]
    intro z
    rw [nI_eq (by omega) (by omega)] at z
    omega
  have F2 : FR h h2 o [442, 437] [29] [27] := by
    rw [q2, q1]
    exact (FR.oF rfl).tr (FR.oF rfl)
  have e37 : hFI h2 437 o = nI 0 := by rw [q2]; exact hFI_s
  clear q1 q2
  -- what stays of stamps
  have NF : ∀ h', FR h2 h' o [437] [29] [27] → (∀ i < 4096, hAI h' (o + 31) i ≠ hFI h' 442 o) := by
    intro h' e i hi
    rw [e.1 442 rfl, e.2.1 31 rfl]
    exact N2 i hi
  -- the matrix
  have L4 : ∀ i, i ≤ (rws k).length → ∀ h' y4 y5 y6, MS h' o t g → FR h2 h' o [437] [29] [27] → hFI h' 437 o = nI (rws k).length → (∀ j < (rws k).length, hAI h' (o + 29) j = nI (rwa k j)) → (∀ a < i, ∀ j < (rws k).length, hAL h' (o + 27) (6 * a + j) = mt k p q a j) → AWP mX4_layMatrix 0 65 [vR (some o), vI p, vI q, vI (nI i), y4, y5, y6] [] h' (0, 0) (RV fun h' => MS h' o t g ∧ MT h' o (mt k p q) (rws k).length ∧ (∀ i < 4096, hAI h' (o + 31) i ≠ hFI h' 442 o) ∧ FR h h' o [442, 437] [29] [27]) := by
    have hr := rws_le k
    refine lo_up ?_ ?_
    · intro i hi hS h' y4 y5 y6 M F e7 R MX
      have ei : nt (nI i) = i := nt_nI (by omega)
      have ha := rwa_lt hi
      have ea' : nt (nI (rwa k i)) = rwa k i := nt_nI (by omega)
      have K1 : TK h' o k := (K.fr (F2.mono (F' := [442, 437]) (A' := [29]) (L' := [27]) rfl rfl rfl) rfl rfl rfl rfl rfl).fr F rfl rfl rfl rfl rfl
      refine bX4_layMatrix_65 M ?_
      rw [e7, ei, R i hi, ea', (K1.2.2 _ ha).2.1]
      refine ⟨fun z => absurd z (nI_ge hi (by omega)), fun _ => ⟨vp_in_nI (by omega) (by omega), vp_in_nI (by omega) (by omega), ?_⟩⟩
      have L5 : ∀ b, b ≤ kN k → AWP mX4_layMatrix 0 93 [vR (some o), vI p, vI q, vI (nI i), vI (nI (rwa k i)), vI (kP k (rwa k i) + sumI (kC k (rwa k i)) b), vI (nI b)] [] h' (0, 0) (RV fun h' => MS h' o t g ∧ MT h' o (mt k p q) (rws k).length ∧ (∀ i < 4096, hAI h' (o + 31) i ≠ hFI h' 442 o) ∧ FR h h' o [442, 437] [29] [27]) := by
        refine lo_up ?_ ?_
        · intro b hb hS2
          refine bX4_layMatrix_93 M ?_
          rw [K1.2.1, pk_mul, nI_add, nt_nI (by omega), (K1.2.2 _ ha).2.2.2 b hb, nI_add]
          refine ⟨fun z => absurd z (nI_ge hb (by omega)), fun _ => ⟨vp_in_nI (by omega) (by omega), ?_⟩⟩
          have e : kP k (rwa k i) + sumI (kC k (rwa k i)) b + kC k (rwa k i) b = kP k (rwa k i) + sumI (kC k (rwa k i)) (b + 1) := by rw [sumI, Int32.add_assoc]
          rw [e]
          exact hS2
        · refine bX4_layMatrix_93 M ?_
          rw [K1.2.1]
          refine ⟨fun _ => ?_, fun z => absurd (nI_le (Nat.le_refl _) (by omega)) z⟩
          have L6 : ∀ j, j ≤ (rws k).length → ∀ h', MS h' o t g → FR h2 h' o [437] [29] [27] → hFI h' 437 o = nI (rws k).length → (∀ j < (rws k).length, hAI h' (o + 29) j = nI (rwa k j)) → (∀ a < i, ∀ j < (rws k).length, hAL h' (o + 27) (6 * a + j) = mt k p q a j) → (∀ b < j, hAL h' (o + 27) (6 * i + b) = mt k p q i b) → AWP mX4_layMatrix 0 129 [vR (some o), vI p, vI q, vI (nI i), vI (nI (rwa k i)), vI (kP k (rwa k i) + sumI (kC k (rwa k i)) (kN k)), vI (nI j)] [] h' (0, 0) (RV fun h' => MS h' o t g ∧ MT h' o (mt k p q) (rws k).length ∧ (∀ i < 4096, hAI h' (o + 31) i ≠ hFI h' 442 o) ∧ FR h h' o [442, 437] [29] [27]) := by
            refine lo_up ?_ ?_
            · intro j hj hS3 h' M F e7 R MX MY
              have K1 : TK h' o k := (K.fr (F2.mono (F' := [442, 437]) (A' := [29]) (L' := [27]) rfl rfl rfl) rfl rfl rfl rfl rfl).fr F rfl rfl rfl rfl rfl
              have hb := rwa_lt hj
              have fin : ∀ x, x = mt k p q i j → AWP mX4_layMatrix 0 129 [vR (some o), vI p, vI q, vI (nI i), vI (nI (rwa k i)), vI (kP k (rwa k i) + sumI (kC k (rwa k i)) (kN k)), vI (nI (j + 1))] [] (wL h' (o + 27) (6 * i + j) x) (0, 0) (RV fun h' => MS h' o t g ∧ MT h' o (mt k p q) (rws k).length ∧ (∀ i < 4096, hAI h' (o + 31) i ≠ hFI h' 442 o) ∧ FR h h' o [442, 437] [29] [27]) := by
                intro x ex
                refine hS3 _ (M.fr (PE.wl (by decide))) (F.tr (FR.wl rfl)) e7 R (fun a ha b hb => ?_) (fun b hb => ?_)
                · rw [hAL_wL, if_neg (by omega)]
                  exact MX a ha b hb
                · rw [hAL_wL]
                  by_cases c : b = j
                  · rw [if_pos (by omega), c, ex]
                  · rw [if_neg (by omega)]
                    exact MY b (by omega)
              refine bX4_layMatrix_129 M ?_
              rw [e7, pk_mul, pk_mul, nt_nI (show j < 2 ^ 31 by omega), R j hj, nI_add, nI_add, nI_add, nt_nI (by omega), nt_nI (by omega), ea', (K1.2.2 _ ha).2.2.2 _ hb, (K1.2.2 _ ha).1]
              refine ⟨fun z => absurd z (nI_ge hj (by omega)), fun _ => ⟨fun z => ⟨vp_in_nI (by omega) (by omega), vp_in_nI (by omega) (by omega), vp_in_nI (by omega) (by omega), fun h3 q3 => ?_⟩, fun z => ⟨vp_in_nI (by omega) (by omega), vp_in_nI (by omega) (by omega), fun h3 q3 => ?_⟩⟩⟩
              · rw [q3, nI_add]
                refine fin _ ?_
                rw [mt, if_neg]
                intro c
                exact z (by rw [c])
              · rw [q3, nI_add]
                refine fin _ ?_
                rw [nI_eq (by omega) (by omega)] at z
                rw [mt, if_pos z]
            · intro h' M F e7 R MX MY
              refine bX4_layMatrix_129 M ?_
              rw [e7]
              refine ⟨fun _ => ?_, fun z => absurd (nI_le (Nat.le_refl _) (by omega)) z⟩
              rw [nI_add]
              refine hS _ _ _ _ M F e7 R (fun a ha j hj => ?_)
              by_cases c : a = i
              · rw [c]; exact MY j hj
              · exact MX a (by omega) j hj
          exact L6 0 (by omega) h' M F e7 R MX (fun b hb => absurd hb (Nat.not_lt_zero b))
      have := L5 0 (by omega)
      rwa [sumI, show kP k (rwa k i) + 0 = kP k (rwa k i) from Int32.add_zero _] at this
    · intro h' y4 y5 y6 M F e7 R MX
      refine bX4_layMatrix_65 M ?_
      rw [e7]
      refine ⟨fun _ => RV.i ⟨M, ⟨by omega, e7, MX⟩, NF h' F, F2.tr (F.mono rfl rfl rfl)⟩, fun z => absurd (nI_le (Nat.le_refl _) (by omega)) z⟩
  -- the rows
  have L3 : ∀ a, a ≤ kN k → ∀ h', MS h' o t g → FR h2 h' o [437] [29] [27] → hFI h' 437 o = nI (rwf k a).length → (∀ j < (rwf k a).length, hAI h' (o + 29) j = nI ((rwf k a).getD j 0)) → AWP mX4_layMatrix 0 17 [vR (some o), vI p, vI q, vI (nI a), vU, vU, vU] [] h' (0, 0) (RV fun h' => MS h' o t g ∧ MT h' o (mt k p q) (rws k).length ∧ (∀ i < 4096, hAI h' (o + 31) i ≠ hFI h' 442 o) ∧ FR h h' o [442, 437] [29] [27]) := by
    refine lo_up ?_ ?_
    · intro a ha hS h' M F e7 R
      have K1 : TK h' o k := (K.fr (F2.mono (F' := [442, 437]) (A' := [29]) (L' := [27]) rfl rfl rfl) rfl rfl rfl rfl rfl).fr F rfl rfl rfl rfl rfl
      have ea' : nt (nI a) = a := nt_nI (by omega)
      have hl : (rwf k a).length ≤ a := by
        have := List.length_filter_le (fun a => decide (kH k a = 0)) (List.range a)
        rwa [List.length_range] at this
      refine bX4_layMatrix_17 M ?_
      rw [K1.2.1, ea', (K1.2.2 a ha).2.2.1, e7, nt_nI (by omega), nI_add]
      refine ⟨fun z => absurd z (nI_ge ha (by omega)), fun _ => ⟨vp_in_nI (by omega) (by omega), fun z => ⟨vp_in_nI (by omega) (by omega), fun h3 q3 h4 q4 => ?_⟩, fun z => hS h' M F (by rw [rwf_s, if_neg z]; exact e7) (by rw [rwf_s, if_neg z]; exact R)⟩⟩
      subst q3
      rw [hFI_w1, e7, nI_add] at q4
      subst q4
      refine hS _ ((M.fr (PE.w rfl)).fr (PE.F rfl)) ((F.tr (FR.w rfl)).tr (FR.oF rfl)) ?_ (fun j hj => ?_)
      · rw [hFI_s, rwf_s, if_pos z, List.length_append]
        rfl
      · rw [rwf_s, if_pos z] at hj ⊢
        rw [hAI_sF, hAI_w1, getD_app]
        rw [List.length_append] at hj
        have hj : j < (rwf k a).length + 1 := hj
        by_cases c : j = (rwf k a).length
        · rw [if_pos c, if_neg (by omega), if_pos c]
        · rw [if_neg c, if_pos (by omega)]
          exact R j (by omega)
    · intro h' M F e7 R
      have K1 : TK h' o k := (K.fr (F2.mono (F' := [442, 437]) (A' := [29]) (L' := [27]) rfl rfl rfl) rfl rfl rfl rfl rfl).fr F rfl rfl rfl rfl rfl
      refine bX4_layMatrix_17 M ?_
      rw [K1.2.1]
      exact ⟨fun _ => L4 0 (by omega) h' _ _ _ M F e7 R (fun a ha => absurd ha (Nat.not_lt_zero a)), fun z => absurd (nI_le (Nat.le_refl _) (by omega)) z⟩
  exact L3 0 (by omega) h2 m2 FR.rf e37 (fun j hj => absurd hj (Nat.not_lt_zero j))
