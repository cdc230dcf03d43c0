theorem RIs {o g : Nat} {f y : St × Int32} {x : Int32} {h' : Hp} (e1 : f = y) (e2 : x = y.2) (e3 : MS h' o y.1 g) : RI (fun x h' => x = f.2 ∧ MS h' o f.1 g) (rI x) h' := by
  subst e1
  exact RI.i ⟨e2, e3⟩
theorem mir_b {t : St} (W : WF t) {p : Nat} (hp : p < 36 * ns t) : bo t (ix (p / 36) (p % 6) (p / 6 % 6)) = bo t p := by
  have := W.mirb (s := p / 36) (a := p / 6 % 6) (b := p % 6) (by omega) (Nat.mod_lt _ (by omega)) (Nat.mod_lt _ (by omega))
  rw [ix_of] at this
  exact this
theorem WF.act {h : Hp} {o g : Nat} {t : St} (W : WF t) (m : MS h o t g) {k : Nat} (hk : k < dn t + ud t) : (ao t k = 3 ∨ ao t k = 4 → aa t k < 36 * ns t ∧ bo t (aa t k) ≠ 0 ∧ bo t (ix (aa t k / 36) (aa t k % 6) (aa t k / 6 % 6)) = bo t (aa t k)) ∧ (ao t k ≠ 3 → ao t k ≠ 4 → aa t k < 6 * ns t) ∧ (ao t k = 2 → (be t k = 0 ∨ be t k = 1) ∧ (bh t k = 0 ∨ bh t k = 1)) := by
  obtain ⟨w1, T, w2, w3, w4⟩ := W.Ac
  obtain ⟨b5, b36⟩ := m.b_aa k hk
  refine ⟨fun q => ⟨b36, ((w4 k hk).2 q).1, mir_b W b36⟩, fun q3 q4 => ?_, fun q => ((w1 k hk (by omega)).2.2.1 q)⟩
  obtain ⟨s, c, hs, hc, e⟩ := (w1 k hk (by omega)).1
  have := m.b_nc s hs
  omega
theorem setA_dn {t : St} {f p : Nat} {v c : Int32} : dn (setA t f p v c) = dn t := by unfold setA; (repeat' split) <;> rfl
theorem setA_ud {t : St} {f p : Nat} {v c : Int32} : ud (setA t f p v c) = ud t := by unfold setA; (repeat' split) <;> rfl
theorem MS.wdu {h : Hp} {o g d u : Nat} {t : St} (m : MS h o t g) (e : d + u = dn t + ud t) : MS (sFI (sFI h 424 o (nI d)) 425 o (nI u)) o (uN (uN t 3 d) 4 u) g := by
  have hac := m.b_ac
  refine m.wAc (((AG.oF rfl).tr (AG.oF rfl))) rfl m.1 (by obtain ⟨b1, b2, b3, b4, b5, b6, b7, b8, b9, b10, b11, b12, b13, b14, b15, b16, b17, b18, b19, b20, b21⟩ := m.2.1; exact ⟨b1, b2, b3, b4, by show d + u ≤ 40; omega, b6, b7, b8, b9, b10, b11, b12, b13, b14, b15, b16, fun k hk => by have hk : k < d + u := hk; exact b17 k (by omega), b18, b19, b20, b21⟩) ?_ (fun r => r)
  exact ⟨by rw [hFI_sn (by decide), hFI_s]; rfl, hFI_s, fun k hk => m.Ac.2.2 k (by have hk : k < d + u := hk; omega)⟩
theorem ctX4_undo {h : Hp} {o g : Nat} {t : St} (m : MS h o t g) (W : WF t) : Ret mX4_undo 4 [vR (some o)] h 0 0 (RI fun x h' => x = (spUndo t).2 ∧ MS h' o (spUndo t).1 g) := by
  have hac := m.b_ac
  refine Ret.go (by decide) rfl rfl RI.ret (bX4_undo_0 m ⟨fun e => ?_, fun e => ?_⟩)
  · have e : dn t ≠ 0 := fun q => e (by rw [q]; rfl)
    intro h2 q2 h3 q3
    rw [nI_sub (by omega)] at q2
    subst q2
    rw [hFI_sn (by decide), m.f425, nI_add] at q3
    subst q3
    have m3 := m.wdu (d := dn t - 1) (u := ud t + 1) (by omega)
    have hk : dn t - 1 < dn t + ud t := by omega
    obtain ⟨c1, c2, c3⟩ := W.act m hk
    have b := m.b_aa _ hk
    rw [hFI_sn (by decide), hFI_s, nt_nI (by omega)]
    have vv := vp_in_nI (n := dn t - 1) (N := 40) (by omega) (by omega)
    refine ⟨vv, vv, vv, vv, ?_⟩
    rw [hAI_sF, hAI_sF, hAI_sF, hAI_sF, hAI_sF, hAI_sF, hAI_sF, hAI_sF, m.a18 hk, m.a19 hk, m.a20 hk, m.a22 hk]
    refine ⟨_, ctX4_set m3 b.1 c1 c2 (fun q => (c3 q).1), fun h5 m5 => ⟨m5.1, ?_⟩⟩
    rw [m5.f424]
    refine RIs (y := (setA (uN (uN t 3 (dn t - 1)) 4 (ud t + 1)) (ao t (dn t - 1)) (aa t (dn t - 1)) (be t (dn t - 1)) (cb t (dn t - 1)), nI (dn t - 1))) (by rw [spUndo, if_neg e]) ?_ m5
    rw [setA_dn]
    rfl
  · refine RIs (y := (t, -4)) (by rw [spUndo, if_pos]; have e : nI (dn t) = nI 0 := e; rwa [nI_eq (by omega) (by omega)] at e) rfl m
theorem ctX4_redo {h : Hp} {o g : Nat} {t : St} (m : MS h o t g) (W : WF t) : Ret mX4_redo 4 [vR (some o)] h 0 0 (RI fun x h' => x = (spRedo t).2 ∧ MS h' o (spRedo t).1 g) := by
  have hac := m.b_ac
  refine Ret.go (by decide) rfl rfl RI.ret (bX4_redo_0 m ⟨fun e => ?_, fun e => ?_⟩)
  · have e : ud t ≠ 0 := fun q => e (by rw [q]; rfl)
    have hk : dn t < dn t + ud t := by omega
    obtain ⟨c1, c2, c3⟩ := W.act m hk
    have b := m.b_aa _ hk
    have vv := vp_in_nI (n := dn t) (N := 40) (by omega) (by omega)
    rw [nt_nI (by omega)]
    refine ⟨vv, hk, vv, hk, vv, hk, vv, hk, vv, hk, _, ctX4_set m b.1 c1 c2 (fun q => (c3 q).2), fun h3 m3 => ⟨_, _, m3, fun h8 q8 h9 q9 => ?_⟩⟩
    rw [setA_dn, nI_add] at q8
    subst q8
    rw [hFI_sn (by decide), m3.f425, setA_ud, nI_sub (by omega)] at q9
    subst q9
    rw [hFI_s]
    have m4 := m3.wdu (d := dn t + 1) (u := ud t - 1) (by rw [setA_dn, setA_ud]; omega)
    refine RIs (y := (setA (uN (uN t 3 (dn t + 1)) 4 (ud t - 1)) (ao t (dn t)) (aa t (dn t)) (bh t (dn t)) (mnI (cb t (dn t)) (bh t (dn t))), nI (ud t - 1))) (by rw [spRedo, if_neg e]) rfl ?_
    have e2 : setA (uN (uN t 3 (dn t + 1)) 4 (ud t - 1)) (ao t (dn t)) (aa t (dn t)) (bh t (dn t)) (mnI (cb t (dn t)) (bh t (dn t))) = uN (uN (setA t (ao t (dn t)) (aa t (dn t)) (bh t (dn t)) (mnI (cb t (dn t)) (bh t (dn t)))) 3 (dn t + 1)) 4 (ud t - 1) := by unfold setA; (repeat' split) <;> rfl
    rw [e2]
    exact m4
  · refine RIs (y := (t, -4)) (by rw [spRedo, if_pos]; have e : nI (ud t) = nI 0 := e; rwa [nI_eq (by omega) (by omega)] at e) rfl m
theorem ctX4_damp {h : Hp} {o g : Nat} {t : St} {v : Int32} (m : MS h o t g) : Ret mX4_damp 1 [vR (some o), vI v] h 0 0 (RI fun x h' => x = (spDamp t v).2 ∧ MS h' o (spDamp t v).1 g) := by
  refine Ret.go (by decide) rfl rfl RI.ret (bX4_damp_0 m ⟨fun e h2 q => ?_, fun e => RIs (y := (t, -1)) (by rw [spDamp, if_pos (by exact e)]) rfl m⟩)
  obtain ⟨k, _, hk, rfl⟩ := bt_k (n := 500) e (by decide)
  subst q
  refine RIs (y := (uN t 9 k, nI (dp t))) (by rw [spDamp, if_neg (by exact fun z => z e), nt_nI (by omega)]) rfl ?_
  refine m.wBl ((AG.oF rfl)) rfl m.1 (by obtain ⟨b1, b2, b3, b4, b5, b6, b7, b8, b9, b10, b11, b12, b13, b14, b15, b16, b17, b18, b19, b20, b21⟩ := m.2.1; exact ⟨b1, b2, b3, b4, b5, b6, b7, b8, hk, b10, b11, b12, b13, b14, b15, b16, b17, b18, b19, b20, b21⟩) ?_ (fun r => r)
  obtain ⟨a1, a2, a3, a4, a5⟩ := m.Bl
  exact ⟨hFI_s, by rw [hFI_sn (by decide)]; exact a2, by rw [hFI_sn (by decide)]; exact a3, a4, a5⟩
theorem ctX4_ear {h : Hp} {o g : Nat} {t : St} {e c : Int32} (m : MS h o t g) : Ret mX4_ear 2 [vR (some o), vI e, vI c] h 0 0 (RI fun x h' => x = (spEar t e c).2 ∧ MS h' o (spEar t e c).1 g) := by
  refine Ret.go (by decide) rfl rfl RI.ret (bX4_ear_0 m ⟨fun q => RIs (y := (t, -2000000000)) (by rw [spEar, if_pos (by exact fun z => q z.1)]) rfl m, fun q1 => ⟨fun q2 => ?_, fun q => RIs (y := (t, -2000000000)) (by rw [spEar, if_pos (by exact fun z => q z.2)]) rfl m⟩⟩)
  obtain ⟨k, hk, rfl⟩ := bt_nI (n := 4) q1
  have ek : nt (nI k) = k := nt_nI (by omega)
  have vv := vp_in_nI (n := k) (N := 4) (by omega) (by omega)
  rw [ek]
  refine ⟨vv, hk, vv, fun h3 q => ?_⟩
  subst q
  refine RIs (y := (uI t 16 (ux (ea t) k c), ea t k)) (by rw [spEar, if_neg (by exact fun z => z ⟨q1, q2⟩), ek]) rfl ?_
  refine m.wBl ((AG.w rfl)) rfl m.1 m.2.1 ?_ (fun r => r)
  obtain ⟨a1, a2, a3, a4, a5⟩ := m.Bl
  refine ⟨a1, a2, a3, fun j hj => ?_, fun r hr => ?_⟩
  · simp (disch := decide) only [hAI_wo, hAI_w1]
    obtain ⟨c1, c2, c3⟩ := a4 j hj
    refine ⟨?_, c2, c3⟩
    rw [c1]
    rfl
  · simp (disch := decide) only [hAI_wo]
    exact a5 r hr
theorem ctX4_roll {h : Hp} {o g : Nat} {t : St} {c v w : Int32} (m : MS h o t g) : Ret mX4_roll 1 [vR (some o), vI c, vI v, vI w] h 0 0 (RI fun x h' => x = (spRoll t c v w).2 ∧ MS h' o (spRoll t c v w).1 g) := by
  have hr := m.b_rm
  refine Ret.go (by decide) rfl rfl RI.ret (bX4_roll_0 m ⟨fun q => RIs (y := (t, -1)) (by rw [spRoll, if_pos (by exact fun z => q z.1)]) rfl m, fun q1 => ⟨fun q => RIs (y := (t, -1)) (by rw [spRoll, if_pos (by exact fun z => q z.2.1)]) rfl m, fun q2 => ⟨fun q3 => ⟨fun z => ?_, fun z => ?_⟩, fun q => RIs (y := (t, -1)) (by rw [spRoll, if_pos (by exact fun z => q z.2.2)]) rfl m⟩⟩⟩)
  · obtain ⟨k, hk, rfl⟩ := bt_nI (n := 6) q1
    obtain ⟨n, _, hn, rfl⟩ := bt_k (n := 99) q3 (by decide)
    have ek : nt (nI k) = k := nt_nI (by omega)
    have en : nt (nI n) = n := nt_nI (by omega)
    have z6 : ¬ rm t = 6 := by rwa [nI_eq (by omega) (by omega)] at z
    have vv := vp_in_nI (n := rm t) (N := 6) (by omega) (by omega)
    rw [nt_nI (by omega)]
    refine ⟨vv, fun h5 q5 => ?_⟩
    subst q5
    rw [hFI_w1, m.f479, nt_nI (by omega)]
    refine ⟨vv, fun h5 q5 => ?_⟩
    subst q5
    rw [hFI_w1, hFI_w1, m.f479, nt_nI (by omega)]
    refine ⟨vv, fun h5 q5 h6 q6 => ?_⟩
    subst q5
    rw [hFI_w1, hFI_w1, hFI_w1, m.f479, nI_add] at q6
    subst q6
    rw [hFI_s]
    refine RIs (y := (uN (uA (uI (uA t 9 (ux (rc t) (rm t) k)) 19 (ux (rv t) (rm t) v)) 10 (ux (rw' t) (rm t) n)) 11 (rm t + 1), nI (rm t + 1))) (by rw [spRoll, if_neg (by exact fun z => z ⟨q1, q2, q3⟩), if_neg z6, ek, en]) rfl ?_
    refine m.wBl (((((AG.w rfl).tr (AG.w rfl)).tr (AG.w rfl)).tr (AG.oF rfl))) rfl m.1 (by obtain ⟨b1, b2, b3, b4, b5, b6, b7, b8, b9, b10, b11, b12, b13, b14, b15, b16, b17, b18, b19, b20, b21⟩ := m.2.1; exact ⟨b1, b2, b3, b4, b5, b6, b7, b8, b9, b10, by show rm t + 1 ≤ 6; omega, b12, b13, b14, b15, b16, b17, b18, b19, b20, fun r hr => by have hr : r < rm t + 1 := hr; show ux (rc t) (rm t) k r < 6 ∧ ux (rw' t) (rm t) n r ≤ 99; unfold ux; split <;> first | exact ⟨hk, hn⟩ | exact b21 r (by omega)⟩) ?_ (fun r => r)
    obtain ⟨a1, a2, a3, a4, a5⟩ := m.Bl
    refine ⟨by rw [hFI_sn (by decide)]; exact a1, by rw [hFI_sn (by decide)]; exact a2, hFI_s, fun j hj => ?_, fun r hr => ?_⟩
    · simp (disch := decide) only [hAI_sF, hAI_wo]
      exact a4 j hj
    · have hr : r < rm t + 1 := hr
      simp (disch := decide) only [hAI_sF, hAI_wo, hAI_w1]
      show (if r = rm t then nI k else hAI h (o + 50) r) = nI (ux (rc t) (rm t) k r) ∧ (if r = rm t then v else hAI h (o + 51) r) = ux (rv t) (rm t) v r ∧ (if r = rm t then nI n else hAI h (o + 52) r) = nI (ux (rw' t) (rm t) n r)
      unfold ux
      by_cases q : r = rm t
      · simp only [if_pos q, and_self]
      · simp only [if_neg q]
        exact a5 r (by omega)
  · exact RIs (y := (t, -3)) (by rw [spRoll, if_neg (by exact fun z => z ⟨q1, q2, q3⟩), if_pos]; rwa [nI_eq (by omega) (by omega)] at z) rfl m
theorem ctX4_ratio {h : Hp} {o g : Nat} {t : St} {a b : Int32} (m : MS h o t g) : Ret mX4_ratio 1 [vR (some o), vI a, vI b] h 0 0 (RI fun x h' => x = (spRatio t a b).2 ∧ MS h' o (spRatio t a b).1 g) := by
  have hr := m.b_rt
  refine Ret.go (by decide) rfl rfl RI.ret (bX4_ratio_0 m ⟨fun q => RIs (y := (t, -1)) (by rw [spRatio, if_pos (by exact fun z => q z.1)]) rfl m, fun q1 => ⟨fun q2 => ⟨fun z => ?_, fun z => ?_⟩, fun q => RIs (y := (t, -1)) (by rw [spRatio, if_pos (by exact fun z => q z.2)]) rfl m⟩⟩)
  · have z6 : ¬ rt t = 6 := by rwa [nI_eq (by omega) (by omega)] at z
    have vv := vp_in_nI (n := rt t) (N := 6) (by omega) (by omega)
    rw [nt_nI (by omega)]
    refine ⟨vv, fun h5 q5 => ?_⟩
    subst q5
    rw [hFI_w1, m.f483, nt_nI (by omega)]
    refine ⟨vv, fun h5 q5 h6 q6 => ?_⟩
    subst q5
    rw [hFI_w1, hFI_w1, m.f483, nI_add] at q6
    subst q6
    rw [hFI_s]
    refine RIs (y := (uN (uI (uI t 20 (ux (ra t) (rt t) a)) 21 (ux (rb t) (rt t) b)) 12 (rt t + 1), nI (rt t + 1))) (by rw [spRatio, if_neg (by exact fun z => z ⟨q1, q2⟩), if_neg z6]) rfl ?_
    refine m.wRt ((((AG.w rfl).tr (AG.w rfl)).tr (AG.oF rfl))) rfl m.1 (by obtain ⟨b1, b2, b3, b4, b5, b6, b7, b8, b9, b10, b11, b12, b13, b14, b15, b16, b17, b18, b19, b20, b21⟩ := m.2.1; exact ⟨b1, b2, b3, b4, b5, b6, b7, b8, b9, b10, b11, by show rt t + 1 ≤ 6; omega, b13, b14, b15, b16, b17, b18, b19, b20, b21⟩) ⟨hFI_s, fun r hr => ?_⟩ (fun r => r)
    have hr : r < rt t + 1 := hr
    simp (disch := decide) only [hAI_sF, hAI_wo, hAI_w1]
    show (if r = rt t then a else hAI h (o + 53) r) = ux (ra t) (rt t) a r ∧ (if r = rt t then b else hAI h (o + 54) r) = ux (rb t) (rt t) b r
    unfold ux
    by_cases q : r = rt t
    · simp only [if_pos q, and_self]
    · simp only [if_neg q]
      exact m.Rt.2 r (by omega)
  · exact RIs (y := (t, -3)) (by rw [spRatio, if_neg (by exact fun z => z ⟨q1, q2⟩), if_pos]; rwa [nI_eq (by omega) (by omega)] at z) rfl m
theorem ctX4_unratio {h : Hp} {o g : Nat} {t : St} (m : MS h o t g) : Ret mX4_unratio 0 [vR (some o)] h 0 0 (RI fun x h' => x = (spUnratio t).2 ∧ MS h' o (spUnratio t).1 g) := by
  refine Ret.go (by decide) rfl rfl RI.ret (bX4_unratio_0 m fun h1 q => ?_)
  subst q
  exact RIs rfl rfl (m.wRt ((AG.oF rfl)) rfl m.1 (by obtain ⟨b1, b2, b3, b4, b5, b6, b7, b8, b9, b10, b11, b12, b13, b14, b15, b16, b17, b18, b19, b20, b21⟩ := m.2.1; exact ⟨b1, b2, b3, b4, b5, b6, b7, b8, b9, b10, b11, by show 0 ≤ 6; omega, b13, b14, b15, b16, b17, b18, b19, b20, b21⟩) ⟨hFI_s, fun r hr => absurd hr (Nat.not_lt_zero r)⟩ (fun r => r))
theorem ctX4_hear {h : Hp} {o g : Nat} {t : St} {v : Int32} (m : MS h o t g) : Ret mX4_hear 1 [vR (some o), vI v] h 0 0 (RI fun x h' => x = (spHear t v).2 ∧ MS h' o (spHear t v).1 g) := by
  have hr := m.b_hm
  refine Ret.go (by decide) rfl rfl RI.ret (bX4_hear_0 m ⟨fun q1 => ⟨fun z => ?_, fun z => ?_⟩, fun q => RIs (y := (t, -1)) (by rw [spHear, if_pos (by exact q)]) rfl m⟩)
  · have z6 : ¬ hm t = 6 := by rwa [nI_eq (by omega) (by omega)] at z
    have vv := vp_in_nI (n := hm t) (N := 6) (by omega) (by omega)
    rw [nt_nI (by omega)]
    refine ⟨vv, fun h5 q5 h6 q6 => ?_⟩
    subst q5
    rw [hFI_w1, m.f465, nI_add] at q6
    subst q6
    rw [hFI_s]
    refine RIs (y := (uN (uI t 15 (ux (hi t) (hm t) v)) 8 (hm t + 1), nI (hm t + 1))) (by rw [spHear, if_neg (by exact fun z => z q1), if_neg z6]) rfl ?_
    refine m.wHe (((AG.w rfl).tr (AG.oF rfl))) rfl m.1 (by obtain ⟨b1, b2, b3, b4, b5, b6, b7, b8, b9, b10, b11, b12, b13, b14, b15, b16, b17, b18, b19, b20, b21⟩ := m.2.1; exact ⟨b1, b2, b3, b4, b5, b6, b7, by show hm t + 1 ≤ 6; omega, b9, b10, b11, b12, b13, b14, b15, b16, b17, b18, b19, b20, b21⟩) ⟨hFI_s, fun r hr => ?_⟩ (fun r => r)
    have hr : r < hm t + 1 := hr
    rw [hAI_sF, hAI_w1]
    show (if r = hm t then v else hAI h (o + 42) r) = ux (hi t) (hm t) v r
    unfold ux
    by_cases q : r = hm t
    · simp only [if_pos q]
    · simp only [if_neg q]
      exact m.He.2 r (by omega)
  · exact RIs (y := (t, -3)) (by rw [spHear, if_neg (by exact fun z => z q1), if_pos]; rwa [nI_eq (by omega) (by omega)] at z) rfl m
theorem ctX4_unhear {h : Hp} {o g : Nat} {t : St} (m : MS h o t g) : Ret mX4_unhear 0 [vR (some o)] h 0 0 (RI fun x h' => x = (spUnhear t).2 ∧ MS h' o (spUnhear t).1 g) := by
  refine Ret.go (by decide) rfl rfl RI.ret (bX4_unhear_0 m fun h1 q => ?_)
  subst q
  exact RIs rfl rfl (m.wHe ((AG.oF rfl)) rfl m.1 (by obtain ⟨b1, b2, b3, b4, b5, b6, b7, b8, b9, b10, b11, b12, b13, b14, b15, b16, b17, b18, b19, b20, b21⟩ := m.2.1; exact ⟨b1, b2, b3, b4, b5, b6, b7, by show 0 ≤ 6; omega, b9, b10, b11, b12, b13, b14, b15, b16, b17, b18, b19, b20, b21⟩) ⟨hFI_s, fun r hr => absurd hr (Nat.not_lt_zero r)⟩ (fun r => r))
theorem ctX4_forget {h : Hp} {o g : Nat} {t : St} (m : MS h o t g) : Ret mX4_forget 0 [vR (some o)] h 0 0 (RI fun x h' => x = (spForget t).2 ∧ MS h' o (spForget t).1 g) := by
  refine Ret.go (by decide) rfl rfl RI.ret (bX4_forget_0 m fun h1 q h2 q2 => ?_)
  subst q q2
  refine RIs rfl rfl (m.wPl (((AG.oF rfl).tr (AG.oF rfl))) rfl m.1 (by obtain ⟨b1, b2, b3, b4, b5, b6, b7, b8, b9, b10, b11, b12, b13, b14, b15, b16, b17, b18, b19, b20, b21⟩ := m.2.1; exact ⟨b1, b2, b3, b4, b5, by show 0 ≤ 6; omega, by show 0 ≤ 6; omega, b8, b9, b10, b11, b12, b13, b14, b15, b16, b17, b18, fun r hr => absurd hr (Nat.not_lt_zero r), fun r hr => absurd hr (Nat.not_lt_zero r), b21⟩) ⟨by rw [hFI_sn (by decide), hFI_s]; rfl, by rw [hFI_sn (by decide), hFI_sn (by decide)]; exact m.f452, hFI_s, fun r hr => absurd hr (Nat.not_lt_zero r), fun r hr => absurd hr (Nat.not_lt_zero r)⟩ (fun r => r))
