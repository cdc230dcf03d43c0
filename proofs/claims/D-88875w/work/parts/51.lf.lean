theorem keptS_ns {t : St} {f p : Nat} {x y z : Int32} : ns (keptS t f p x y z) = ns t := by unfold keptS; split <;> rfl
theorem keptS_bo {t : St} {f p : Nat} {x y z : Int32} : bo (keptS t f p x y z) = bo t := by unfold keptS; split <;> rfl
theorem keptS_sf {t : St} {f p : Nat} {x y z : Int32} : sf (keptS t f p x y z) = sf t := by unfold keptS; split <;> rfl
theorem keptS_ck {t : St} {f p : Nat} {x y z : Int32} : ck (keptS t f p x y z) = ck t := by unfold keptS; split <;> rfl
theorem keptS_hv {t : St} {f p : Nat} {x y z : Int32} : hv (keptS t f p x y z) = hv t := by unfold keptS; split <;> rfl
theorem keptS_pd {t : St} {f p : Nat} {x y z : Int32} : pd (keptS t f p x y z) = pd t := by unfold keptS; split <;> rfl
theorem keptS_wg {t : St} {f p : Nat} {x y z : Int32} : wg (keptS t f p x y z) = wg t := by unfold keptS; split <;> rfl
theorem keptS_hl {t : St} {f p : Nat} {x y z : Int32} : hl (keptS t f p x y z) = hl t := by unfold keptS; split <;> rfl
theorem keptS_nc {t : St} {f p : Nat} {x y z : Int32} : nc (keptS t f p x y z) = nc t := by unfold keptS; split <;> rfl
theorem keptS_nb {t : St} {f p : Nat} {x y z : Int32} : nb (keptS t f p x y z) = nb t := by unfold keptS; split <;> rfl
theorem keptS_li {t : St} {f p : Nat} {x y z : Int32} : li (keptS t f p x y z) = li t := by unfold keptS; split <;> rfl
theorem keptS_bk {t : St} {f p : Nat} {x y z : Int32} : bk (keptS t f p x y z) = bk t := by unfold keptS; split <;> rfl
theorem ctX4_put {h : Hp} {o g : Nat} {t : St} {s c w v : Int32} (m : MS h o t g) (W : WF t) : Ret mX4_put 4 [vR (some o), vI s, vI c, vI w, vI v] h 0 0 (RI fun x h' => x = (spPut t s c w v).2 ∧ MS h' o (spPut t s c w v).1 g) := by
  refine Ret.go (by decide) rfl rfl RI.ret (bX4_put_0 m ⟨fun e => RI.i ⟨?_, ?_⟩, fun h1 => ⟨h1, fun e => RI.i ⟨?_, ?_⟩, fun h2 => ⟨fun e => RI.i ⟨?_, ?_⟩, fun h3 => ?_⟩⟩⟩)
  · simp [spPut, e]
  · simp only [spPut, e, Bool.false_eq_true, false_and, not_false_eq_true, if_true]; exact m
  · simp [spPut, e]
  · simp only [spPut, e, Bool.false_eq_true, false_and, and_false, not_false_eq_true, if_true]; exact m
  · simp [spPut, e]
  · simp only [spPut, e, Bool.false_eq_true, false_and, and_false, not_false_eq_true, if_true]; exact m
  · have hn := m.b_ns
    obtain ⟨k, i, hk, hi, hi6, rfl, rfl, e1, e2⟩ := isCoN m h1 h2
    obtain ⟨n, _, hn2, rfl⟩ := bt_k (n := 2) h3 (by decide)
    have e3 : nt (nI n) = n := nt_nI (by omega)
    have hx : 6 * k + i < 6 * ns t := by omega
    have hv := vp_in_nI (n := 6 * k + i) (N := 78) (by omega) (by omega)
    have e4 : nt (nI (6 * k + i)) = 6 * k + i := nt_nI (by omega)
    have key : ∀ (H : Int), (bt v 0 H = true → H ≤ 9 ∧ (n = 2 → H = 1)) → (H = if nI n = 2 then 1 else 9) → ∀ hh : Int32, hh.toInt = H → AWP mX4_put 4 40 [vR (some o), vI (nI k), vI (nI i), vI (nI n), vI v, vU, vU] [vI hh, vI (nI 0), vI v] h (0, 0) (RI fun x h' => x = (spPut t (nI k) (nI i) (nI n) v).2 ∧ MS h' o (spPut t (nI k) (nI i) (nI n) v).1 g) := by
      intro H H1 H2 hh hH
      refine bX4_put_40 m ⟨fun q => ?_, fun q => RI.i ⟨?_, ?_⟩⟩
      · have q := (bt_lit (show (nI 0).toInt = 0 from rfl) hH).mp q
        have G : ¬ ¬ (isSh t (nI k) = true ∧ isCo t (nI k) (nI i) = true ∧ bt (nI n) 0 2 = true ∧ bt v 0 (if nI n = 2 then 1 else 9) = true) := by rw [← H2]; exact fun z => z ⟨h1, h2, h3, q⟩
        have fin : ∀ x, x = t.2.2.1 (1 + n) (6 * k + i) → AWP mX4_put 4 100 [vR (some o), vI (nI k), vI (nI i), vI (nI n), vI v, vI (nI (6 * k + i)), vU] [vI x] h (0, 0) (RI fun x h' => x = (spPut t (nI k) (nI i) (nI n) v).2 ∧ MS h' o (spPut t (nI k) (nI i) (nI n) v).1 g) := by
          intro x hx2
          refine bX4_put_100 m ⟨fun z => ?_, fun z => RI.i ?_⟩
          · have E : spPut t (nI k) (nI i) (nI n) v = (setA (keptS t n (6 * k + i) x v 0) n (6 * k + i) v 0, x) := by
              rw [spPut, if_neg G, e1, e2, e3, ← hx2, if_neg z]
            refine ⟨_, ctX4_kept m (by omega) (by omega), fun h3 m3 => ⟨_, _, m3, _, ctX4_set m3 (by omega) (by omega) (fun _ _ => by rw [keptS_ns]; exact hx) (fun z2 => ?_), fun h4 m4 => ⟨_, _, m4, RI.i ?_⟩⟩⟩
            · have := (H1 q).2 z2
              rw [bt_iff, this] at q
              have : v.toInt = 0 ∨ v.toInt = 1 := by omega
              rcases this with z | z
              · left; rw [eq_i]; exact z
              · right; rw [eq_i]; exact z
            · rw [E]
              exact ⟨rfl, m4⟩
          · have E : spPut t (nI k) (nI i) (nI n) v = (t, v) := by
              rw [spPut, if_neg G, e1, e2, e3, ← hx2, if_pos z]
            rw [E]
            exact ⟨z, m⟩
        rw [pk_mul, nI_add, e4]
        refine ⟨fun z0 => ⟨fun z1 => ⟨hv, hx, fun y => fin _ ?_, fun y => fin _ ?_⟩, fun z1 => ⟨hv, hx, fin _ ?_⟩⟩, fun z0 => ⟨hv, hx, fin _ ?_⟩⟩
        · have z0 : ¬ n = 0 := fun q => z0 (by rw [q]; rfl)
          have z1 : ¬ n = 1 := fun q => z1 (by rw [q])
          obtain rfl : n = 2 := by omega
          exact y.symm
        · have z0 : ¬ n = 0 := fun q => z0 (by rw [q]; rfl)
          have z1 : ¬ n = 1 := fun q => z1 (by rw [q])
          obtain rfl : n = 2 := by omega
          exact ((W.hl2 k hk i hi).resolve_left y).symm
        · rw [nI_eq (by omega) (by omega)] at z1
          subst z1
          rfl
        · have z0 : nI n = nI 0 := z0
          rw [nI_eq (by omega) (by omega)] at z0
          subst z0
          rfl
      · have q : ¬ bt v 0 H = true := fun z => q ((bt_lit (show (nI 0).toInt = 0 from rfl) hH).mpr z)
        rw [spPut, if_pos (by rw [← H2]; exact fun z => q z.2.2.2)]
      · have q : ¬ bt v 0 H = true := fun z => q ((bt_lit (show (nI 0).toInt = 0 from rfl) hH).mpr z)
        rw [spPut, if_pos (by rw [← H2]; exact fun z => q z.2.2.2)]
        exact m
    refine ⟨fun z => key 9 (fun _ => ⟨by omega, fun z2 => absurd (by rw [z2]) z⟩) (if_neg z).symm _ rfl, fun z => key 1 (fun _ => ⟨by omega, fun _ => rfl⟩) (if_pos z).symm _ rfl⟩
theorem ctX4_crack {h : Hp} {o g : Nat} {t : St} {s a b c : Int32} (m : MS h o t g) (W : WF t) : Ret mX4_crack 4 [vR (some o), vI s, vI a, vI b, vI c] h 0 0 (RI fun x h' => x = (spCrack t s a b c).2 ∧ MS h' o (spCrack t s a b c).1 g) := by
  have K : ∀ {x : Int32} {h' : Hp} {y : St × Int32}, spCrack t s a b c = y → x = y.2 → MS h' o y.1 g → RI (fun x h' => x = (spCrack t s a b c).2 ∧ MS h' o (spCrack t s a b c).1 g) (rI x) h' := by
    intro x h' y e1 e2 e3
    rw [e1]
    exact RI.i ⟨e2, e3⟩
  refine Ret.go (by decide) rfl rfl RI.ret (bX4_crack_0 m ⟨fun e => K (y := (t, -1)) (by rw [spCrack, if_pos (by exact fun q => e q.1)]) rfl m, fun h1 => ⟨h1, fun e => K (y := (t, -1)) (by rw [spCrack, if_pos (by exact fun q => e q.2.1)]) rfl m, fun h2 => ⟨h1, fun h3 => ?_, fun e => K (y := (t, -1)) (by rw [spCrack, if_pos (by exact fun q => e q.2.2.1)]) rfl m⟩⟩⟩)
  have hn := m.b_ns
  have h25 := isCo5 m h1 h2
  have h35 := isCo5 m h1 h3
  obtain ⟨k, i, hk, hi, hi6, rfl, rfl, e1, e2⟩ := isCoN m h1 h2
  obtain ⟨k', j, hk', hj, hj6, e0, rfl, e3, e4⟩ := isCoN m h1 h3
  have hx := ix_lt hk hi6 hj6
  have e5 : nt (nI (ix k i j)) = ix k i j := nt_nI (by omega)
  have hv := vp_in_nI (n := ix k i j) (N := 468) (by omega) (by omega)
  have G9 : bt c 0 9 = true → ¬ ¬ (isSh t (nI k) = true ∧ isCo t (nI k) (nI i) = true ∧ isCo t (nI k) (nI j) = true ∧ bt c 0 9 = true) := fun z q => q ⟨h1, h2, h3, z⟩
  have B9 : ¬ bt c 0 9 = true → spCrack t (nI k) (nI i) (nI j) c = (t, -1) := fun z => by rw [spCrack, if_pos (by exact fun q => z q.2.2.2)]
  have N9 : has t k i j = false → bt c 0 9 = true → spCrack t (nI k) (nI i) (nI j) c = (t, -2) := fun z y => by rw [spCrack, if_neg (G9 y), e1, e2, e4, if_pos z]
  rw [ix_nI, e1, e2, e4, e5]
  refine ⟨fun e => ?_, fun e => ⟨⟨h1, h25, h35⟩, fun q => ⟨hv, hx, fun z => ⟨hv, hx, fun y => ?_, fun y => ?_⟩, fun z => ?_⟩, fun q => ⟨fun z => K (B9 z) rfl m, fun z => K (N9 (by simpa using q) z) rfl m⟩⟩⟩
  · rw [nI_eq (by omega) (by omega)] at e
    subst e
    exact ⟨fun z => K (B9 z) rfl m, fun z => K (N9 (W.hd k hk i hi6) z) rfl m⟩
  · have hp := (W.Pc k hk i hi6 j hj6).2.2.2 (by have := of_decide_eq_true q; omega)
    have z9 : bt c 0 9 = true := by
      have h9 := bt_iff.mp hp.2.2.1
      rw [bt_iff]
      simp only [le_i, show (nI 0).toInt = 0 from rfl] at z
      omega
    have E : spCrack t (nI k) (nI i) (nI j) c = (setA (keptS t 3 (ix k i j) (ck t (ix k i j)) c 0) 3 (ix k i j) c 0, ck t (ix k i j)) := by
      rw [spCrack, if_neg (G9 z9), e1, e2, e4, if_neg (by simp [q]), if_neg (by rw [lt_i]; have := le_i.mp z.2; omega), if_neg y]
    refine ⟨_, ctX4_kept m (by omega) hx, fun h3 m3 => ⟨_, _, m3, _, ctX4_set m3 (by omega) (fun _ => ?_) (by omega) (by omega), fun h4 m4 => ⟨_, _, m4, K E rfl m4⟩⟩⟩
    rw [keptS_ns, keptS_bo]
    exact ⟨hx, by have := of_decide_eq_true q; omega, W.mirb hk hi6 hj6⟩
  · have hp := (W.Pc k hk i hi6 j hj6).2.2.2 (by have := of_decide_eq_true q; omega)
    have z9 : bt c 0 9 = true := by
      have h9 := bt_iff.mp hp.2.2.1
      rw [bt_iff]
      simp only [le_i, show (nI 0).toInt = 0 from rfl] at z
      omega
    refine K (y := (t, c)) ?_ y m
    rw [spCrack, if_neg (G9 z9), e1, e2, e4, if_neg (by simp [q]), if_neg (by rw [lt_i]; have := le_i.mp z.2; omega), if_pos y]
  · refine K (y := (t, -1)) ?_ rfl m
    by_cases z9 : bt c 0 9 = true
    · rw [spCrack, if_neg (G9 z9), e1, e2, e4, if_neg (by simp [q]), if_pos]
      rw [lt_i]
      rw [bt_iff] at z9
      simp only [le_i, show (nI 0).toInt = 0 from rfl] at z
      omega
    · exact B9 z9
theorem ctX4_stroke {h : Hp} {o g : Nat} {t : St} {s a b : Int32} (m : MS h o t g) (W : WF t) : Ret mX4_stroke 3 [vR (some o), vI s, vI a, vI b] h 0 0 (RI fun x h' => x = (spStroke t s a b).2 ∧ MS h' o (spStroke t s a b).1 g) := by
  have K : ∀ {x : Int32} {h' : Hp} {y : St × Int32}, spStroke t s a b = y → x = y.2 → MS h' o y.1 g → RI (fun x h' => x = (spStroke t s a b).2 ∧ MS h' o (spStroke t s a b).1 g) (rI x) h' := by
    intro x h' y e1 e2 e3
    rw [e1]
    exact RI.i ⟨e2, e3⟩
  refine Ret.go (by decide) rfl rfl RI.ret (bX4_stroke_0 m ⟨fun e => K (y := (t, -1)) (by rw [spStroke, if_pos (by exact fun q => e q.1)]) rfl m, fun h1 => ⟨h1, fun e => K (y := (t, -1)) (by rw [spStroke, if_pos (by exact fun q => e q.2.1)]) rfl m, fun h2 => ⟨fun h3 => ?_, fun e3 => ⟨h1, fun h3 => ?_, fun e => K (y := (t, -1)) (by rw [spStroke, if_pos]; rintro ⟨_, _, q | q⟩; exact e3 q; exact e q) rfl m⟩⟩⟩⟩)
  · have hn := m.b_ns
    obtain ⟨k, i, hk, hi, hi6, rfl, rfl, e1, e2⟩ := isCoN m h1 h2
    have hx : 6 * k + i < 6 * ns t := by omega
    have vv := vp_in_nI (n := 6 * k + i) (N := 78) (by omega) (by omega)
    have e4 : nt (nI (6 * k + i)) = 6 * k + i := nt_nI (by omega)
    have G : ¬ ¬ (isSh t (nI k) = true ∧ isCo t (nI k) (nI i) = true ∧ (b = -1 ∨ isCo t (nI k) b = true)) := fun q => q ⟨h1, h2, Or.inl h3⟩
    refine bX4_stroke_33 m ⟨fun q => absurd h3 q, fun _ => ?_⟩
    rw [pk_mul, nI_add, e4]
    refine ⟨vv, hx, fun z => ⟨vv, hx, vv, hx, _, ctX4_kept m (by omega) (by omega), fun h4 m4 => ⟨_, _, m4, vv, by rw [keptS_ns]; exact hx, vv, fun h5 q5 => ⟨vv, ?_⟩⟩⟩, fun z => K (y := (t, -4)) (by rw [spStroke, if_neg G, if_pos h3, e1, e2, if_pos (by exact z)]) rfl m⟩
    subst q5
    rw [hAI_w1, if_pos rfl, keptS_hv]
    refine K (y := (setA (keptS t 5 (6 * k + i) (hv t (6 * k + i)) (hv t (6 * k + i) - 1) 0) 5 (6 * k + i) (hv t (6 * k + i) - 1) 0, hv t (6 * k + i) - 1)) (by rw [spStroke, if_neg G, if_pos h3, e1, e2, if_neg (by exact z)]) rfl ?_
    have M := m4.wc (i := 6 * k + i) (v := hv t (6 * k + i) - 1) (k := 2) (j := 0) (by decide)
    exact M
  · have hn := m.b_ns
    have h25 := isCo5 m h1 h2
    have h35 := isCo5 m h1 h3
    obtain ⟨k, i, hk, hi, hi6, rfl, rfl, e1, e2⟩ := isCoN m h1 h2
    obtain ⟨k', j, hk', hj, hj6, e0, rfl, e3', e4⟩ := isCoN m h1 h3
    have hx := ix_lt hk hi6 hj6
    have e5 : nt (nI (ix k i j)) = ix k i j := nt_nI (by omega)
    have vv := vp_in_nI (n := ix k i j) (N := 468) (by omega) (by omega)
    have G : ¬ ¬ (isSh t (nI k) = true ∧ isCo t (nI k) (nI i) = true ∧ (nI j = -1 ∨ isCo t (nI k) (nI j) = true)) := fun q => q ⟨h1, h2, Or.inr h3⟩
    have N : has t k i j = false → spStroke t (nI k) (nI i) (nI j) = (t, -2) := fun z => by rw [spStroke, if_neg G, if_neg e3, e1, e2, e4, if_pos z]
    refine bX4_stroke_33 m ⟨fun _ => ?_, fun q => absurd q e3⟩
    rw [ix_nI, e1, e2, e4, e5]
    refine ⟨fun e => ?_, fun e => ⟨⟨h1, h25, h35⟩, fun q => ⟨vv, hx, fun z => ⟨vv, hx, vv, hx, vv, hx, _, ctX4_kept m (by omega) hx, fun h4 m4 => ⟨_, _, m4, ?_⟩⟩, fun z => K (y := (t, -4)) (by rw [spStroke, if_neg G, if_neg e3, e1, e2, e4, if_neg (by simp [q]), if_pos (by exact z)]) rfl m⟩, fun q => K (N (by simpa using q)) rfl m⟩⟩
    · rw [nI_eq (by omega) (by omega)] at e
      subst e
      exact K (N (W.hd k hk i hi6)) rfl m
    · rw [keptS_ns]
      refine ⟨vv, hx, vv, hx, vv, hx, _, ctX4_setStiff m4 (by rw [keptS_ns]; exact hx) ?_ ?_, fun h5 m5 => ⟨_, _, m5, vv, ?_, ?_⟩⟩
      · rw [keptS_bo]; have := of_decide_eq_true q; omega
      · rw [keptS_bo]; exact W.mirb hk hi6 hj6
      · show _ < 36 * ns (keptS _ _ _ _ _ _)
        rw [keptS_ns]; exact hx
      · refine K (y := (setA (keptS t 4 (ix k i j) (sf t (ix k i j)) (sf t (ix k i j) - 1) (ck t (ix k i j))) 4 (ix k i j) (sf t (ix k i j) - 1) (mnI (ck t (ix k i j)) (sf t (ix k i j) - 1)), sf t (ix k i j) - 1)) (by rw [spStroke, if_neg G, if_neg e3, e1, e2, e4, if_neg (by simp [q]), if_neg (by exact z)]) ?_ ?_
        · obtain ⟨c1, c2, c3⟩ := ix_6 (s := k) hi6 hj6
          rw [keptS_sf, keptS_ck]
          show ux (ux _ (ix (ix k i j / 36) (ix k i j / 6 % 6) (ix k i j % 6)) _) (ix (ix k i j / 36) (ix k i j % 6) (ix k i j / 6 % 6)) _ (ix k i j) = _
          rw [c1, c2, c3]
          unfold ux
          split
          · rfl
          · rw [if_pos rfl]; rfl
        · rw [keptS_sf, keptS_ck] at m5
          exact m5
