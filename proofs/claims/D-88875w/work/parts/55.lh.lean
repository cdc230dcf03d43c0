theorem RIq {o g : Nat} {t : St} {h' : Hp} {x y : Int32} (e : x = y) (m : MS h' o t g) : RI (fun x h' => x = y ∧ MS h' o t g) (rI x) h' := RI.i ⟨e, m⟩
theorem shr8 {k : Nat} (h : k < 4) : nI 8 * nI k &&& 31 = nI (8 * k) := by
  match k, h with
  | 0, _ => decide
  | 1, _ => decide
  | 2, _ => decide
  | 3, _ => decide
theorem ctX4_feed {h : Hp} {o g : Nat} {t : St} {n v : Int32} (m : MS h o t g) : Ret mX4_feed 1 [vR (some o), vI n, vI v] h 0 0 (RI fun x h' => x = (spFeed t n v).2 ∧ MS h' o (spFeed t n v).1 g) := by
  have ht := m.b_tl
  refine Ret.go (by decide) rfl rfl RI.ret (bX4_feed_0 m ⟨fun q1 => ?_, fun q => RIs (y := (t, -1)) (by rw [spFeed, if_pos (by exact q)]) rfl m⟩)
  obtain ⟨k, hk0, hk, rfl⟩ := bt_k (n := 4) q1 (by decide)
  have ek : nt (nI k) = k := nt_nI (by omega)
  rw [nI_add, nI_leI (by omega) (by omega)]
  refine ⟨fun z => ?_, fun z => RIs (y := (t, -3)) (by rw [spFeed, if_neg (by exact fun z => z q1), ek, if_pos (by omega)]) rfl m⟩
  have E : spFeed t (nI k) v = (uN (uI t 8 (fdL t v k)) 2 (tl t + k), nI (tl t + k)) := by rw [spFeed, if_neg (by exact fun z => z q1), ek, if_neg (by omega)]
  have L : ∀ i, i ≤ k → ∀ h, MS h o (uN (uI t 8 (fdL t v i)) 2 (tl t + i)) g → AWP mX4_feed 1 27 [vR (some o), vI (nI k), vI v, vI (nI i)] [] h (0, 0) (RI fun x h' => x = (spFeed t (nI k) v).2 ∧ MS h' o (spFeed t (nI k) v).1 g) := by
    refine lo_up ?_ ?_
    · intro i hi hS h M
      refine bX4_feed_27 M ⟨fun z => absurd z (nI_ge hi (by omega)), fun _ => ?_⟩
      have e1 : tl (uN (uI t 8 (fdL t v i)) 2 (tl t + i)) = tl t + i := rfl
      rw [e1, nt_nI (by omega), shr8 (by omega), pk_vb]
      refine ⟨vp_in_nI (by omega) (by omega), fun h2 q2 h3 q3 => ?_⟩
      subst q2
      rw [hFI_w1, M.f416, e1, nI_add] at q3
      subst q3
      rw [nI_add]
      refine hS _ ?_
      refine M.wTp (((AG.w rfl).tr (AG.oF rfl))) rfl M.1 (by obtain ⟨b1, b2, b3, b4, b5, b6, b7, b8, b9, b10, b11, b12, b13, b14, b15, b16, b17, b18, b19, b20, b21⟩ := M.2.1; exact ⟨b1, b2, b3, by show tl t + (i + 1) ≤ 120; omega, b5, b6, b7, b8, b9, b10, b11, b12, b13, b14, b15, b16, b17, b18, b19, b20, b21⟩) ⟨hFI_s, fun j hj => ?_⟩ (fun r => r)
      have hj : j < tl t + (i + 1) := hj
      rw [hAI_sF, hAI_w1]
      show _ = ux (fdL t v i) (tl t + i) ((v >>> nI (8 * i)).toInt8.toInt32) j
      unfold ux
      by_cases q : j = tl t + i
      · rw [if_pos q, if_pos q]
      · rw [if_neg q, if_neg q]
        exact M.Tp.2 j (by show j < tl t + i; omega)
    · intro h M
      exact bX4_feed_27 M ⟨fun _ => RIs E rfl M, fun z => absurd (nI_le (Nat.le_refl _) (by omega)) z⟩
  exact L 0 (by omega) h (by
    have e : uN (uI t 8 (fdL t v 0)) 2 (tl t + 0) = t := by
      have e1 : uI t 8 (fdL t v 0) = t := uI_s
      rw [e1]
      exact uN_s
    rw [e]
    exact m)
theorem lt0_of {x : Int32} : ¬ x < 0 ↔ 0 ≤ x := by rw [lt_i, le_i]; omega
theorem ctX4_heard {h : Hp} {o g : Nat} {t : St} {e k : Int32} (m : MS h o t g) : Ret mX4_heard 2 [vR (some o), vI e, vI k] h 0 0 (RI fun x h' => x = spHeard t e k ∧ h' = h) := by
  have hs := m.b_sp
  have hb : (nI 1 ≤ k ∧ k ≤ nI (sp t)) ↔ bt k 1 (sp t) = true := bt_lit rfl (nI_toInt (by omega))
  refine Ret.go (by decide) rfl rfl RI.ret (bX4_heard_0 m ⟨fun q => RI.i ⟨by rw [spHeard, if_neg (by exact fun z => q z.1)], rfl⟩, fun q1 => ⟨fun q => RI.i ⟨by rw [spHeard, if_neg (by exact fun z => q (hb.mpr z.2.1))], rfl⟩, fun q2 => ?_⟩⟩)
  have q2 := hb.mp q2
  obtain ⟨i, hi, rfl⟩ := bt_nI (n := 4) q1
  obtain ⟨j, hj0, hj, rfl⟩ := bt_k q2 (by decide)
  have ei : nt (nI i) = i := nt_nI (by omega)
  have ej : nt (nI j) = j := nt_nI (by omega)
  rw [ei]
  refine ⟨vp_in_nI hi (by omega), hi, fun z => RI.i ⟨by rw [spHeard, if_neg]; rw [ei]; exact fun y => lt0_of.mpr y.2.2 z, rfl⟩, fun z => ?_⟩
  rw [pk_mul, nI_add, nI_sub (by omega), nt_nI (by omega)]
  refine ⟨vp_in_nI (by omega) (by omega), RI.i ⟨?_, rfl⟩⟩
  rw [spHeard, if_pos (by rw [ei]; exact ⟨q1, q2, lt0_of.mp z⟩), ei, ej, show 200 * i + j - 1 = 200 * i + (j - 1) by omega, m.a49 hi (lt0_of.mp z) (by omega)]
theorem ctX4_loud {h : Hp} {o g : Nat} {t : St} {e w : Int32} (m : MS h o t g) : Ret mX4_loud 2 [vR (some o), vI e, vI w] h 0 0 (RI fun x h' => x = spLoud t e w ∧ h' = h) := by
  have hs := m.b_sp
  refine Ret.go (by decide) rfl rfl RI.ret (bX4_loud_0 m ⟨fun q => RI.i ⟨by rw [spLoud, if_pos (by exact Or.inl q)], rfl⟩, fun q1 => ⟨fun q2 => ?_, fun q => RI.i ⟨by rw [spLoud, if_pos]; right; rw [lt_i]; rw [le_i] at q; omega, rfl⟩⟩⟩)
  have q2 : ¬ w < -1 := by rw [lt_i]; rw [le_i] at q2; omega
  have G : ¬ (¬ bt e 0 3 = true ∨ w < -1) := by rintro (z | z); exact z q1; exact q2 z
  obtain ⟨i, hi, rfl⟩ := bt_nI (n := 4) q1
  have ei : nt (nI i) = i := nt_nI (by omega)
  refine ⟨fun z => RI.i ⟨?_, rfl⟩, fun z => ?_⟩
  · have z : nI (sp t) = nI 0 := z
    rw [nI_eq (by omega) (by omega)] at z
    rw [spLoud, if_neg G, if_pos (by exact Or.inl z)]
  · have z : ¬ sp t = 0 := fun q => z (by rw [q]; rfl)
    rw [ei]
    refine ⟨vp_in_nI hi (by omega), hi, fun y => ?_, fun y => RI.i ⟨?_, rfl⟩⟩
    · have G2 : ¬ (sp t = 0 ∨ ew t (nt (nI i)) < 0) := by rintro (q | q); exact z q; rw [ei] at q; exact lt0_of.mpr y q
      refine ⟨fun c => ?_, fun c => ?_⟩
      · have L : ∀ n, n ≤ sp t → ldK t i w n = ldK t i w (sp t) → AWP mX4_loud 2 86 [vR (some o), vI (nI i), vI w, vI (nI n), vU] [] h (0, 0) (RI fun x h' => x = spLoud t (nI i) w ∧ h' = h) := by
          have fin : ∀ n, n = ldK t i w (sp t) → n ≤ sp t → mnI (nI n + nI 1) (nI (sp t)) = spLoud t (nI i) w := by
            intro n e1 hn
            rw [spLoud, if_neg G, if_neg G2, if_neg c, ei, ← e1, nI_add, mnI]
            by_cases q : n + 1 < sp t
            · rw [if_pos (nI_lt q (by omega)), Nat.min_eq_left (by omega)]
            · rw [if_neg (nI_nlt (by omega) (by omega)), Nat.min_eq_right (by omega)]
          intro n
          induction n with
          | zero =>
            intro hn e1
            exact bX4_loud_86 m ⟨fun _ => RI.i ⟨fin 0 e1 hn, rfl⟩, fun q => absurd (by decide) q⟩
          | succ n ih =>
            intro hn e1
            refine bX4_loud_86 m ⟨fun q => absurd q (nI_nle (by omega) (by omega)), fun _ => ?_⟩
            rw [pk_mul, nI_add, nI_sub (by omega), nt_nI (by omega), show 200 * i + (n + 1) - 1 = 200 * i + n by omega, m.a49 hi y (by omega)]
            refine ⟨vp_in_nI (by omega) (by omega), fun q => RI.i ⟨fin _ ?_ hn, rfl⟩, fun q => ?_⟩
            · rw [← e1, ldK, if_neg]
              rw [le_i]; rw [lt_i] at q; omega
            · rw [show nI (n + 1) + (-1) = nI n from by rw [nI_succ, ← Int32.sub_eq_add_neg, Int32.add_sub_cancel]]
              refine ih (by omega) ?_
              rw [← e1, ldK, if_pos]
              rw [le_i]; rw [lt_i] at q; omega
        exact L (sp t) (Nat.le_refl _) rfl
      · refine lo_up (n := sp t) (S := fun n => AWP mX4_loud 2 43 [vR (some o), vI (nI i), vI w, vI (ldM t i n), vI (nI n)] [] h (0, 0) _) ?_ ?_ 0 (by omega)
        · intro n hn hS
          refine bX4_loud_43 m ⟨fun q => absurd q (nI_ge hn (by omega)), fun _ => ?_⟩
          rw [pk_mul, nI_add, nt_nI (by omega), nI_add, m.a49 hi y hn]
          exact ⟨vp_in_nI (by omega) (by omega), hS⟩
        · refine bX4_loud_43 m ⟨fun _ => RI.i ⟨?_, rfl⟩, fun q => absurd (nI_le (Nat.le_refl _) (by omega)) q⟩
          rw [spLoud, if_neg G, if_neg G2, if_pos c, ei]
    · rw [spLoud, if_neg G, if_pos]
      right
      rw [ei, lt_i]
      rw [le_i] at y
      omega
theorem ctX4_body {h : Hp} {o g : Nat} {t : St} {k : Int32} (m : MS h o t g) : Ret mX4_body 1 [vR (some o), vI k] h 0 0 (RI fun x h' => x = (spBody t k).2 ∧ MS h' o (spBody t k).1 g) := by
  have hr := m.b_nb
  refine Ret.go (by decide) rfl rfl RI.ret (bX4_body_0 m ⟨fun q1 => ⟨fun z => ?_, fun z => ?_⟩, fun q => RIs (y := (t, -1)) (by rw [spBody, if_pos (by exact q)]) rfl m⟩)
  · obtain ⟨i, hi, rfl⟩ := bt_nI (n := 6) q1
    have ei : nt (nI i) = i := nt_nI (by omega)
    have z6 : ¬ nb t = 200 := by rwa [nI_eq (by omega) (by omega)] at z
    have vv := vp_in_nI (n := nb t) (N := 200) (by omega) (by omega)
    rw [nt_nI (by omega)]
    refine ⟨vv, fun h5 q5 => ?_⟩
    subst q5
    rw [hFI_w1, m.f412, nt_nI (by omega)]
    refine ⟨vv, fun h5 q5 h6 q6 => ?_⟩
    subst q5
    rw [hFI_w1, hFI_w1, m.f412, nI_add] at q6
    subst q6
    rw [hFI_s, nI_sub (by omega)]
    refine RIs (y := (uN (uA (uA t 2 (ux (bk t) (nb t) i)) 3 (ux (li t) (nb t) 0)) 1 (nb t + 1), nI (nb t))) (by rw [spBody, if_neg (by exact fun z => z q1), if_neg z6, ei]) rfl ?_
    refine m.wBo ((((AG.w rfl).tr (AG.w rfl)).tr (AG.oF rfl))) rfl m.1 (by obtain ⟨b1, b2, b3, b4, b5, b6, b7, b8, b9, b10, b11, b12, b13, b14, b15, b16, b17, b18, b19, b20, b21⟩ := m.2.1; exact ⟨b1, b2, by show nb t + 1 ≤ 200; omega, b4, b5, b6, b7, b8, b9, b10, b11, b12, b13, b14, b15, fun r hr => by have hr : r < nb t + 1 := hr; show ux (bk t) (nb t) i r ≤ 5 ∧ ux (li t) (nb t) 0 r ≤ 36 * ns t; unfold ux; split <;> first | exact b16 r (by omega) | exact ⟨by omega, by omega⟩, b17, b18, b19, b20, b21⟩) ⟨hFI_s, fun r hr => ?_⟩ (fun r => r)
    have hr : r < nb t + 1 := hr
    simp (disch := decide) only [hAI_sF, hAI_wo, hAI_w1]
    show (if r = nb t then nI i else hAI h (o + 11) r) = nI (ux (bk t) (nb t) i r) ∧ (if r = nb t then nI 0 else hAI h (o + 12) r) = nI (ux (li t) (nb t) 0 r)
    unfold ux
    by_cases q : r = nb t
    · simp only [if_pos q, and_self]
    · simp only [if_neg q]
      exact m.Bo.2 r (by omega)
  · exact RIs (y := (t, -3)) (by rw [spBody, if_neg (by exact fun z => z q1), if_pos]; rwa [nI_eq (by omega) (by omega)] at z) rfl m
theorem ctX4_trace {h : Hp} {o g : Nat} {t : St} {i : Int32} (m : MS h o t g) : Ret mX4_trace 0 [vR (some o), vI i] h 0 0 (RI fun x h' => x = spTrace t i ∧ h' = h) := by
  have hr := m.b_tr
  refine Ret.go (by decide) rfl rfl RI.ret (bX4_trace_0 m ⟨fun q => RI.i ⟨?_, rfl⟩, fun q0 => ?_⟩)
  · rw [spTrace, if_neg]
    rintro ⟨z, _⟩
    rw [bt_iff] at z
    rw [lt_i] at q
    exact absurd z.1 (by simpa using q)
  · obtain ⟨k, hk, rfl⟩ := nI_of q0
    have ek : nt (nI k) = k := nt_nI (by omega)
    rw [nI_leI (by omega) hk, nI_leI (by omega) hk]
    refine ⟨fun q => RI.i ⟨?_, rfl⟩, fun q1 => ⟨fun q => RI.i ⟨?_, rfl⟩, fun q2 => ⟨vp_in_nI (by omega) (by omega), RI.i ⟨?_, rfl⟩⟩⟩⟩
    · rw [spTrace, if_neg]
      rw [ek]
      omega
    · rw [spTrace, if_neg]
      rw [bt_iff, nI_toInt (by omega)]
      omega
    · rw [spTrace, if_pos, ek, m.a57 (by omega) (by omega)]
      rw [bt_iff, nI_toInt (by omega), ek]
      omega
theorem ctX4_count {h : Hp} {o g : Nat} {t : St} {w : Int32} (m : MS h o t g) : Ret mX4_count 0 [vR (some o), vI w] h 0 0 (RI fun x h' => x = spCount t w ∧ h' = h) := by
  refine Ret.go (by decide) rfl rfl RI.ret (bX4_count_0 m ⟨fun q => RI.i ⟨?_, rfl⟩, fun q => RI.i ⟨?_, rfl⟩, fun q => RI.i ⟨?_, rfl⟩, fun q => RI.i ⟨?_, rfl⟩, fun q => RI.i ⟨?_, rfl⟩, fun q => RI.i ⟨?_, rfl⟩, fun q => RI.i ⟨?_, rfl⟩⟩)
  · subst q; rfl
  · subst q; rfl
  · subst q; rfl
  · subst q; rfl
  · subst q; rfl
  · subst q; rfl
  · obtain ⟨q0, q1, q2, q3, q4, q5⟩ := q
    rw [spCount, if_neg (by exact q0), if_neg (by exact q1), if_neg (by exact q2), if_neg (by exact q3), if_neg (by exact q4), if_neg (by exact q5)]
