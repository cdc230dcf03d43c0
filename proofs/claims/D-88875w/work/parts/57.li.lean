theorem ctX4_keep {h : Hp} {o g : Nat} {t : St} {s b : Int32} (m : MS h o t g) : Ret mX4_keep 2 [vR (some o), vI s, vI b] h 0 0 (RI fun x h' => x = (spKeep t s b).2 ∧ MS h' o (spKeep t s b).1 g) := by
  refine Ret.go (by decide) rfl rfl RI.ret (bX4_keep_0 m ⟨fun q => RIs (y := (t, -1)) (by rw [spKeep, if_pos (by exact fun z => q z.1)]) rfl m, fun q1 => ?_⟩)
  obtain ⟨k, hk, rfl⟩ := bt_nI (n := 6) q1
  have ek : nt (nI k) = k := nt_nI (by omega)
  have vv := vp_in_nI (n := k) (N := 6) (by omega) (by omega)
  have fin : (b = -1 ∨ bt b 0 (nb t - 1) = true) → RI (fun x h' => x = (spKeep t (nI k) b).2 ∧ MS h' o (spKeep t (nI k) b).1 g) (rI (nI 1)) (w1 h (o + 58) k b) := by
    intro q
    refine RIs (y := (uI t 23 (ux (ho t) k b), 1)) (by rw [spKeep, if_neg (by exact fun z => z ⟨q1, q⟩), ek]) rfl ?_
    have hb : ¬ b < -1 := by
      rcases q with q | q
      · rw [q]; decide
      · rw [bt_iff] at q; rw [lt_i]; have : (-1 : Int32).toInt = -1 := rfl; omega
    refine m.wSv ((AG.w rfl)) m.1 (by obtain ⟨b1, b2, b3, b4, b5, b6, b7, b8, b9, b10, b11, b12, b13, b14, b15, b16, b17, b18, b19, b20, b21⟩ := m.2.1; exact ⟨b1, b2, b3, b4, b5, b6, b7, b8, b9, b10, b11, b12, b13, fun s hs z => by have z : ux (ho t) k b s < -1 := z; unfold ux at z; split at z <;> first | exact absurd z hb | exact b14 s hs z, b15, b16, b17, b18, b19, b20, b21⟩) (fun s hs => ?_) (fun r => r)
    simp (disch := decide) only [hAI_wo, hAI_w1, hAL_w1]
    show (if s = k then b else hAI h (o + 58) s) = ux (ho t) k b s ∧ (ux (ho t) k b s < -1 → _)
    unfold ux
    by_cases q : s = k
    · simp only [if_pos q, true_and]
      exact fun z => absurd z hb
    · simp only [if_neg q]
      exact m.Sv s hs
  rw [ek]
  exact ⟨fun q => ⟨vv, fun h3 z => by subst z; exact fin (Or.inl q)⟩, fun q => ⟨fun q2 => ⟨vv, fun h3 z => by subst z; exact fin (Or.inr q2)⟩, fun q2 => RIs (y := (t, -1)) (by rw [spKeep, if_pos]; rintro ⟨_, z | z⟩; exact q z; exact q2 z) rfl m⟩⟩
theorem ctX4_row {h : Hp} {o g : Nat} {t : St} {s k n : Int32} (m : MS h o t g) : Ret mX4_row 2 [vR (some o), vI s, vI k, vI n] h 0 0 (RI fun x h' => x = (spRow t s k n).2 ∧ MS h' o (spRow t s k n).1 g) := by
  have e60 : n ≤ nI 60 ↔ n.toInt ≤ 60 := by rw [le_i]; exact Iff.rfl
  refine Ret.go (by decide) rfl rfl RI.ret (bX4_row_0 m ⟨fun q => RIs (y := (t, -1)) (by rw [spRow, if_pos (by exact fun z => q z.1)]) rfl m, fun q1 => ⟨fun q => RIs (y := (t, -1)) (by rw [spRow, if_pos (by exact fun z => q z.2.1)]) rfl m, fun q2 => ⟨fun q3 => ⟨fun q4 => ?_, fun q => RIs (y := (t, -14)) (by rw [spRow, if_neg (by exact fun z => z ⟨q1, q2, e60.mp q3⟩), if_pos]; rw [lt_i]; rw [le_i] at q; omega) rfl m⟩, fun q => RIs (y := (t, -1)) (by rw [spRow, if_pos (by exact fun z => q (e60.mpr z.2.2))]) rfl m⟩⟩⟩)
  obtain ⟨i, hi, rfl⟩ := bt_nI (n := 6) q1
  have ei : nt (nI i) = i := nt_nI (by omega)
  obtain ⟨j, hj, rfl⟩ := nI_of (x := n) (by rw [lt_i]; rw [le_i] at q4; omega)
  have ej : nt (nI j) = j := nt_nI hj
  have hj60 : j ≤ 60 := by rw [e60, nI_toInt hj] at q3; omega
  obtain ⟨c, hc, rfl⟩ := bt_nI (n := 5) q2
  have vv := vp_in_nI (n := i) (N := 6) (by omega) (by omega)
  rw [ei]
  refine ⟨vv, fun h5 q5 => ⟨vv, fun h6 q6 => ?_⟩⟩
  subst q5
  subst q6
  rw [pk_mul]
  have E : spRow t (nI i) (nI c) (nI j) = (uL (uA (uI t 23 (ux (ho t) i (-2 - nI c))) 11 (ux (sz t) i j)) (blk (el t) 60 i (fun _ => 0)), 1) := by
    rw [spRow, if_neg (by exact fun z => z ⟨q1, q2, e60.mp q3⟩), if_neg (by rw [lt_i]; rw [le_i] at q4; omega), ei, ej]
  have L : ∀ d, d ≤ 60 → ∀ h' e, (∀ q, 60 * i ≤ q → q < 60 * i + d → e q = 0) → (∀ q, q < 60 * i ∨ 60 * i + 60 ≤ q → e q = el t q) → MS h' o (uL (uA (uI t 23 (ux (ho t) i (-2 - nI c))) 11 (ux (sz t) i j)) e) g → AWP mX4_row 2 54 [vR (some o), vI (nI i), vI (nI c), vI (nI j), vI (nI (60 * i + d))] [] h' (0, 0) (RI fun x h' => x = (spRow t (nI i) (nI c) (nI j)).2 ∧ MS h' o (spRow t (nI i) (nI c) (nI j)).1 g) := by
    refine lo_up ?_ ?_
    · intro d hd hS h' e E1 E2 M
      refine bX4_row_54 M ?_
      rw [pk_mul, nI_add, nI_leI (by omega) (by omega)]
      refine ⟨fun z => by omega, fun _ => ?_⟩
      rw [nt_nI (by omega)]
      refine ⟨vp_in_nI (by omega) (by omega), fun h2 q2 => ?_⟩
      subst q2
      rw [nI_add]
      refine hS _ (fun q => if q = 60 * i + d then 0 else e q) (fun q c1 c2 => ?_) (fun q c1 => ?_) ?_
      · by_cases z : q = 60 * i + d
        · rw [if_pos z]
        · rw [if_neg z]; exact E1 q c1 (by omega)
      · rw [if_neg (by omega)]; exact E2 q c1
      · refine M.wSv (AG.wl) M.1 M.2.1 (fun s hs => ?_) (fun r => r)
        obtain ⟨c1, c2⟩ := M.Sv s hs
        refine ⟨c1, fun z => ⟨(c2 z).1, fun y hy => ?_⟩⟩
        rw [hAL_wL, (c2 z).2 y hy]
        rfl
    · intro h' e E1 E2 M
      refine bX4_row_54 M ?_
      rw [pk_mul, nI_add]
      have ee : e = blk (el t) 60 i (fun _ => 0) := by
        funext q
        unfold blk
        by_cases z : 60 * i ≤ q ∧ q < 60 * i + 60
        · rw [if_pos z]; exact E1 q z.1 z.2
        · rw [if_neg z]; exact E2 q (by omega)
      rw [ee] at M
      exact ⟨fun _ => RIs E rfl M, fun z => absurd (nI_le (Nat.le_refl _) (by omega)) z⟩
  refine L 0 (by omega) _ (fun q => if 60 * i ≤ q ∧ q < 60 * i + 60 then hAL h (o + 60) q else el t q) (fun q c1 c2 => by omega) (fun q c1 => by rw [if_neg (by omega)]) ?_
  refine m.wSv (((AG.w rfl).tr (AG.w rfl))) m.1 (by obtain ⟨b1, b2, b3, b4, b5, b6, b7, b8, b9, b10, b11, b12, b13, b14, b15, b16, b17, b18, b19, b20, b21⟩ := m.2.1; exact ⟨b1, b2, b3, b4, b5, b6, b7, b8, b9, b10, b11, b12, b13, fun s hs z => by have z : ux (ho t) i (-2 - nI c) s < -1 := z; show ux (sz t) i j s ≤ 60; exact if q : s = i then (by rw [ux, if_pos q]; exact hj60) else (by rw [ux, if_neg q] at z ⊢; exact b14 s hs z), b15, b16, b17, b18, b19, b20, b21⟩) (fun s hs => ?_) (fun r => r)
  simp (disch := decide) only [hAI_wo, hAI_w1, hAL_w1]
  show (if s = i then (-2 - nI c) else hAI h (o + 58) s) = ux (ho t) i (-2 - nI c) s ∧ (ux (ho t) i (-2 - nI c) s < -1 → (if s = i then nI j else hAI h (o + 59) s) = nI (ux (sz t) i j s) ∧ ∀ k < ux (sz t) i j s, hAL h (o + 60) (60 * s + k) = if 60 * i ≤ 60 * s + k ∧ 60 * s + k < 60 * i + 60 then hAL h (o + 60) (60 * s + k) else el t (60 * s + k))
  unfold ux
  obtain ⟨c1, c2⟩ := m.Sv s hs
  by_cases q : s = i
  · simp only [if_pos q, true_and]
    intro z y hy
    rw [if_pos (by omega)]
  · simp only [if_neg q]
    refine ⟨c1, fun z => ⟨(c2 z).1, fun y hy => ?_⟩⟩
    have := m.b_sz s hs z
    rw [if_neg (by omega)]
    exact (c2 z).2 y hy
theorem ctX4_whyNoPlace {h : Hp} {o g : Nat} {t : St} {s i : Int32} (m : MS h o t g) : Ret mX4_whyNoPlace 2 [vR (some o), vI s, vI i] h 0 0 (RI fun x h' => x = whyP t s i ∧ h' = h) := by
  refine Ret.go (by decide) rfl rfl RI.ret (bX4_whyNoPlace_0 m ⟨fun q1 => ?_, fun q => RI.i ⟨by rw [whyP, if_pos (by exact q)], rfl⟩⟩)
  obtain ⟨k, hk, rfl⟩ := bt_nI (n := 6) q1
  have ek : nt (nI k) = k := nt_nI (by omega)
  have vv := vp_in_nI (n := k) (N := 6) (by omega) (by omega)
  rw [ek]
  refine ⟨vv, hk, fun q2 => ⟨vv, hk, fun q3 => ⟨vv, ?_⟩, fun q3 => RI.i ⟨by rw [whyP, if_neg (by exact fun z => z q1), ek, if_neg q2, if_pos (lt0_of.mp q3)], rfl⟩⟩, fun q2 => RI.i ⟨by rw [whyP, if_neg (by exact fun z => z q1), ek, if_pos q2], rfl⟩⟩
  have q4 : ¬ 0 ≤ ho t k := fun z => lt0_of.mpr z q3
  have z : ho t k < -1 := by
    rw [lt_i] at q3 ⊢
    rw [eq_i] at q2
    have e1 : (-1 : Int32).toInt = -1 := rfl
    have e0 : (0 : Int32).toInt = 0 := rfl
    omega
  have hz := m.b_sz k hk z
  rw [m.a59 hk z, bt_m1 (by omega)]
  exact ⟨fun q => RI.i ⟨by rw [whyP, if_neg (by exact fun z => z q1), ek, if_neg q2, if_neg q4, if_neg q], rfl⟩, fun q => RI.i ⟨by rw [whyP, if_neg (by exact fun z => z q1), ek, if_neg q2, if_neg q4, if_pos q]; rfl, rfl⟩⟩
theorem lgc0 {x y : Int64} : lg_cmp x y = 0 ↔ x = y := by
  unfold lg_cmp
  by_cases q1 : x > y
  · rw [if_pos q1]
    constructor
    · intro z; exact absurd z (by decide)
    · rintro rfl; rw [GT.gt, Int64.lt_iff_toInt_lt] at q1; omega
  · rw [if_neg q1]
    by_cases q2 : x = y
    · rw [if_pos q2]; simp [q2]
    · rw [if_neg q2]
      constructor
      · intro z; exact absurd z (by decide)
      · intro z; exact absurd z q2
theorem whyP_ok {t : St} {s i : Int32} (h : ¬ whyP t s i < 0) : bt s 0 5 = true ∧ ho t (nt s) ≠ -1 ∧ ¬ 0 ≤ ho t (nt s) ∧ bt i 0 (sz t (nt s) - 1) = true := by
  unfold whyP at h
  by_cases q1 : bt s 0 5 = true
  · rw [if_neg (by exact fun z => z q1)] at h
    by_cases q2 : ho t (nt s) = -1
    · rw [if_pos q2] at h; exact absurd (by decide) h
    · rw [if_neg q2] at h
      by_cases q3 : 0 ≤ ho t (nt s)
      · rw [if_pos q3] at h; exact absurd (by decide) h
      · rw [if_neg q3] at h
        by_cases q4 : bt i 0 (sz t (nt s) - 1) = true
        · exact ⟨q1, q2, q3, q4⟩
        · rw [if_neg q4] at h; exact absurd (by decide) h
  · rw [if_pos q1] at h; exact absurd (by decide) h
theorem ho_lt {x : Int32} (q2 : x ≠ -1) (q3 : ¬ 0 ≤ x) : x < -1 := by
  rw [le_i] at q3
  rw [lt_i]
  have q2 : ¬ x.toInt = (-1 : Int32).toInt := fun z => q2 (eq_i.mpr z)
  have e1 : (-1 : Int32).toInt = -1 := rfl
  have e0 : (0 : Int32).toInt = 0 := rfl
  omega
theorem MS.wel {h : Hp} {o g s i : Nat} {t : St} {v : Int64} (m : MS h o t g) (hs : s < 6) : MS (wL h (o + 60) (60 * s + i) v) o (uL t (ux (el t) (60 * s + i) v)) g := by
  refine m.wSv AG.wl m.1 m.2.1 (fun r hr => ?_) (fun r => r)
  obtain ⟨c1, c2⟩ := m.Sv r hr
  refine ⟨c1, fun z => ⟨(c2 z).1, fun y hy => ?_⟩⟩
  rw [hAL_wL, (c2 z).2 y hy]
  rfl
theorem ctX4_element {h : Hp} {o g : Nat} {t : St} {s i : Int32} (m : MS h o t g) : Ret mX4_element 3 [vR (some o), vI s, vI i] h 0 0 (RJ fun x h' => x = spElem t s i ∧ h' = h) := by
  refine Ret.go (by decide) rfl rfl RJ.ret (bX4_element_0 m ⟨_, ctX4_whyNoPlace m, ?_⟩)
  rintro z h' ⟨rfl, rfl⟩
  refine ⟨t, g, m, fun q => ?_, fun q => RJ.i ⟨?_, rfl⟩⟩
  · have q := lt0_of.mpr q
    obtain ⟨q1, q2, q3, q4⟩ := whyP_ok q
    obtain ⟨k, hk, rfl⟩ := bt_nI (n := 6) q1
    have ek : nt (nI k) = k := nt_nI (by omega)
    rw [ek] at q2 q3 q4
    obtain ⟨j, hj, rfl⟩ := bt_nI q4
    have hz := m.b_sz k hk (ho_lt q2 q3)
    have ej : nt (nI j) = j := nt_nI (by omega)
    rw [pk_mul, nI_add, nt_nI (by omega)]
    refine ⟨vp_in_nI (by omega) (by omega), RJ.i ⟨?_, rfl⟩⟩
    rw [spElem, if_neg q, ek, ej, m.a60 hk (ho_lt q2 q3) hj]
  · rw [spElem, if_pos (by rw [lt_i]; rw [le_i] at q; omega)]
theorem ctX4_place {h : Hp} {o g : Nat} {t : St} {s i : Int32} {v : Int64} (m : MS h o t g) : Ret mX4_place 3 [vR (some o), vI s, vI i, vJ v] h 0 0 (RI fun x h' => x = (spPlace t s i v).2 ∧ MS h' o (spPlace t s i v).1 g) := by
  refine Ret.go (by decide) rfl rfl RI.ret (bX4_place_0 m ⟨_, ctX4_whyNoPlace m, ?_⟩)
  rintro z h' ⟨rfl, rfl⟩
  refine ⟨t, g, m, fun q => ?_, fun q => RIs (y := (t, whyP t s i)) ?_ rfl m⟩
  · have q := lt0_of.mpr q
    obtain ⟨q1, q2, q3, q4⟩ := whyP_ok q
    obtain ⟨k, hk, rfl⟩ := bt_nI (n := 6) q1
    have ek : nt (nI k) = k := nt_nI (by omega)
    rw [ek] at q2 q3 q4
    obtain ⟨j, hj, rfl⟩ := bt_nI q4
    have hz := m.b_sz k hk (ho_lt q2 q3)
    have ej : nt (nI j) = j := nt_nI (by omega)
    have exx : nt (nI (60 * k + j)) = 60 * k + j := nt_nI (by omega)
    rw [pk_mul, nI_add, exx, ek]
    have vv := vp_in_nI (n := k) (N := 6) (by omega) (by omega)
    have vx := vp_in_nI (n := 60 * k + j) (N := 360) (by omega) (by omega)
    have fin : ∀ x, x = cutV (srt t k) v → ∀ h1, h1 = wL h' (o + 60) (60 * k + j) x → RI (fun x h' => x = (spPlace t (nI k) (nI j) v).2 ∧ MS h' o (spPlace t (nI k) (nI j) v).1 g) (rI (nI 1)) h1 := by
      intro x ex h1 e1
      rw [e1, ex]
      exact RIs (y := (uL t (ux (el t) (60 * k + j) (cutV (srt t k) v)), 1)) (by rw [spPlace, if_neg q, ek, ej]) rfl (m.wel hk)
    have hs : ∀ n : Nat, n < 2 ^ 31 → (-2 - ho t k = nI n ↔ srt t k = n) := by
      intro n hn
      have hl : (-2 - ho t k).toInt = -2 - (ho t k).toInt := by
        rw [Int32.toInt_sub, show (-2 : Int32).toInt = -2 from rfl]
        have h1 := Int32.toInt_lt (ho t k)
        have h2 := Int32.le_toInt (ho t k)
        rw [le_i] at q3
        have e0 : (0 : Int32).toInt = 0 := rfl
        rw [Int.bmod_eq_of_le_mul_two] <;> omega
      have h3 := lt_i.mp (ho_lt q2 q3)
      have e1 : (-1 : Int32).toInt = -1 := rfl
      unfold srt nt
      rw [eq_i, nI_toInt hn, hl, ← Int32.toNat_toInt, hl]
      omega
    rw [show ((-2 - ho t k = 0) ↔ (-2 - ho t k = nI 0)) from Iff.rfl, hs 0 (by omega), hs 1 (by omega), hs 2 (by omega), hs 3 (by omega), lgc0]
    refine ⟨vv, hk, fun z0 => ⟨fun z1 => ⟨fun z2 => ⟨fun z3 => ⟨fun z => ⟨vx, fin _ ?_⟩, fun z => ⟨vx, fin _ ?_⟩⟩, fun z3 => ⟨vx, fin _ ?_⟩⟩, fun z2 => ⟨vx, fin _ ?_⟩⟩, fun z1 => ⟨vx, fin _ ?_⟩⟩, fun z0 => ⟨vx, fin _ ?_⟩⟩
    · rw [cutV, if_neg z0, if_neg z1, if_neg z2, if_neg z3, if_pos z]
    · rw [cutV, if_neg z0, if_neg z1, if_neg z2, if_neg z3, if_neg z]
    · rw [cutV, if_neg z0, if_neg z1, if_neg z2, if_pos z3]
    · rw [cutV, if_neg z0, if_neg z1, if_pos z2]
    · rw [cutV, if_neg z0, if_pos z1]
    · rw [cutV, if_pos z0]
  · rw [spPlace, if_pos]
    rw [lt_i]; rw [le_i] at q; omega
theorem ctX4_isUnder {h : Hp} {k a : Nat} (hk : k ≤ 5) (ha : a ≤ 5) : Ret mX4_isUnder 0 [vI (nI k), vI (nI a)] h 0 0 (RI fun x h' => x = bI (undr k a = true) ∧ h' = h) := by
  refine Ret.go (by decide) rfl rfl RI.ret (bX4_isUnder_0 ?_)
  have E : ∀ n : Nat, n < 2 ^ 31 → ∀ j : Nat, j < 2 ^ 31 → (nI n = nI j ↔ n = j) := fun n hn j hj => nI_eq hn hj
  have e0 : (nI a = 0 ↔ a = 0) := E a (by omega) 0 (by omega)
  rw [e0, E k (by omega) a (by omega), E a (by omega) 1 (by omega), E a (by omega) 4 (by omega), E k (by omega) 5 (by omega), E k (by omega) 2 (by omega), E k (by omega) 4 (by omega)]
  have T : undr k a = true → RI (fun x h' => x = bI (undr k a = true) ∧ h' = h) (rI (nI 1)) h := fun z => RI.i ⟨by rw [bI_t z]; rfl, rfl⟩
  have F : ¬ undr k a = true → RI (fun x h' => x = bI (undr k a = true) ∧ h' = h) (rI (nI 0)) h := fun z => RI.i ⟨by rw [bI_f z]; rfl, rfl⟩
  have D : undr k a = true ↔ (a = 0 ∨ k = a ∨ a = 1 ∧ (k = 2 ∨ k = 4 ∨ k = 5) ∨ a = 4 ∧ k = 5) := by rw [undr, decide_eq_true_eq]
  replace T := fun z => T (D.mpr z)
  replace F := fun (z : ¬ (a = 0 ∨ k = a ∨ a = 1 ∧ (k = 2 ∨ k = 4 ∨ k = 5) ∨ a = 4 ∧ k = 5)) => F (fun q => z (D.mp q))
  refine ⟨fun z => T (by omega), fun z => ⟨fun z => ⟨fun z => ⟨fun z => F (by omega), fun z => ⟨fun z => F (by omega), fun z => T (by omega)⟩⟩, fun z => ⟨fun z => T (by omega), fun z => ⟨fun z => T (by omega), fun z => ⟨fun z => T (by omega), fun z => ⟨fun z => F (by omega), fun z => ⟨fun z => F (by omega), fun z => T (by omega)⟩⟩⟩⟩⟩⟩, fun z => T (by omega)⟩⟩
theorem ctX4_taken {h : Hp} {o g : Nat} {t : St} {s k : Int32} (m : MS h o t g) (W : WSv t) : Ret mX4_taken 2 [vR (some o), vI s, vI k] h 0 0 (RI fun x h' => x = spTaken t s k ∧ h' = h) := by
  have hb := m.b_nb
  refine Ret.go (by decide) rfl rfl RI.ret (bX4_taken_0 m ⟨fun q => RI.i ⟨by rw [spTaken, if_pos (by exact fun z => q z.1)], rfl⟩, fun q1 => ⟨fun q2 => ?_, fun q => RI.i ⟨by rw [spTaken, if_pos (by exact fun z => q z.2)], rfl⟩⟩⟩)
  have G : ¬ ¬ (bt s 0 5 = true ∧ bt k 0 5 = true) := fun z => z ⟨q1, q2⟩
  obtain ⟨i, hi, rfl⟩ := bt_nI (n := 6) q1
  obtain ⟨j, hj, rfl⟩ := bt_nI (n := 6) q2
  have ei : nt (nI i) = i := nt_nI (by omega)
  have ej : nt (nI j) = j := nt_nI (by omega)
  have vv := vp_in_nI (n := i) (N := 6) (by omega) (by omega)
  rw [ei]
  refine ⟨vv, hi, fun z1 => ⟨vv, hi, fun z2 => RI.i ⟨?_, rfl⟩, fun z2 => ?_⟩, fun z1 => RI.i ⟨?_, rfl⟩⟩
  · rw [spTaken, if_neg G, ei, ej, if_neg z1, if_neg]
    exact fun z => lt0_of.mpr z.1 z2
  · have z0 := lt0_of.mp z2
    have w := bt_iff.mp (W i hi)
    obtain ⟨b, hbb, eb⟩ := nI_of z2
    have hlt : b < nb t := by rw [eb, nI_toInt hbb] at w; omega
    have enb : nt (ho t i) = b := by rw [eb]; exact nt_nI hbb
    rw [enb]
    have vb : vp_in (ho t i) 200 := by rw [eb]; exact vp_in_nI (by omega) (by omega)
    refine ⟨vv, hi, vb, hlt, _, ctX4_isUnder (m.b_bk b hlt).1 (by omega), ?_⟩
    rintro x h' ⟨rfl, rfl⟩
    refine ⟨t, g, m, fun y => RI.i ⟨?_, rfl⟩, fun y => ⟨vv, hi, vb, by rw [enb]; exact hlt, RI.i ⟨?_, rfl⟩⟩⟩
    · rw [spTaken, if_neg G, ei, ej, if_neg z1, if_neg]
      rw [enb]
      exact fun z => bI_0.mp y z.2
    · rw [spTaken, if_neg G, ei, ej, if_neg z1, if_pos]
      rw [enb]
      exact ⟨z0, bI_n0.mp y⟩
  · rw [spTaken, if_neg G, ei, if_pos z1]
