def trc (t : St) (L : List Nat) : St := uN (uI t 22 (fun i => nI (L.getD i 0))) 13 L.length
theorem ctX4_ran {h : Hp} {o g c : Nat} {t : St} {L : List Nat} (m : MS h o (trc t L) g) (hL : L.length < 100) : Ret mX4_ran 0 [vR (some o), vI (nI c)] h 0 0 (RV fun h' => MS h' o (trc t (L ++ [c])) g) := by
  have e1 : tr (trc t L) = L.length := rfl
  have hlen : (L ++ [c]).length = L.length + 1 := by rw [List.length_append]; rfl
  have bd : Bd (trc t (L ++ [c])) := (by obtain ⟨b1, b2, b3, b4, b5, b6, b7, b8, b9, b10, b11, b12, b13, b14, b15, b16, b17, b18, b19, b20, b21⟩ := m.2.1; exact ⟨b1, b2, b3, b4, b5, b6, b7, b8, b9, b10, b11, b12, by show (L ++ [c]).length ≤ 100; omega, b14, b15, b16, b17, b18, b19, b20, b21⟩)
  refine Ret.go (by decide) rfl rfl RV.ret (bX4_ran_0 m ?_)
  rw [e1, nI_add, nI_leI (by omega) (by omega)]
  refine ⟨fun z h2 q2 => RV.i ?_, fun z => ⟨vp_in_nI (by omega) (by omega), fun h3 q3 h4 q4 => RV.i ?_⟩⟩
  · rw [q2]
    refine m.wTr ((AG.oF rfl)) rfl m.1 bd ⟨by rw [hFI_s]; show nI (L.length + 1) = nI (L ++ [c]).length; rw [hlen], fun i hi hi2 => ?_⟩ (fun r => r)
    rw [hAI_sF, m.Tr.2 i hi (by show i < L.length; omega)]
    show nI (L.getD i 0) = nI ((L ++ [c]).getD i 0)
    rw [getD_app, if_pos (by omega)]
  · rw [nt_nI (by omega)] at q3
    rw [q3, hFI_w1, m.f488, e1, nI_add] at q4
    rw [q4]
    refine m.wTr (((AG.w rfl).tr (AG.oF rfl))) rfl m.1 bd ⟨by rw [hFI_s]; show nI (L.length + 1) = nI (L ++ [c]).length; rw [hlen], fun i hi hi2 => ?_⟩ (fun r => r)
    have hi2 : i < (L ++ [c]).length := hi2
    rw [hAI_sF, hAI_w1]
    show _ = nI ((L ++ [c]).getD i 0)
    rw [getD_app]
    by_cases e : i = L.length
    · rw [if_pos e, if_neg (by omega), if_pos e]
    · rw [if_neg e, if_pos (by omega)]
      exact m.Tr.2 i hi (by show i < L.length; omega)
theorem ctX4_plainStiffens {h : Hp} {o g b : Nat} {t : St} {L : List Nat} {v : Int32} (m : MS h o (trc t L) g) (hb : b < nb t) (hL : L.length ≤ 90) : Ret mX4_plainStiffens 1 [vR (some o), vI (nI b), vI v] h 0 0 (RI fun y h' => y = v + sfO t b ∧ MS h' o (trc t (L ++ [1])) g) := by
  have hnb : nb t ≤ 200 := m.b_nb
  have hns : ns t ≤ 12 := m.b_ns
  have hl : li t b ≤ 36 * ns t := (m.b_bk b hb).2
  refine Ret.go (by decide) rfl rfl RI.ret (bX4_plainStiffens_0 m ⟨_, ctX4_ran m (by omega), ?_⟩)
  intro h2 m2
  have eb : nt (nI b) = b := nt_nI (by omega)
  have vb := vp_in_nI (n := b) (N := 200) (by omega) (by omega)
  have el' : li (trc t (L ++ [1])) b = li t b := rfl
  have es : ∀ i, sf (trc t (L ++ [1])) i = sf t i := fun i => rfl
  refine ⟨_, _, m2, ?_⟩
  rw [eb, el', es]
  have e0 : nI (li t b) ≤ 0 ↔ li t b = 0 := by rw [show (0 : Int32) = nI 0 from rfl, nI_leI (by omega) (by omega)]; omega
  rw [e0]
  refine ⟨vb, hb, fun z => RI.i ⟨by rw [sfO, if_pos z]; rfl, m2⟩, fun z => ⟨vb, hb, ?_⟩⟩
  rw [nI_sub (by omega), nt_nI (by omega)]
  exact ⟨vp_in_nI (by omega) (by omega), by show li t b - 1 < 36 * ns t; omega, RI.i ⟨by rw [sfO, if_neg z]; rfl, m2⟩⟩
theorem ctX4_pieceStiffens {h : Hp} {o g b : Nat} {t : St} {L : List Nat} {v : Int32} (m : MS h o (trc t L) g) (hb : b < nb t) (hL : L.length ≤ 80) : Ret mX4_pieceStiffens 2 [vR (some o), vI (nI b), vI v] h 0 0 (RI fun y h' => y = v + sfO t b - 1 ∧ MS h' o (trc t (L ++ [20, 1])) g) := by
  refine Ret.go (by decide) rfl rfl RI.ret (bX4_pieceStiffens_0 m ⟨_, ctX4_ran m (by omega), fun h2 m2 => ⟨_, _, m2, _, ctX4_plainStiffens m2 hb (by rw [List.length_append]; show L.length + 1 ≤ 90; omega), ?_⟩⟩)
  rintro y h3 ⟨rfl, m3⟩
  rw [List.append_assoc] at m3
  exact ⟨_, _, m3, RI.i ⟨rfl, m3⟩⟩
theorem ctX4_stiffens {h : Hp} {o g b : Nat} {t : St} {L : List Nat} {v : Int32} (m : MS h o (trc t L) g) (hb : b < nb t) (hL : L.length ≤ 70) : Ret mX4_stiffens 3 [vR (some o), vI (nI b), vI v] h 0 0 (RI fun y h' => y = (aSt t b v).1 ∧ MS h' o (trc t (L ++ (aSt t b v).2)) g) := by
  have hnb : nb t ≤ 200 := m.b_nb
  have hk : bk t b ≤ 5 := (m.b_bk b hb).1
  have eb : nt (nI b) = b := nt_nI (by omega)
  have vb := vp_in_nI (n := b) (N := 200) (by omega) (by omega)
  refine Ret.go (by decide) rfl rfl RI.ret (bX4_stiffens_0 m ?_)
  rw [eb]
  refine ⟨vb, hb, _, ctX4_isUnder (k := bk t b) (a := 4) hk (by omega), ?_⟩
  rintro x h2 ⟨rfl, rfl⟩
  have U : ∀ a, undr (bk t b) a = true ↔ (a = 0 ∨ bk t b = a ∨ a = 1 ∧ (bk t b = 2 ∨ bk t b = 4 ∨ bk t b = 5) ∨ a = 4 ∧ bk t b = 5) := fun a => by rw [undr, decide_eq_true_eq]
  refine ⟨_, _, m, fun z => ⟨vb, hb, ?_⟩, fun z => ?_⟩
  · have z := bI_0.mp z
    rw [U] at z
    refine ⟨_, ctX4_isUnder (k := bk t b) (a := 1) hk (by omega), ?_⟩
    rintro x h3 ⟨rfl, rfl⟩
    refine ⟨_, _, m, fun z2 => ⟨_, ctX4_plainStiffens m hb (by omega), ?_⟩, fun z2 => ⟨_, ctX4_pieceStiffens m hb (by omega), ?_⟩⟩
    · have z2 := bI_0.mp z2
      rw [U] at z2
      rintro y h4 ⟨rfl, m4⟩
      have E : aSt t b v = (v + sfO t b, [1]) := by rw [aSt, if_neg (by omega), if_neg (by omega)]
      rw [E]
      exact ⟨_, _, m4, RI.i ⟨rfl, m4⟩⟩
    · have z2 := bI_n0.mp z2
      rw [U] at z2
      rintro y h4 ⟨rfl, m4⟩
      have E : aSt t b v = (v + sfO t b - 1, [20, 1]) := by rw [aSt, if_neg (by omega), if_pos (by omega)]
      rw [E]
      exact ⟨_, _, m4, RI.i ⟨rfl, m4⟩⟩
  · have z := bI_n0.mp z
    rw [U] at z
    refine ⟨_, ctX4_ran m (by omega), fun h3 m3 => ⟨_, _, m3, _, ctX4_pieceStiffens m3 hb (by rw [List.length_append]; show L.length + 1 ≤ 80; omega), ?_⟩⟩
    rintro y h4 ⟨rfl, m4⟩
    rw [List.append_assoc] at m4
    have E : aSt t b v = ((v + sfO t b - 1) ^^^ 3, [50, 20, 1]) := by rw [aSt, if_pos (by omega)]
    rw [E]
    exact ⟨_, _, m4, RI.i ⟨rfl, m4⟩⟩
theorem aSt_len {t : St} {b : Nat} {v : Int32} : (aSt t b v).2.length ≤ 3 := by unfold aSt; (repeat' split) <;> simp
theorem ctX4_plainWeighs {h : Hp} {o g b : Nat} {t : St} {L : List Nat} {v : Int32} (m : MS h o (trc t L) g) (hb : b < nb t) (hL : L.length ≤ 60) : Ret mX4_plainWeighs 4 [vR (some o), vI (nI b), vI v] h 0 0 (RI fun y h' => y = (aWp t b v).1 ∧ MS h' o (trc t (L ++ (aWp t b v).2)) g) := by
  refine Ret.go (by decide) rfl rfl RI.ret (bX4_plainWeighs_0 m ⟨_, ctX4_ran m (by omega), fun h2 m2 => ⟨_, _, m2, _, ctX4_stiffens m2 hb (by rw [List.length_append]; show L.length + 1 ≤ 70; omega), ?_⟩⟩)
  rintro y h3 ⟨rfl, m3⟩
  rw [List.append_assoc] at m3
  exact ⟨_, _, m3, RI.i ⟨rfl, m3⟩⟩
theorem aWp_len {t : St} {b : Nat} {v : Int32} : (aWp t b v).2.length ≤ 4 := by have := aSt_len (t := t) (b := b) (v := v); show (aSt t b v).2.length + 1 ≤ 4; omega
theorem ctX4_weighs {h : Hp} {o g b : Nat} {t : St} {L : List Nat} {v : Int32} (m : MS h o (trc t L) g) (hb : b < nb t) (hL : L.length ≤ 50) : Ret mX4_weighs 5 [vR (some o), vI (nI b), vI v] h 0 0 (RI fun y h' => y = (aWe t b v).1 ∧ MS h' o (trc t (L ++ (aWe t b v).2)) g) := by
  have hnb : nb t ≤ 200 := m.b_nb
  have hk : bk t b ≤ 5 := (m.b_bk b hb).1
  have eb : nt (nI b) = b := nt_nI (by omega)
  have vb := vp_in_nI (n := b) (N := 200) (by omega) (by omega)
  have ek : bk (trc t L) b = bk t b := rfl
  refine Ret.go (by decide) rfl rfl RI.ret (bX4_weighs_0 m ?_)
  rw [eb, ek, nI_eq (by omega) (by omega), nI_eq (by omega) (by omega)]
  refine ⟨vb, hb, fun z => ⟨vb, hb, fun z2 => ⟨_, ctX4_plainWeighs m hb (by omega), ?_⟩, fun z2 => ⟨_, ctX4_ran m (by omega), fun h2 m2 => ⟨_, _, m2, _, ctX4_plainWeighs m2 hb (by rw [List.length_append]; show L.length + 1 ≤ 60; omega), ?_⟩⟩⟩, fun z => ⟨_, ctX4_ran m (by omega), fun h2 m2 => ⟨_, _, m2, _, ctX4_plainWeighs m2 hb (by rw [List.length_append]; show L.length + 1 ≤ 60; omega), ?_⟩⟩⟩
  · rintro y h3 ⟨rfl, m3⟩
    have E : aWe t b v = aWp t b v := by rw [aWe, if_neg z, if_neg z2]
    rw [E]
    exact ⟨_, _, m3, RI.i ⟨rfl, m3⟩⟩
  · rintro y h3 ⟨rfl, m3⟩
    rw [List.append_assoc] at m3
    have E : aWe t b v = (-(aWp t b v).1, 40 :: (aWp t b v).2) := by rw [aWe, if_neg z, if_pos z2]
    rw [E]
    exact ⟨_, _, m3, RI.i ⟨rfl, m3⟩⟩
  · rintro y h3 ⟨rfl, m3⟩
    have l1 := aWp_len (t := t) (b := b) (v := v)
    refine ⟨_, _, m3, _, ctX4_stiffens m3 hb (by rw [List.length_append, List.length_append]; show L.length + 1 + _ ≤ 70; omega), ?_⟩
    rintro y h4 ⟨rfl, m4⟩
    have E : aWe t b v = ((aWp t b v).1 + (aSt t b 2).1, 31 :: (aWp t b v).2 ++ (aSt t b 2).2) := by rw [aWe, if_pos z]
    rw [E]
    have el' : L ++ [31] ++ (aWp t b v).2 ++ (aSt t b 2).2 = L ++ (31 :: (aWp t b v).2 ++ (aSt t b 2).2) := by simp
    have m4 : MS h4 o (trc t (L ++ [31] ++ (aWp t b v).2 ++ (aSt t b 2).2)) g := m4
    rw [el'] at m4
    exact ⟨_, _, m4, RI.i ⟨rfl, m4⟩⟩
theorem aWe_len {t : St} {b : Nat} {v : Int32} : (aWe t b v).2.length ≤ 8 := by
  have l1 := aWp_len (t := t) (b := b) (v := v)
  have l2 := aSt_len (t := t) (b := b) (v := 2)
  unfold aWe
  split
  · show ((31 :: (aWp t b v).2) ++ (aSt t b 2).2).length ≤ 8
    rw [List.length_append, List.length_cons]
    omega
  · split
    · show (aWp t b v).2.length + 1 ≤ 8
      omega
    · omega
theorem ctX4_plainSounds {h : Hp} {o g b : Nat} {t : St} {L : List Nat} {v : Int32} (m : MS h o (trc t L) g) (hL : L.length ≤ 60) : Ret mX4_plainSounds 1 [vR (some o), vI (nI b), vI v] h 0 0 (RI fun y h' => y = v ^^^ nI b ∧ MS h' o (trc t (L ++ [11])) g) := by
  refine Ret.go (by decide) rfl rfl RI.ret (bX4_plainSounds_0 m ⟨_, ctX4_ran m (by omega), fun h2 m2 => ⟨_, _, m2, RI.i ⟨rfl, m2⟩⟩⟩)
theorem ctX4_sounds {h : Hp} {o g b : Nat} {t : St} {L : List Nat} {v : Int32} (m : MS h o (trc t L) g) (hb : b < nb t) (hL : L.length ≤ 40) : Ret mX4_sounds 6 [vR (some o), vI (nI b), vI v] h 0 0 (RI fun y h' => y = (aSo t b v).1 ∧ MS h' o (trc t (L ++ (aSo t b v).2)) g) := by
  have hnb : nb t ≤ 200 := m.b_nb
  have hk : bk t b ≤ 5 := (m.b_bk b hb).1
  have eb : nt (nI b) = b := nt_nI (by omega)
  have vb := vp_in_nI (n := b) (N := 200) (by omega) (by omega)
  have ek : bk (trc t L) b = bk t b := rfl
  refine Ret.go (by decide) rfl rfl RI.ret (bX4_sounds_0 m ?_)
  rw [eb, ek, nI_eq (by omega) (by omega), nI_eq (by omega) (by omega)]
  refine ⟨vb, hb, fun z => ⟨vb, hb, fun z2 => ⟨_, ctX4_plainSounds m (by omega), ?_⟩, fun z2 => ⟨_, ctX4_ran m (by omega), fun h2 m2 => ⟨_, _, m2, _, ctX4_plainSounds m2 (by rw [List.length_append]; show L.length + 1 ≤ 60; omega), ?_⟩⟩⟩, fun z => ⟨_, ctX4_ran m (by omega), fun h2 m2 => ⟨_, _, m2, _, ctX4_plainSounds m2 (by rw [List.length_append]; show L.length + 1 ≤ 60; omega), ?_⟩⟩⟩
  · rintro y h3 ⟨rfl, m3⟩
    have E : aSo t b v = (v ^^^ nI b, [11]) := by rw [aSo, if_neg z, if_neg z2]
    rw [E]
    exact ⟨_, _, m3, RI.i ⟨rfl, m3⟩⟩
  · rintro y h3 ⟨rfl, m3⟩
    refine ⟨_, _, m3, _, ctX4_weighs m3 hb (by rw [List.length_append, List.length_append]; show L.length + 1 + 1 ≤ 50; omega), ?_⟩
    rintro y h4 ⟨rfl, m4⟩
    have E : aSo t b v = ((v ^^^ nI b) + (aWe t b 1).1, 60 :: 11 :: (aWe t b 1).2) := by rw [aSo, if_neg z, if_pos z2]
    rw [E]
    have el' : L ++ [60] ++ [11] ++ (aWe t b 1).2 = L ++ (60 :: 11 :: (aWe t b 1).2) := by simp
    have m4 : MS h4 o (trc t (L ++ [60] ++ [11] ++ (aWe t b 1).2)) g := m4
    rw [el'] at m4
    exact ⟨_, _, m4, RI.i ⟨rfl, m4⟩⟩
  · rintro y h3 ⟨rfl, m3⟩
    rw [List.append_assoc] at m3
    have E : aSo t b v = ((v ^^^ nI b) * 5, [30, 11]) := by rw [aSo, if_pos z]
    rw [E]
    exact ⟨_, _, m3, RI.i ⟨rfl, m3⟩⟩
theorem ctX4_plainTells {h : Hp} {o g b : Nat} {t : St} {L : List Nat} {v : Int32} (m : MS h o (trc t L) g) (hb : b < nb t) (hL : L.length ≤ 20) : Ret mX4_plainTells 7 [vR (some o), vI (nI b), vI v] h 0 0 (RI fun y h' => y = (aTp t b v).1 ∧ MS h' o (trc t (L ++ (aTp t b v).2)) g) := by
  have l1 := aWe_len (t := t) (b := b) (v := v)
  refine Ret.go (by decide) rfl rfl RI.ret (bX4_plainTells_0 m ⟨_, ctX4_ran m (by omega), fun h2 m2 => ⟨_, _, m2, _, ctX4_weighs m2 hb (by rw [List.length_append]; show L.length + 1 ≤ 50; omega), ?_⟩⟩)
  rintro y h3 ⟨rfl, m3⟩
  refine ⟨_, _, m3, _, ctX4_sounds m3 hb (by rw [List.length_append, List.length_append]; show L.length + 1 + _ ≤ 40; omega), ?_⟩
  rintro y h4 ⟨rfl, m4⟩
  have el' : L ++ [2] ++ (aWe t b v).2 ++ (aSo t b 1).2 = L ++ (2 :: (aWe t b v).2 ++ (aSo t b 1).2) := by simp
  have m4 : MS h4 o (trc t (L ++ [2] ++ (aWe t b v).2 ++ (aSo t b 1).2)) g := m4
  rw [el'] at m4
  exact ⟨_, _, m4, RI.i ⟨rfl, m4⟩⟩
theorem ctX4_crackedTells {h : Hp} {o g b : Nat} {t : St} {L : List Nat} {v : Int32} (m : MS h o (trc t L) g) (hb : b < nb t) (hL : L.length ≤ 10) : Ret mX4_crackedTells 8 [vR (some o), vI (nI b), vI v] h 0 0 (RI fun y h' => y = (aTp t b (v + 1)).1 ∧ MS h' o (trc t (L ++ 51 :: (aTp t b (v + 1)).2)) g) := by
  refine Ret.go (by decide) rfl rfl RI.ret (bX4_crackedTells_0 m ⟨_, ctX4_ran m (by omega), fun h2 m2 => ⟨_, _, m2, _, ctX4_plainTells m2 hb (by rw [List.length_append]; show L.length + 1 ≤ 20; omega), ?_⟩⟩)
  rintro y h3 ⟨rfl, m3⟩
  rw [List.append_assoc] at m3
  exact ⟨_, _, m3, RI.i ⟨rfl, m3⟩⟩
theorem ctX4_tells {h : Hp} {o g b : Nat} {t : St} {v : Int32} (m : MS h o (trc t []) g) (hb : b < nb t) : Ret mX4_tells 9 [vR (some o), vI (nI b), vI v] h 0 0 (RI fun y h' => y = (aTe t b v).1 ∧ MS h' o (trc t (aTe t b v).2) g) := by
  have hnb : nb t ≤ 200 := m.b_nb
  have hk : bk t b ≤ 5 := (m.b_bk b hb).1
  have eb : nt (nI b) = b := nt_nI (by omega)
  have vb := vp_in_nI (n := b) (N := 200) (by omega) (by omega)
  have ek : bk (trc t []) b = bk t b := rfl
  refine Ret.go (by decide) rfl rfl RI.ret (bX4_tells_0 m ?_)
  rw [eb, ek, nI_eq (by omega) (by omega), nI_eq (by omega) (by omega)]
  refine ⟨vb, hb, fun z => ⟨vb, hb, fun z2 => ⟨_, ctX4_plainTells m hb (by decide), ?_⟩, fun z2 => ⟨_, ctX4_crackedTells m hb (by decide), ?_⟩⟩, fun z => ⟨_, ctX4_ran m (by decide), fun h2 m2 => ⟨_, _, m2, _, ctX4_crackedTells m2 hb (by decide), ?_⟩⟩⟩
  · rintro y h3 ⟨rfl, m3⟩
    have E : aTe t b v = aTp t b v := by rw [aTe, if_neg z, if_neg z2]
    rw [E]
    exact ⟨_, _, m3, RI.i ⟨rfl, m3⟩⟩
  · rintro y h3 ⟨rfl, m3⟩
    have E : aTe t b v = ((aTp t b (v + 1)).1, 51 :: (aTp t b (v + 1)).2) := by rw [aTe, if_neg z, if_pos z2]
    rw [E]
    exact ⟨_, _, m3, RI.i ⟨rfl, m3⟩⟩
  · rintro y h3 ⟨rfl, m3⟩
    have E : aTe t b v = ((aTp t b (v + 1)).1 * 2, 61 :: 51 :: (aTp t b (v + 1)).2) := by rw [aTe, if_pos z]
    rw [E]
    exact ⟨_, _, m3, RI.i ⟨rfl, m3⟩⟩
theorem ctX4_act {h : Hp} {o g : Nat} {t : St} {b w v : Int32} (m : MS h o t g) : Ret mX4_act 10 [vR (some o), vI b, vI w, vI v] h 0 0 (RI fun y h' => y = (spAct t b w v).2 ∧ MS h' o (spAct t b w v).1 g) := by
  have hnb : nb t ≤ 200 := m.b_nb
  refine Ret.go (by decide) rfl rfl RI.ret (bX4_act_0 m fun h1 q1 => ?_)
  have M0 : ∀ td', MS h1 o (uN (uI t 22 td') 13 0) g := by
    intro td'
    rw [q1]
    exact m.wTr ((AG.oF rfl)) rfl m.1 (by obtain ⟨b1, b2, b3, b4, b5, b6, b7, b8, b9, b10, b11, b12, b13, b14, b15, b16, b17, b18, b19, b20, b21⟩ := m.2.1; exact ⟨b1, b2, b3, b4, b5, b6, b7, b8, b9, b10, b11, b12, by show 0 ≤ 100; omega, b14, b15, b16, b17, b18, b19, b20, b21⟩) ⟨hFI_s, fun i _ hi => absurd hi (Nat.not_lt_zero i)⟩ (fun r => r)
  have m1 : MS h1 o (trc t []) g := M0 _
  have m2 : MS h1 o (uN t 13 0) g := by
    have := M0 (td t)
    have e : uI t 22 (td t) = t := uI_s
    rwa [e] at this
  refine ⟨_, ctX4_isBody m2, ?_⟩
  rintro x h3 ⟨rfl, rfl⟩
  refine ⟨m1.1, fun z => RIs (y := (uN t 13 0, 0)) (by rw [spAct, if_pos (by exact fun y => bI_0.mp z y.1)]) rfl m2, fun z => ⟨fun q2 => ?_, fun q => RIs (y := (uN t 13 0, 0)) (by rw [spAct, if_pos (by exact fun y => q y.2)]) rfl m2⟩⟩
  have z : bt b 0 (nb t - 1) = true := bI_n0.mp z
  have G : ¬ ¬ (bt b 0 (nb t - 1) = true ∧ bt w 0 3 = true) := fun y => y ⟨z, q2⟩
  obtain ⟨k, hk, rfl⟩ := bt_nI z
  have ek : nt (nI k) = k := nt_nI (by omega)
  have fin : ∀ y h', y = (aAc t k w v).1 → MS h' o (trc t (aAc t k w v).2) g → MO h' o ∧ RI (fun y h' => y = (spAct t (nI k) w v).2 ∧ MS h' o (spAct t (nI k) w v).1 g) (rI y) h' := by
    intro y h' e1 M
    exact ⟨M.1, RIs (y := (trc t (aAc t k w v).2, (aAc t k w v).1)) (by rw [spAct, if_neg G, ek]; rfl) e1 M⟩
  refine ⟨fun z0 => ⟨fun z1 => ⟨fun z2 => ⟨_, ctX4_tells m1 hk, ?_⟩, fun z2 => ⟨_, ctX4_sounds m1 hk (by decide), ?_⟩⟩, fun z1 => ⟨_, ctX4_weighs m1 hk (by decide), ?_⟩⟩, fun z0 => ⟨_, ctX4_stiffens m1 hk (by decide), ?_⟩⟩
  · rintro y h4 ⟨rfl, m4⟩
    have E : aAc t k w v = aTe t k v := by rw [aAc, if_neg (by exact z0), if_neg (by exact z1), if_neg (by exact z2)]
    exact fin _ _ (by rw [E]) (by rw [E]; exact m4)
  · rintro y h4 ⟨rfl, m4⟩
    have E : aAc t k w v = aSo t k v := by rw [aAc, if_neg (by exact z0), if_neg (by exact z1), if_pos (by exact z2)]
    exact fin _ _ (by rw [E]) (by rw [E]; exact m4)
  · rintro y h4 ⟨rfl, m4⟩
    have E : aAc t k w v = aWe t k v := by rw [aAc, if_neg (by exact z0), if_pos (by exact z1)]
    exact fin _ _ (by rw [E]) (by rw [E]; exact m4)
  · rintro y h4 ⟨rfl, m4⟩
    have E : aAc t k w v = aSt t k v := by rw [aAc, if_pos (by exact z0)]
    exact fin _ _ (by rw [E]) (by rw [E]; exact m4)
