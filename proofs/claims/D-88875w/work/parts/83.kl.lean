abbrev Cd : Type := Tk × Int32 × Int32
/-- what fits so far -/
def FT (h : Hp) (o : Nat) (t : St) (s : Nat) (q : Int32) (L : List Cd) : Prop := hFI h 467 o = nI L.length ∧ (∀ x, L.head? = some x → hFI h 468 o = x.2.1 ∧ hFI h 469 o = x.2.2) ∧ ∀ i, hm t ≤ i → i < tones t s → ∀ p < 100, hAI h (o + 43) (100 * i + p) = nI (alk L q i p)
abbrev UF (h h' : Hp) (o : Nat) : Prop := FR h h' o [442, 437, 467, 468, 469] [29, 31, 32, 43] [27, 28, 30]
theorem FT.fr {h h' : Hp} {o s : Nat} {t : St} {q : Int32} {L : List Cd} {F A B : List Nat} (m : FT h o t s q L) (e : FR h h' o F A B) (h1 : F.contains 467 = false) (h2 : F.contains 468 = false) (h3 : F.contains 469 = false) (h4 : A.contains 43 = false) : FT h' o t s q L := by
  unfold FT
  rw [e.1 467 h1, e.1 468 h2, e.1 469 h3, e.2.1 43 h4]
  exact m
theorem alk_app {L : List Cd} {x : Cd} {q : Int32} {i p : Nat} : alk (L ++ [x]) q i p = alk L q i p + if sht x.1 q i = p then 1 else 0 := by
  unfold alk
  rw [List.filter_append, List.length_append]
  congr 1
  by_cases c : sht x.1 q i = p
  · simp [c]
  · simp [c]
theorem ctX4_tryFit {h : Hp} {o g s : Nat} {t : St} {q b c : Int32} {k : Tk} {L : List Cd} (m : MS h o t (g + 42)) (K : TK h o k) (hs : s < ns t) (hh : hm t ≤ tones t s) (T : FT h o t s q L) (hL : L.length < 2000) : Ret mX4_tryFit 16 [vR (some o), vI (nI s), vI q, vI b, vI c] h 0 0 (RV fun h' => MS h' o t g ∧ FT h' o t s q (if fitQ t q (k, b, c) then L ++ [(k, b, c)] else L) ∧ UF h h' o) := by
  have hn := m.b_ns
  have hc := m.b_nc s hs
  have h6 := m.b_hm
  have ht : tones t s ≤ nc t s := cntB_le _ _
  have es : nt (nI s) = s := nt_nI (by omega)
  refine Ret.go (by decide) rfl rfl RV.ret (bX4_tryFit_0 m ⟨_, ctX4_forgetChanges m, ?_⟩)
  rintro h2 ⟨m2, C2, F2⟩
  refine ⟨_, _, m2, ?_⟩
  -- the tones further on
  have L2 : fitQ t q (k, b, c) = true → ∀ i, i ≤ tones t s → hm t ≤ i → ∀ h', MS h' o t (g + 7 * (tones t s - i)) → TK h' o k → CB h' o k q → UF h h' o → hFI h' 467 o = nI (L.length + 1) → (∀ x, (L ++ [(k, b, c)]).head? = some x → hFI h' 468 o = x.2.1 ∧ hFI h' 469 o = x.2.2) → (∀ j, hm t ≤ j → j < tones t s → ∀ p < 100, hAI h' (o + 43) (100 * j + p) = nI (if j < i then alk (L ++ [(k, b, c)]) q j p else alk L q j p)) → AWP mX4_tryFit 16 75 [vR (some o), vI (nI s), vI q, vI b, vI c, vI (nI i)] [] h' (0, 0) (RV fun h' => MS h' o t g ∧ FT h' o t s q (if fitQ t q (k, b, c) then L ++ [(k, b, c)] else L) ∧ UF h h' o) := by
    intro hfit
    refine lo_up ?_ ?_
    · intro i hi hS hmi h' M K C F e7 eh R
      refine bX4_tryFit_75 M ⟨bt_of hs (by omega), ?_⟩
      rw [es]
      refine ⟨fun z => absurd z (nI_ge hi (by omega)), fun _ => ⟨_, ctX4_shutOf (g := g + 7 * (tones t s - (i + 1))) (M.le (by omega)) K C (by omega), ?_⟩⟩
      rintro z h3 ⟨rfl, m3, C3, F3⟩
      have hsl := sht_lt (k := k) (q := q) (i := i)
      rw [pk_mul, nI_add, nI_add, nt_nI (by omega)]
      have vx := vp_in_nI (n := 100 * i + sht k q i) (N := 600) (by omega) (by omega)
      refine ⟨_, _, m3, vx, vx, fun h8 q8 => ?_⟩
      have F8 : FR h3 h8 o [] [43] [] := by rw [q8]; exact FR.w rfl
      refine hS (by omega) h8 (by rw [q8]; exact m3.fr (PE.w rfl)) ((K.fr F3 rfl rfl rfl rfl rfl).fr F8 rfl rfl rfl rfl rfl) (fun p hp => by rw [F8.2.1 32 rfl]; exact C3 p hp) ((F.tr (F3.mono rfl rfl rfl)).tr (F8.mono rfl rfl rfl)) (by rw [F8.1 467 rfl, F3.1 467 rfl]; exact e7) (fun x hx => by rw [F8.1 468 rfl, F3.1 468 rfl, F8.1 469 rfl, F3.1 469 rfl]; exact eh x hx) (fun j hj1 hj2 p hp => ?_)
      rw [q8, hAI_w1, F3.2.1 43 rfl]
      by_cases e : 100 * j + p = 100 * i + sht k q i
      · obtain rfl : j = i := by omega
        obtain rfl : p = sht k q j := by omega
        rw [if_pos rfl, if_pos (by omega), R j hj1 hj2 _ hsl, if_neg (by omega), nI_add, alk_app, if_pos rfl]
      · rw [if_neg e, R j hj1 hj2 p hp]
        by_cases e2 : j = i
        · rw [if_neg (by omega), if_pos (by omega), alk_app, if_neg (by rw [e2]; show ¬ sht k q i = p; omega), Nat.add_zero]
        · by_cases e3 : j < i
          · rw [if_pos e3, if_pos (by omega)]
          · rw [if_neg e3, if_neg (by omega)]
    · intro hmi h' M K C F e7 eh R
      refine bX4_tryFit_75 M ⟨bt_of hs (by omega), ?_⟩
      rw [es]
      refine ⟨fun _ => RV.i ⟨M.le (by omega), ?_, F⟩, fun z => absurd (nI_le (Nat.le_refl _) (by omega)) z⟩
      rw [if_pos hfit]
      refine ⟨by rw [e7, List.length_append]; rfl, eh, fun i h1 h2 p hp => ?_⟩
      rw [R i h1 h2 p hp, if_pos h2]
  have L1 : ∀ i, i ≤ hm t → ∀ h', MS h' o t (g + 7 * (6 - i)) → TK h' o k → CB h' o k q → ZF h h' o → (∀ j < i, nI (sht k q j) = hi t j) → AWP mX4_tryFit 16 7 [vR (some o), vI (nI s), vI q, vI b, vI c, vI (nI i)] [] h' (0, 0) (RV fun h' => MS h' o t g ∧ FT h' o t s q (if fitQ t q (k, b, c) then L ++ [(k, b, c)] else L) ∧ UF h h' o) := by
    refine lo_up ?_ ?_
    · intro i hi2 hS h' M K C F R
      refine bX4_tryFit_7 M ⟨fun z => absurd z (nI_ge hi2 (by omega)), fun _ => ⟨_, ctX4_shutOf (g := g + 7 * (6 - (i + 1))) (M.le (by omega)) K C (by omega), ?_⟩⟩
      rintro z h3 ⟨rfl, m3, C3, F3⟩
      rw [nt_nI (by omega), nI_add]
      refine ⟨_, _, m3, vp_in_nI (by omega) (by omega), hi2, fun e => hS h3 m3 (K.fr F3 rfl rfl rfl rfl rfl) C3 (F.tr F3) (fun j hj => ?_), fun e => RV.i ⟨m3.le (by omega), ?_, (F.tr F3).mono rfl rfl rfl⟩⟩
      · by_cases c : j = i
        · rw [c]; exact e
        · exact R j (by omega)
      · rw [if_neg]
        · exact T.fr (F.tr F3) rfl rfl rfl rfl
        · intro z
          exact e (of_decide_eq_true (all_range.mp z i hi2))
    · intro h' M K C F R
      have hfit : fitQ t q (k, b, c) = true := all_range.mpr fun j hj => decide_eq_true (R j hj)
      have T1 := T.fr F rfl rfl rfl rfl
      refine bX4_tryFit_7 M ⟨fun _ h2 q2 => ?_, fun z => absurd (nI_le (Nat.le_refl _) (by omega)) z⟩
      rw [T1.1, nI_add] at q2
      have e7 : hFI h2 467 o = nI (L.length + 1) := by rw [q2]; exact hFI_s
      rw [e7, nI_eq (by omega) (by omega)]
      refine ⟨fun z => ?_, fun z h4 q4 h5 q5 => ?_⟩
      · have F2 : FR h' h2 o [467] [] [] := by rw [q2]; exact FR.oF rfl
        refine L2 hfit (hm t) hh (Nat.le_refl _) h2 (by rw [q2]; exact (M.fr (PE.F rfl)).le (by omega)) (K.fr F2 rfl rfl rfl rfl rfl) (fun p hp => by rw [F2.2.1 32 rfl]; exact C p hp) ((F.mono rfl rfl rfl).tr (F2.mono rfl rfl rfl)) e7 (fun x hx => ?_) (fun j h1 h2' p hp => ?_)
        · rw [F2.1 468 rfl, F2.1 469 rfl]
          refine T1.2.1 x ?_
          cases L with
          | nil => exact absurd rfl z
          | cons y L => exact hx
        · rw [F2.2.1 43 rfl, if_neg (by omega)]
          exact T1.2.2 j h1 h2' p hp
      · have F5 : FR h' h5 o [467, 468, 469] [] [] := by rw [q5, q4, q2]; exact ((FR.oF rfl).tr (FR.oF rfl)).tr (FR.oF rfl)
        obtain rfl : L = [] := List.length_eq_zero_iff.mp (by omega)
        refine L2 hfit (hm t) hh (Nat.le_refl _) h5 (by rw [q5, q4, q2]; exact (((M.fr (PE.F rfl)).fr (PE.F rfl)).fr (PE.F rfl)).le (by omega)) (K.fr F5 rfl rfl rfl rfl rfl) (fun p hp => by rw [F5.2.1 32 rfl]; exact C p hp) ((F.mono rfl rfl rfl).tr (F5.mono rfl rfl rfl)) (by rw [q5, q4, hFI_sn (by decide), hFI_sn (by decide)]; exact e7) (fun x hx => ?_) (fun j h1 h2' p hp => ?_)
        · have hx : some (k, b, c) = some x := hx
          rw [← Option.some.inj hx]
          refine ⟨?_, ?_⟩
          · rw [q5, hFI_sn (by decide), q4]; exact hFI_s
          · rw [q5]; exact hFI_s
        · rw [F5.2.1 43 rfl, if_neg (by omega)]
          exact T1.2.2 j h1 h2' p hp
  exact L1 0 (by omega) h2 (m2.le (by omega)) (K.fr F2 rfl rfl rfl rfl rfl) (C2 _ _) (F2.mono rfl rfl rfl) (fun j hj => absurd hj (Nat.not_lt_zero j))
theorem filt_app {p : Cd → Bool} {L : List Cd} {x : Cd} : (L ++ [x]).filter p = if p x then L.filter p ++ [x] else L.filter p := by
  rw [List.filter_append]
  by_cases c : p x = true
  · rw [if_pos c]; simp [c]
  · rw [if_neg c]; simp [c]
theorem cdB_len {t : St} {s b : Nat} (h : nt (sf t (pc t b)) ≤ 9) : (cdB t s b).length ≤ 9 := by
  unfold cdB
  rw [List.length_map, List.length_range]
  exact h
theorem ctX4_findFits {h : Hp} {o g s : Nat} {t : St} {q : Int32} (m : MS h o t (g + 75642)) (W : WF t) (hs : s < ns t) (hh : hm t ≤ tones t s) : Ret mX4_findFits 17 [vR (some o), vI (nI s), vI q] h 0 0 (RV fun h' => MS h' o t g ∧ FT h' o t s q (ftL t s q)) := by
  have hn := m.b_ns
  have hnb := m.b_nb
  have hc := m.b_nc s hs
  have es : nt (nI s) = s := nt_nI (by omega)
  have hsh : isSh t (nI s) = true := bt_of hs (by omega)
  refine Ret.go (by decide) rfl rfl RV.ret (bX4_findFits_0 m fun h1 q1 => ?_)
  -- over the pieces
  have L4 : ∀ b, b ≤ nb t → ∀ h' y4 y5 P, P.length ≤ 1 + 9 * b → P = (tk0 t s, -1, 0) :: (PLf t s b).flatMap (cdB t s) → MS h' o t (g + 378 * (nb t - b)) → TK h' o (tk0 t s) → FT h' o t s q (P.filter (fitQ t q)) → AWP mX4_findFits 17 115 [vR (some o), vI (nI s), vI q, vI (nI b), y4, y5] [] h' (0, 0) (RV fun h' => MS h' o t g ∧ FT h' o t s q (ftL t s q)) := by
    refine lo_up ?_ ?_
    · intro b hb hS h' y4 y5 P hP eP M K T
      have eb : nt (nI b) = b := nt_nI (by omega)
      have hl := (m.b_bk b hb).2
      obtain ⟨p1, p2⟩ := plc (n := li t b) (by omega)
      refine bX4_findFits_115 M ?_
      rw [eb, p1, nI_add]
      refine ⟨fun z => absurd z (nI_ge hb (by omega)), fun _ => ⟨vp_in_nI (by omega) (by omega), hb, fun z => ?_, fun z => ?_⟩⟩
      · refine hS h' _ _ P (by omega) ?_ (M.le (by omega)) K T
        rw [PLf_s, if_neg (by rw [inSh_iff]; exact fun y => y.1 z)]
        exact eP
      · rw [p2 z, nI_div (by omega) (by omega), nI_eq (by omega) (by omega)]
        refine ⟨fun y => ?_, fun y => ?_⟩
        · have hin : inSh t s b = true := inSh_iff.mpr ⟨z, y⟩
          obtain ⟨q1, q2, q3, q4, q5, q6, q7, q8, q9, q10⟩ := W.pcs m hb hin
          have hsf : bt (sf t (pc t b)) 1 9 = true := by
            have := (W.Pc s hs _ q3 _ q4).2.2.2 (by rw [← q2, q8]; omega)
            rw [q2]
            exact this.2.2.1
          obtain ⟨n, hn1, hn9, en⟩ := bt_k (n := 9) hsf (by decide)
          have enn : nt (sf t (pc t b)) = n := by rw [en]; exact nt_nI (by omega)
          have epc : li t b - 1 = pc t b := rfl
          have ex : nt (nI (pc t b)) = pc t b := nt_nI (by omega)
          have vx := vp_in_nI (n := pc t b) (N := 468) (by omega) (by omega)
          rw [epc]
          refine bX4_findFits_150 M ?_
          -- over the cracks
          have L5 : ∀ c, c ≤ n → ∀ h' k, MS h' o t (g + 378 * (nb t - (b + 1)) + 42 * (9 - c)) → TK h' o k → kN k = nc t s → (∀ a < nc t s, kM k a = kM (tk0 t s) a ∧ kP k a = kP (tk0 t s) a ∧ kH k a = kH (tk0 t s) a ∧ ∀ e < nc t s, ¬ (a = pA t b ∧ e = pB t b ∨ a = pB t b ∧ e = pA t b) → kC k a e = kC (tk0 t s) a e) → FT h' o t s q ((P ++ (cdB t s b).take c).filter (fitQ t q)) → AWP mX4_findFits 17 153 [vR (some o), vI (nI s), vI q, vI (nI b), vI (nI (pc t b)), vI (nI (c + 1))] [] h' (0, 0) (RV fun h' => MS h' o t g ∧ FT h' o t s q (ftL t s q)) := by
            refine lo_up ?_ ?_
            · intro c hcn hS2 h' k M K e0 eK T
              refine bX4_findFits_153 M ?_
              rw [ex, en, nI_pA (by omega), nI_mod (by omega) (by omega), nI_ltI (by omega) (by omega), nI_add]
              refine ⟨vx, q10, fun z => by omega, fun _ => ⟨vx, q10, _, ctX4_setCount M K q3 q4, ?_⟩⟩
              rintro h9 ⟨m9, K9, F9⟩
              have K9 : TK h9 o (kCnt (tk0 t s) (pA t b) (pB t b) (sf t (pc t b) - nI (c + 1))) := by
                rw [en]
                refine K9.ext (by rw [show kN (kCnt (tk0 t s) (pA t b) (pB t b) (nI n - nI (c + 1))) = nc t s from rfl]; exact e0.symm) (fun a ha => ?_)
                have ha : a < nc t s := by rw [← e0]; exact ha
                obtain ⟨f1, f2, f3, f4⟩ := eK a ha
                refine ⟨f1.symm, f2.symm, f3.symm, fun e he => ?_⟩
                have he : e < nc t s := by rw [← e0]; exact he
                show (if a = pA t b ∧ e = pB t b ∨ a = pB t b ∧ e = pA t b then nI n - nI (c + 1) else kC (tk0 t s) a e) = (if a = pA t b ∧ e = pB t b ∨ a = pB t b ∧ e = pA t b then nI n - nI (c + 1) else kC k a e)
                by_cases cc : a = pA t b ∧ e = pB t b ∨ a = pB t b ∧ e = pA t b
                · rw [if_pos cc, if_pos cc]
                · rw [if_neg cc, if_neg cc]; exact (f4 e he cc).symm
              have hlen : ((P ++ (cdB t s b).take c).filter (fitQ t q)).length < 2000 := by
                have h1 := List.length_filter_le (fitQ t q) (P ++ (cdB t s b).take c)
                rw [List.length_append] at h1
                have h2 : ((cdB t s b).take c).length ≤ c := by rw [List.length_take]; omega
                omega
              refine ⟨_, _, m9, _, ctX4_tryFit (g := g + 378 * (nb t - (b + 1)) + 42 * (9 - (c + 1))) (m9.le (by omega)) K9 hs hh (T.fr F9 rfl rfl rfl rfl) hlen (b := nI b) (c := nI (c + 1)), ?_⟩
              rintro h15 ⟨m15, T15, F15⟩
              refine ⟨_, _, m15, ?_⟩
              rw [nI_add]
              refine hS2 h15 _ m15 (K9.fr F15 rfl rfl rfl rfl rfl) rfl (fun a ha => ⟨rfl, rfl, rfl, fun e he cc => ?_⟩) ?_
              · show (if a = pA t b ∧ e = pB t b ∨ a = pB t b ∧ e = pA t b then _ else kC (tk0 t s) a e) = _
                rw [if_neg cc]
              · have et : (cdB t s b).take (c + 1) = (cdB t s b).take c ++ [(kCnt (tk0 t s) (pA t b) (pB t b) (sf t (pc t b) - nI (c + 1)), nI b, nI (c + 1))] := by
                  rw [List.take_add_one]
                  congr 1
                  unfold cdB
                  rw [enn, List.getElem?_map, List.getElem?_range hcn]
                  rfl
                rw [et, ← List.append_assoc, filt_app]
                exact T15
            · intro h' k M K e0 eK T
              refine bX4_findFits_153 M ?_
              rw [ex, en, nI_pA (by omega), nI_mod (by omega) (by omega), nI_ltI (by omega) (by omega), nI_add]
              refine ⟨vx, q10, fun _ => ⟨vx, q10, _, ctX4_setCount M K q3 q4, ?_⟩, fun z => by omega⟩
              rintro h3 ⟨m3, K3, F3⟩
              have et : (cdB t s b).take n = cdB t s b := by
                refine List.take_of_length_le ?_
                unfold cdB
                rw [enn, List.length_map, List.length_range]
                exact Nat.le_refl _
              rw [et] at T
              refine ⟨_, _, m3, ?_⟩
              have hpc2 := W.Pc s hs _ q3 _ q4
              refine hS h3 _ _ (P ++ cdB t s b) ?_ ?_ (m3.le (by omega)) ?_ (T.fr F3 rfl rfl rfl rfl)
              · rw [List.length_append]
                have := cdB_len (t := t) (s := s) (b := b) (by omega)
                omega
              · rw [PLf_s, if_pos hin, List.flatMap_append, eP]
                simp
              · refine K3.ext (by rw [show kN (tk0 t s) = nc t s from rfl]; exact e0.symm) (fun a ha => ?_)
                have ha : a < nc t s := by rw [← e0]; exact ha
                obtain ⟨f1, f2, f3, f4⟩ := eK a ha
                refine ⟨f1.symm, f2.symm, f3.symm, fun e he => ?_⟩
                have he : e < nc t s := by rw [← e0]; exact he
                show kC (tk0 t s) a e = (if a = pA t b ∧ e = pB t b ∨ a = pB t b ∧ e = pA t b then nI n else kC k a e)
                have s1 : sf t (ix s (pA t b) (pB t b)) = nI n := by rw [← q2]; exact en
                by_cases cc : a = pA t b ∧ e = pB t b
                · rw [if_pos (Or.inl cc), cc.1, cc.2]
                  show (if has t s (pA t b) (pB t b) then sf t (ix s (pA t b) (pB t b)) else 0) = _
                  rw [if_pos q9, s1]
                · by_cases c2 : a = pB t b ∧ e = pA t b
                  · rw [if_pos (Or.inr c2), c2.1, c2.2]
                    show (if has t s (pB t b) (pA t b) then sf t (ix s (pB t b) (pA t b)) else 0) = _
                    have : has t s (pB t b) (pA t b) = true := by
                      rw [has, ← hpc2.1]
                      exact q9
                    rw [if_pos this, ← hpc2.2.1, s1]
                  · rw [if_neg (by omega)]
                    exact (f4 e he (by omega)).symm
          refine L5 0 (by omega) h' (tk0 t s) (M.le (by omega)) K rfl (fun a ha => ⟨rfl, rfl, rfl, fun e he _ => rfl⟩) ?_
          rw [List.take_zero, List.append_nil]
          exact T
        · refine hS h' _ _ P (by omega) ?_ (M.le (by omega)) K T
          rw [PLf_s, if_neg (by rw [inSh_iff]; exact fun z => y z.2)]
          exact eP
    · intro h' y4 y5 P hP eP M K T
      refine bX4_findFits_115 M ⟨fun _ => RV.i ⟨M.le (by omega), ?_⟩, fun z => absurd (nI_le (Nat.le_refl _) (by omega)) z⟩
      have : ftL t s q = P.filter (fitQ t q) := by rw [eP]; rfl
      rw [this]
      exact T
  -- without cracks
  have L2 : ∀ a, a ≤ nc t s → ∀ h' y, MS h' o t (g + 75642) → hFI h' 435 o = nI (nc t s) → (∀ x < nc t s, hAI h' (o + 23) x = kM (tk0 t s) x ∧ hAI h' (o + 24) x = kP (tk0 t s) x ∧ hAI h' (o + 25) x = kH (tk0 t s) x) → (∀ x < a, ∀ b < nc t s, hAI h' (o + 26) (6 * x + b) = kC (tk0 t s) x b) → FT h' o t s q [] → AWP mX4_findFits 17 34 [vR (some o), vI (nI s), vI q, vI (nI a), y, vU] [] h' (0, 0) (RV fun h' => MS h' o t g ∧ FT h' o t s q (ftL t s q)) := by
    refine lo_up ?_ ?_
    · intro a ha hS h' y M e5 R1 R2 T
      refine bX4_findFits_34 M ?_
      rw [e5]
      refine ⟨fun z => absurd z (nI_ge ha (by omega)), fun _ => ?_⟩
      have L3 : ∀ b, b ≤ nc t s → ∀ h', MS h' o t (g + 75642) → hFI h' 435 o = nI (nc t s) → (∀ x < nc t s, hAI h' (o + 23) x = kM (tk0 t s) x ∧ hAI h' (o + 24) x = kP (tk0 t s) x ∧ hAI h' (o + 25) x = kH (tk0 t s) x) → (∀ x < a, ∀ b < nc t s, hAI h' (o + 26) (6 * x + b) = kC (tk0 t s) x b) → (∀ e < b, hAI h' (o + 26) (6 * a + e) = kC (tk0 t s) a e) → FT h' o t s q [] → AWP mX4_findFits 17 45 [vR (some o), vI (nI s), vI q, vI (nI a), vI (nI b), vU] [] h' (0, 0) (RV fun h' => MS h' o t g ∧ FT h' o t s q (ftL t s q)) := by
        refine lo_up ?_ ?_
        · intro b hb hS2 h' M e5 R1 R2 R3 T
          have hx := ix_lt (a := a) (b := b) hs (by omega) (by omega)
          refine bX4_findFits_45 M ?_
          rw [e5, ix_nI, pk_mul, nI_add, nI_add, nI_add, es, nt_nI (show a < 2 ^ 31 by omega), nt_nI (show b < 2 ^ 31 by omega), nt_nI (show 6 * a + b < 2 ^ 31 by omega), nt_nI (by omega)]
          have v6 := vp_in_nI (n := 6 * a + b) (N := 36) (by omega) (by omega)
          have vx := vp_in_nI (n := ix s a b) (N := 468) (by omega) (by omega)
          have fin : ∀ v, v = kC (tk0 t s) a b → ∀ h3, h3 = w1 h' (o + 26) (6 * a + b) v → AWP mX4_findFits 17 45 [vR (some o), vI (nI s), vI q, vI (nI a), vI (nI (b + 1)), vU] [] h3 (0, 0) (RV fun h' => MS h' o t g ∧ FT h' o t s q (ftL t s q)) := by
            intro v ev h3 q3
            rw [q3]
            refine hS2 _ (M.fr (PE.w rfl)) e5 (fun x hx => ?_) (fun x hx e he => ?_) (fun e he => ?_) (T.fr (F := []) (A := [26]) (B := []) (FR.w rfl) rfl rfl rfl rfl)
            · simp (disch := decide) only [hAI_wo]; exact R1 x hx
            · rw [hAI_w1, if_neg (by omega)]; exact R2 x hx e he
            · rw [hAI_w1]
              by_cases c : e = b
              · rw [if_pos (by omega), c, ev]
              · rw [if_neg (by omega)]; exact R3 e (by omega)
          refine ⟨fun z => absurd z (nI_ge hb (by omega)), fun _ => ⟨⟨hsh, bt_of (n := 6) (by omega) (by omega), bt_of (n := 6) (by omega) (by omega)⟩, fun z => ⟨v6, fin _ ?_⟩, fun z => ⟨vx, hx, v6, fin _ ?_⟩⟩⟩
          · show nI 0 = if has t s a b then _ else _
            rw [if_neg z]; rfl
          · show _ = if has t s a b then _ else _
            rw [if_pos z]
        · intro h' M e5 R1 R2 R3 T
          refine bX4_findFits_45 M ?_
          rw [e5, nI_add]
          refine ⟨fun _ => hS _ _ M e5 R1 (fun x hx b hb => ?_) T, fun z => absurd (nI_le (Nat.le_refl _) (by omega)) z⟩
          by_cases c : x = a
          · rw [c]; exact R3 b hb
          · exact R2 x (by omega) b hb
      exact L3 0 (by omega) h' M e5 R1 R2 (fun e he => absurd he (Nat.not_lt_zero e)) T
    · intro h' y M e5 R1 R2 T
      refine bX4_findFits_34 M ?_
      rw [e5]
      have K : TK h' o (tk0 t s) := ⟨hc.2, e5, fun x hx => ⟨(R1 x hx).1, (R1 x hx).2.1, (R1 x hx).2.2, R2 x hx⟩⟩
      refine ⟨fun _ => ⟨_, ctX4_tryFit (g := g + 75600) M K hs hh T (by decide) (b := -1) (c := nI 0), ?_⟩, fun z => absurd (nI_le (Nat.le_refl _) (by omega)) z⟩
      rintro h3 ⟨m3, T3, F3⟩
      refine ⟨_, _, m3, L4 0 (by omega) h3 _ _ [(tk0 t s, -1, 0)] (by show 1 ≤ 1; omega) rfl (m3.le (by omega)) (K.fr F3 rfl rfl rfl rfl rfl) ?_⟩
      rw [show [(tk0 t s, (-1 : Int32), (0 : Int32))] = [] ++ [(tk0 t s, -1, 0)] from rfl, filt_app]
      exact T3
  have L1 : ∀ n, n ≤ 600 → ∀ h', MS h' o t (g + 75642) → hFI h' 467 o = nI 0 → (∀ j < n, hAI h' (o + 43) j = nI 0) → AWP mX4_findFits 17 7 [vR (some o), vI (nI s), vI q, vI (nI n), vU, vU] [] h' (0, 0) (RV fun h' => MS h' o t g ∧ FT h' o t s q (ftL t s q)) := by
    refine lo_up ?_ ?_
    · intro n hn6 hS h' M e7 R
      refine bX4_findFits_7 M ?_
      rw [nt_nI (by omega), nI_add]
      refine ⟨fun z => absurd z (nI_ge hn6 (by omega)), fun _ => ⟨vp_in_nI (by omega) (by omega), fun h8 q8 => ?_⟩⟩
      rw [q8]
      refine hS _ (M.fr (PE.w rfl)) e7 (fun j hj => ?_)
      rw [hAI_w1]
      by_cases c : j = n
      · rw [if_pos c]
      · rw [if_neg c]; exact R j (by omega)
    · intro h' M e7 R
      refine bX4_findFits_7 M ⟨fun _ => ⟨_, ctX4_take M W.Sh hs, ?_⟩, fun z => absurd (nI_le (Nat.le_refl _) (by omega)) z⟩
      rintro h3 ⟨m3, K3, F3⟩
      obtain ⟨c1, c2, c3⟩ := K3
      refine ⟨_, _, m3, L2 0 (by omega) h3 _ m3 c2 (fun x hx => ⟨(c3 x hx).1, (c3 x hx).2.1, (c3 x hx).2.2.1⟩) (fun x hx => absurd hx (Nat.not_lt_zero x)) ⟨by rw [F3.1 467 rfl]; exact e7, fun x hx => by simp at hx, fun i _ h2 p hp => ?_⟩⟩
      have ht : tones t s ≤ nc t s := cntB_le _ _
      rw [F3.2.1 43 rfl, R _ (by omega)]
      rfl
  rw [q1]
  exact L1 0 (by omega) _ (m.fr (PE.F rfl)) hFI_s (fun j hj => absurd hj (Nat.not_lt_zero j))
theorem ftL_len {h : Hp} {o g s : Nat} {t : St} {q : Int32} (m : MS h o t g) (W : WF t) (hs : s < ns t) : (ftL t s q).length < 2000 := by
  have hnb := m.b_nb
  have h1 := List.length_filter_le (fitQ t q) (cdL t s)
  have L : ∀ b, b ≤ nb t → ((PLf t s b).flatMap (cdB t s)).length ≤ 9 * b := by
    intro b
    induction b with
    | zero => intro _; exact Nat.le_refl _
    | succ b ih =>
      intro hb
      have := ih (by omega)
      rw [PLf_s]
      split
      · rename_i hin
        obtain ⟨q1, q2, q3, q4, q5, q6, q7, q8, q9, q10⟩ := W.pcs m (by omega) hin
        have hsf : bt (sf t (pc t b)) 1 9 = true := by
          have := (W.Pc s hs _ q3 _ q4).2.2.2 (by rw [← q2, q8]; omega)
          rw [q2]
          exact this.2.2.1
        obtain ⟨n, hn1, hn9, en⟩ := bt_k (n := 9) hsf (by decide)
        have enn : nt (sf t (pc t b)) = n := by rw [en]; exact nt_nI (by omega)
        rw [List.flatMap_append, List.length_append]
        have := cdB_len (t := t) (s := s) (b := b) (by omega)
        simp only [List.flatMap_cons, List.flatMap_nil, List.append_nil]
        omega
      · omega
  have := L (nb t) (Nat.le_refl _)
  have e : (cdL t s).length = ((PLf t s (nb t)).flatMap (cdB t s)).length + 1 := rfl
  unfold ftL
  omega
theorem ctX4_fits {h : Hp} {o g : Nat} {t : St} {s q w : Int32} (m : MS h o t (g + 75642)) (W : WF t) : Ret mX4_fits 18 [vR (some o), vI s, vI q, vI w] h 0 0 (RI fun y h' => y = spFits t s q w ∧ MS h' o t g) := by
  have hn := m.b_ns
  have h6 := m.b_hm
  have B : ∀ z : ¬ (isSh t s = true ∧ isPt q = true ∧ bt w 0 2 = true ∧ hm t ≤ tones t (nt s)), spFits t s q w = -1 := fun z => by rw [spFits, if_pos z]
  refine Ret.go (by decide) rfl rfl RI.ret (bX4_fits_0 m ⟨fun e => RIq (B fun z => e z.1).symm (m.le (by omega)), fun h1 => ⟨fun e => RIq (B fun z => e z.2.1).symm (m.le (by omega)), fun h2 => ⟨fun e => RIq (B fun z => e z.2.2.1).symm (m.le (by omega)), fun h3 => ⟨h1, ?_⟩⟩⟩⟩)
  obtain ⟨k, hk, rfl⟩ := isShN h1
  have hc := m.b_nc k hk
  have ek : nt (nI k) = k := nt_nI (by omega)
  have ht : tones t k ≤ nc t k := cntB_le _ _
  rw [ek] at B ⊢
  rw [nI_leI (by omega) (by omega)]
  refine ⟨fun h4 => ⟨_, ctX4_findFits m W hk h4, ?_⟩, fun e => RIq (B fun z => e z.2.2.2).symm (m.le (by omega))⟩
  have G : ¬ ¬ (isSh t (nI k) = true ∧ isPt q = true ∧ bt w 0 2 = true ∧ hm t ≤ tones t k) := fun z => z ⟨h1, h2, h3, h4⟩
  rintro h6 ⟨m6, T6⟩
  have hl := ftL_len (q := q) m W hk
  have e0 : nI (ftL t k q).length = 0 ↔ ftL t k q = [] := by
    rw [show (0 : Int32) = nI 0 from rfl, nI_eq (by omega) (by omega), List.length_eq_zero_iff]
  obtain ⟨T1, T2, T3⟩ := T6
  rw [T1, e0]
  refine ⟨_, _, m6, fun z => ⟨fun z1 => ?_, fun z1 => RIq ?_ m6⟩, fun z => RIq ?_ m6⟩
  · cases hL : ftL t k q with
    | nil => exact absurd hL z1
    | cons x L =>
      rw [hL] at T2
      obtain ⟨t1, t2⟩ := T2 x rfl
      rw [t1, t2]
      refine ⟨fun z2 => RIq ?_ m6, fun z2 => RIq ?_ m6⟩
      · rw [spFits, ek, if_neg G, if_neg z, hL]
        show _ = if w = 1 then _ else _
        rw [if_neg (by exact z2)]
      · rw [spFits, ek, if_neg G, if_neg z, hL]
        show _ = if w = 1 then _ else _
        rw [if_pos (by exact z2)]
  · rw [spFits, ek, if_neg G, if_neg z, z1]
  · rw [spFits, ek, if_neg G, if_pos z]
theorem mxL_le {f : Nat → Nat} {B : Nat} (h : ∀ i, f i ≤ B) : ∀ n, mxL f n ≤ B
  | 0 => Nat.zero_le _
  | n + 1 => by have := mxL_le h n; have := h n; unfold mxL; omega
theorem alk_le {L : List Cd} {q : Int32} {i p : Nat} : alk L q i p ≤ L.length := List.length_filter_le _ _
theorem ctX4_next {h : Hp} {o g : Nat} {t : St} {s q : Int32} (m : MS h o t (g + 75642)) (W : WF t) : Ret mX4_next 18 [vR (some o), vI s, vI q] h 0 0 (RI fun y h' => y = spNext t s q ∧ MS h' o t g) := by
  have hn := m.b_ns
  have h6 := m.b_hm
  have B : ∀ z : ¬ (isSh t s = true ∧ isPt q = true ∧ hm t ≤ tones t (nt s)), spNext t s q = -1 := fun z => by rw [spNext, if_pos z]
  refine Ret.go (by decide) rfl rfl RI.ret (bX4_next_0 m ⟨fun e => RIq (B fun z => e z.1).symm (m.le (by omega)), fun h1 => ⟨fun e => RIq (B fun z => e z.2.1).symm (m.le (by omega)), fun h2 => ⟨h1, ?_⟩⟩⟩)
  obtain ⟨k, hk, rfl⟩ := isShN h1
  have hc := m.b_nc k hk
  have ek : nt (nI k) = k := nt_nI (by omega)
  have ht : tones t k ≤ nc t k := cntB_le _ _
  rw [ek] at B ⊢
  rw [nI_leI (by omega) (by omega)]
  refine ⟨fun h4 => ⟨_, ctX4_findFits m W hk h4, ?_⟩, fun e => RIq (B fun z => e z.2.2).symm (m.le (by omega))⟩
  have G : ¬ ¬ (isSh t (nI k) = true ∧ isPt q = true ∧ hm t ≤ tones t k) := fun z => z ⟨h1, h2, h4⟩
  rintro h5 ⟨m5, T5⟩
  have hl := ftL_len (q := q) m W hk
  have e0 : nI (ftL t k q).length = 0 ↔ ftL t k q = [] := by
    rw [show (0 : Int32) = nI 0 from rfl, nI_eq (by omega) (by omega), List.length_eq_zero_iff]
  obtain ⟨T1, T2, T3⟩ := T5
  rw [T1, e0]
  refine ⟨_, _, m5, fun z => ?_, fun z => RIq (by rw [spNext, ek, if_neg G, if_pos z]) m5⟩
  have E : spNext t (nI k) q = ((List.range' (hm t) (tones t k - hm t)).foldl (nxF (ftL t k q) q) (-2, 0)).1 := by rw [spNext, ek, if_neg G, if_neg z]
  have L : ∀ d, d ≤ tones t k - hm t → ∀ y6 y7, AWP mX4_next 18 60 [vR (some o), vI (nI k), vI q, vI ((List.range' (hm t) d).foldl (nxF (ftL t k q) q) (-2, 0)).1, vI (nI ((List.range' (hm t) d).foldl (nxF (ftL t k q) q) (-2, 0)).2), vI (nI (hm t + d)), y6, y7] [] h5 (0, 0) (RI fun y h' => y = spNext t (nI k) q ∧ MS h' o t g) := by
    have bnd : ∀ d, ((List.range' (hm t) d).foldl (nxF (ftL t k q) q) (-2, 0)).2 ≤ 2000 := by
      intro d
      induction d with
      | zero => exact Nat.zero_le _
      | succ d ih =>
        rw [List.range'_1_concat, List.foldl_append]
        show (nxF _ _ _ _).2 ≤ 2000
        unfold nxF
        split
        · exact ih
        · exact Nat.le_trans (mxL_le (fun i => alk_le) 100) (by omega)
    refine lo_up ?_ ?_
    · intro d hd hS y6 y7
      refine bX4_next_60 m5 ⟨h1, ?_⟩
      rw [ek]
      refine ⟨fun c => absurd c (nI_ge (by omega) (by omega)), fun _ => ?_⟩
      have bd := bnd d
      rw [List.range'_1_concat, List.foldl_append] at hS
      generalize (List.range' (hm t) d).foldl (nxF (ftL t k q) q) (-2, 0) = u at hS bd ⊢
      have hS : ∀ y6 y7, AWP mX4_next 18 60 [vR (some o), vI (nI k), vI q, vI (nxF (ftL t k q) q u (hm t + d)).1, vI (nI (nxF (ftL t k q) q u (hm t + d)).2), vI (nI (hm t + (d + 1))), y6, y7] [] h5 (0, 0) (RI fun y h' => y = spNext t (nI k) q ∧ MS h' o t g) := hS
      have M1 : mxL (alk (ftL t k q) q (hm t + d)) 100 < 2000 := Nat.lt_of_le_of_lt (mxL_le (fun i => alk_le) 100) hl
      have L2 : ∀ p, p ≤ 100 → AWP mX4_next 18 76 [vR (some o), vI (nI k), vI q, vI u.1, vI (nI u.2), vI (nI (hm t + d)), vI (nI (mxL (alk (ftL t k q) q (hm t + d)) p)), vI (nI p)] [] h5 (0, 0) (RI fun y h' => y = spNext t (nI k) q ∧ MS h' o t g) := by
        refine lo_up ?_ ?_
        · intro p hp hS2
          refine bX4_next_76 m5 ?_
          rw [pk_mul, nI_add, nI_add, nI_add, nt_nI (by omega), T3 _ (by omega) (by omega) p hp]
          have a1 : mxL (alk (ftL t k q) q (hm t + d)) p < 2000 := Nat.lt_of_le_of_lt (mxL_le (fun i => alk_le) p) hl
          have a2 : alk (ftL t k q) q (hm t + d) p < 2000 := Nat.lt_of_le_of_lt alk_le hl
          rw [mxI_nI (by omega) (by omega)]
          exact ⟨fun c => absurd c (nI_ge hp (by omega)), fun _ => ⟨vp_in_nI (by omega) (by omega), hS2⟩⟩
        · refine bX4_next_76 m5 ⟨fun _ => ?_, fun c => absurd (nI_le (Nat.le_refl _) (by omega)) c⟩
          rw [nI_add, nI_ltI (by omega) (by omega), Nat.add_assoc]
          unfold nxF at hS
          refine ⟨fun c => ?_, fun c => ⟨fun c2 => ?_, fun c2 => ?_⟩⟩
          · rw [if_neg (fun z => lt0_of.mpr z.1 c)] at hS
            exact hS _ _
          · rw [if_neg (by rintro ⟨_, z⟩; omega)] at hS
            exact hS _ _
          · rw [if_pos ⟨lt0_of.mp c, by omega⟩] at hS
            exact hS _ _
      exact L2 0 (by omega)
    · intro y6 y7
      refine bX4_next_60 m5 ⟨h1, ?_⟩
      rw [ek]
      exact ⟨fun _ => RIq E.symm m5, fun c => absurd (nI_le (by omega) (by omega)) c⟩
  exact L 0 (by omega) _ _
