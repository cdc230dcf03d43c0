abbrev Qd : Type := Nat × Nat × Int32 × Int32
def bears (t : St) (j : Nat) (Z : List Qd) : St := Z.foldl (fun y z => bear y j z) t
theorem ux_n {α : Type} {f : Nat → α} {i k : Nat} {x : α} (h : k ≠ i) : ux f i x k = f k := if_neg h
theorem bears_f {j : Nat} : ∀ (Z : List Qd) (t : St), (∀ z ∈ Z, z.1 < 6 ∧ z.2.1 < 6) → ns (bears t j Z) = ns t ∧ nb (bears t j Z) = nb t + Z.length ∧ (∀ x < nb t, li (bears t j Z) x = li t x) ∧ (∀ p, p / 36 ≠ j → sf (bears t j Z) p = sf t p ∧ ck (bears t j Z) p = ck t p) ∧ (∀ x, nb t ≤ x → x < nb t + Z.length → (li (bears t j Z) x - 1) / 36 = j) ∧ nc (bears t j Z) = nc t
  | [], t, _ => ⟨rfl, rfl, fun _ _ => rfl, fun _ _ => ⟨rfl, rfl⟩, fun x h1 h2 => absurd h2 (by show ¬ x < nb t + 0; omega), rfl⟩
  | z :: Z, t, h => by
    obtain ⟨i1, i2, i3, i4, i5, i6⟩ := bears_f Z (bear t j z) (fun y hy => h y (List.mem_cons_of_mem _ hy))
    obtain ⟨z1, z2⟩ := h z List.mem_cons_self
    have e1 : nb (bear t j z) = nb t + 1 := rfl
    have e2 : ∀ x, li (bear t j z) x = ux (li t) (nb t) (ix j z.1 z.2.1 + 1) x := fun x => rfl
    have p1 : ix j z.1 z.2.1 / 36 = j := (ix_6 z1 z2).1
    have p2 : ix j z.2.1 z.1 / 36 = j := (ix_6 z2 z1).1
    refine ⟨i1, ?_, fun x hx => ?_, fun p hp => ?_, fun x h1 h2 => ?_, i6⟩
    · show nb (bears (bear t j z) j Z) = nb t + (Z.length + 1)
      rw [i2, e1]; omega
    · show li (bears (bear t j z) j Z) x = li t x
      rw [i3 x (by omega), e2, ux_n (by omega)]
    · obtain ⟨a1, a2⟩ := i4 p hp
      refine ⟨a1.trans ?_, a2.trans ?_⟩
      · show ux (ux (sf t) _ _) _ _ p = sf t p
        rw [ux_n (by rintro rfl; exact hp p2), ux_n (by rintro rfl; exact hp p1)]
      · show ux (ux (ck t) _ _) _ _ p = ck t p
        rw [ux_n (by rintro rfl; exact hp p2), ux_n (by rintro rfl; exact hp p1)]
    · have h2 : x < nb t + (Z.length + 1) := h2
      show (li (bears (bear t j z) j Z) x - 1) / 36 = j
      by_cases c : x = nb t
      · rw [i3 x (by omega), e2, c, ux, if_pos rfl]
        exact p1
      · exact i5 x (by omega) (by omega)
theorem ux4 {α : Type} {f : Nat → α} {p q : Nat} {v : α} : ux (ux (ux (ux f p v) q v) p v) q v = ux (ux f p v) q v := by
  funext x
  unfold ux
  by_cases h1 : x = q
  · simp only [if_pos h1]
  · by_cases h2 : x = p
    · simp only [if_neg h1, if_pos h2]
    · simp only [if_neg h1, if_neg h2]
theorem bear_again {t : St} {j a b : Nat} {v w : Int32} : bear (uA (setP t j a b v w) 1 (ux (ux (bo t) (ix j a b) (nb t + 1)) (ix j b a) (nb t + 1))) j (a, b, v, w) = bear t j (a, b, v, w) := by
  have e1 : setP (uA (setP t j a b v w) 1 (ux (ux (bo t) (ix j a b) (nb t + 1)) (ix j b a) (nb t + 1))) j a b v w = uA (setP t j a b v w) 1 (ux (ux (bo t) (ix j a b) (nb t + 1)) (ix j b a) (nb t + 1)) := by
    unfold setP
    have s1 : sf (uA (uI (uI t 4 (ux (ux (sf t) (ix j a b) v) (ix j b a) v)) 5 (ux (ux (ck t) (ix j a b) w) (ix j b a) w)) 1 (ux (ux (bo t) (ix j a b) (nb t + 1)) (ix j b a) (nb t + 1))) = ux (ux (sf t) (ix j a b) v) (ix j b a) v := rfl
    have s2 : ck (uA (uI (uI t 4 (ux (ux (sf t) (ix j a b) v) (ix j b a) v)) 5 (ux (ux (ck t) (ix j a b) w) (ix j b a) w)) 1 (ux (ux (bo t) (ix j a b) (nb t + 1)) (ix j b a) (nb t + 1))) = ux (ux (ck t) (ix j a b) w) (ix j b a) w := rfl
    rw [s1, s2, ux4, ux4]
    generalize hX : uA (uI (uI t 4 (ux (ux (sf t) (ix j a b) v) (ix j b a) v)) 5 (ux (ux (ck t) (ix j a b) w) (ix j b a) w)) 1 (ux (ux (bo t) (ix j a b) (nb t + 1)) (ix j b a) (nb t + 1)) = X at s1 s2 ⊢
    have r1 : uI X 4 (ux (ux (sf t) (ix j a b) v) (ix j b a) v) = X := by rw [← s1]; exact uI_s
    have r2 : uI X 5 (ux (ux (ck t) (ix j a b) w) (ix j b a) w) = X := by rw [← s2]; exact uI_s
    rw [r1, r2]
  unfold bear
  show uN (uA (uA (uA (setP (uA (setP t j a b v w) 1 (ux (ux (bo t) (ix j a b) (nb t + 1)) (ix j b a) (nb t + 1))) j a b v w) 1 (ux (ux (ux (ux (bo t) (ix j a b) (nb t + 1)) (ix j b a) (nb t + 1)) (ix j a b) (nb t + 1)) (ix j b a) (nb t + 1))) 2 (ux (bk t) (nb t) 1)) 3 (ux (li t) (nb t) (ix j a b + 1))) 1 (nb t + 1) = _
  rw [e1, ux4]
  have r : uA (uA (setP t j a b v w) 1 (ux (ux (bo t) (ix j a b) (nb t + 1)) (ix j b a) (nb t + 1))) 1 (ux (ux (bo t) (ix j a b) (nb t + 1)) (ix j b a) (nb t + 1)) = uA (setP t j a b v w) 1 (ux (ux (bo t) (ix j a b) (nb t + 1)) (ix j b a) (nb t + 1)) := uA_s (t := uA (setP t j a b v w) 1 (ux (ux (bo t) (ix j a b) (nb t + 1)) (ix j b a) (nb t + 1))) (k := 1)
  rw [r]
/-- a piece set and born -/
theorem ct_setBear {h : Hp} {o g s a b : Nat} {t : St} {v w : Int32} (m : GS h o t g) (hs : s < ns t) (ha : a < 6) (hb : b < 6) (hn : nb t < 200) : ∀ h2, h2 = w3 (w3 h o (ix s a b) (nI (nb t) + nI 1) v w) o (ix s b a) (nI (nb t) + nI 1) v w → MO h2 o ∧ hFI h2 401 o = hFI h 401 o ∧ (∀ j, j ≠ 6 → j ≠ 7 → j ≠ 8 → hAI h2 (o + j) = hAI h (o + j)) ∧ Ret mX4_bear 2 [vR (some o), vI (nI s), vI (nI a), vI (nI b)] h2 0 0 (RV fun h' => GS h' o (bear t s (a, b, v, w)) g ∧ hFI h' 401 o = hFI h2 401 o) := by
  intro h2 q2
  rw [nI_add] at q2
  refine ⟨by rw [q2]; exact m.1, by rw [q2]; rfl, fun j h6 h7 h8 => by rw [q2, hA_w3 h6 h7 h8, hA_w3 h6 h7 h8], ?_⟩
  have m2 : GS h2 o (uA (setP t s a b v w) 1 (ux (ux (bo t) (ix s a b) (nb t + 1)) (ix s b a) (nb t + 1))) g := by
    have := m.w33 (s := s) (a := a) (b := b) (n := nb t + 1) (y := v) (z := w) hs ha hb (by omega)
    rw [q2]
    exact this
  have hx : sf (uA (setP t s a b v w) 1 (ux (ux (bo t) (ix s a b) (nb t + 1)) (ix s b a) (nb t + 1))) (ix s a b) = v := by
    show ux (ux (sf t) _ v) _ v _ = v
    unfold ux
    split
    · rfl
    · rw [if_pos rfl]
  have hy : ck (uA (setP t s a b v w) 1 (ux (ux (bo t) (ix s a b) (nb t + 1)) (ix s b a) (nb t + 1))) (ix s a b) = w := by
    show ux (ux (ck t) _ w) _ w _ = w
    unfold ux
    split
    · rfl
    · rw [if_pos rfl]
  have := ctX4_bear m2 hs ha hb hn
  rw [hx, hy, bear_again] at this
  exact this
theorem ctX4_copyPieces {h : Hp} {o g s j b : Nat} {t : St} (m : GS h o t g) (hs : s < ns t) (hj : j < ns t) (hsj : s ≠ j) (hp : ∀ x < nb t, inSh t s x = true → pA t x + b < 6 ∧ pB t x + b < 6) (hn : nb t + (PL t s).length ≤ 200) : Ret mX4_copyPieces 3 [vR (some o), vI (nI s), vI (nI j), vI (nI b)] h 0 0 (RV fun h' => GS h' o (bears t j ((PL t s).map (mvP t b))) g ∧ hFI h' 401 o = hFI h 401 o) := by
  have hns : ns t ≤ 12 := m.b_ns
  have hnb : nb t ≤ 200 := m.b_nb
  have hli : ∀ x < nb t, li t x ≤ 36 * ns t := fun x hx => (m.b_bk x hx).2
  have e412 : hFI h 412 o = nI (nb t) := by have := m.f412; rwa [hFI_sn (by decide)] at this
  refine Ret.go (by decide) rfl rfl RV.ret (bX4_copyPieces_0 m.1 ?_)
  rw [e412]
  have plen : ∀ c, c ≤ nb t → (PLf t s c).length ≤ (PL t s).length := by
    intro c hc
    obtain ⟨d, hd⟩ : ∃ d, nb t = c + d := ⟨nb t - c, by omega⟩
    have : PL t s = PLf t s c ++ ((List.range d).map (c + ·)).filter (inSh t s) := by
      show (List.range (nb t)).filter (inSh t s) = _
      rw [hd, List.range_add, List.filter_append]
      rfl
    rw [this, List.length_append]
    omega
  have mem : ∀ c, c ≤ nb t → ∀ x ∈ PLf t s c, x < nb t ∧ inSh t s x = true := by
    intro c hc x hx
    unfold PLf at hx
    rw [List.mem_filter, List.mem_range] at hx
    exact ⟨by omega, hx.2⟩
  have quad : ∀ c, c ≤ nb t → ∀ z ∈ (PLf t s c).map (mvP t b), z.1 < 6 ∧ z.2.1 < 6 := by
    intro c hc z hz
    rw [List.mem_map] at hz
    obtain ⟨x, hx, rfl⟩ := hz
    obtain ⟨x1, x2⟩ := mem c hc x hx
    exact hp x x1 x2
  have L : ∀ c, c ≤ nb t → ∀ h' y6 y7 y8, GS h' o (bears t j ((PLf t s c).map (mvP t b))) g → hFI h' 401 o = hFI h 401 o → AWP mX4_copyPieces 3 9 [vR (some o), vI (nI s), vI (nI j), vI (nI b), vI (nI (nb t)), vI (nI c), y6, y7, y8] [] h' (0, 0) (RV fun h' => GS h' o (bears t j ((PL t s).map (mvP t b))) g ∧ hFI h' 401 o = hFI h 401 o) := by
    refine lo_up ?_ ?_
    · intro c hc hS h' y6 y7 y8 M e1
      obtain ⟨f1, f2, f3, f4, f5, f6⟩ := bears_f (j := j) ((PLf t s c).map (mvP t b)) t (quad c (by omega))
      have pl := plen (c + 1) (by omega)
      have ec : nt (nI c) = c := nt_nI (by omega)
      have r12 : hAI h' (o + 12) c = nI (li t c) := by
        have := M.a12 (b := c) (by rw [f2]; omega)
        rw [f3 c hc] at this
        exact this
      have hl := hli c hc
      obtain ⟨p1, p2⟩ := plc (n := li t c) (by omega)
      refine bX4_copyPieces_9 M.1 ?_
      rw [ec, r12, p1]
      simp only [nI_add]
      refine ⟨fun z => absurd z (nI_ge hc (by omega)), fun _ => ⟨vp_in_nI (by omega) (by omega), fun z => ?_, fun z => ?_⟩⟩
      · refine hS h' _ _ _ ?_ e1
        rw [PLf_s, if_neg (by rw [inSh_iff]; exact fun y => y.1 z)]
        exact M
      · rw [p2 z, nI_div (by omega) (by omega), nI_eq (by omega) (by omega)]
        refine ⟨fun y => ?_, fun y => ?_⟩
        · have hin : inSh t s c = true := inSh_iff.mpr ⟨z, y⟩
          obtain ⟨q1, q2⟩ := hp c hc hin
          have epc : li t c - 1 = pc t c := rfl
          rw [epc]
          have hpc : pc t c < 36 * ns t := by unfold pc; omega
          have hps : pc t c / 36 = s := y
          refine bX4_copyPieces_44 M.1 ?_
          rw [nI_pA (by omega), nI_mod (by omega) (by omega)]
          simp only [nI_add]
          have eA : pc t c / 6 % 6 = pA t c := rfl
          have eB : pc t c % 6 = pB t c := rfl
          rw [eA, eB]
          obtain ⟨g1, g2⟩ := f4 (pc t c) (by rw [hps]; exact hsj)
          have r6 : hAI h' (o + 6) (pc t c) = sf t (pc t c) := (M.a6 (by rw [f1]; exact hpc)).trans g1
          have r7 : hAI h' (o + 7) (pc t c) = ck t (pc t c) := (M.a7 (by rw [f1]; exact hpc)).trans g2
          have nb1 : nb (bears t j ((PLf t s c).map (mvP t b))) = nb t + (PLf t s c).length := by rw [f2, List.length_map]
          have r412 : hFI h' 412 o = nI (nb (bears t j ((PLf t s c).map (mvP t b)))) := by have := M.f412; rwa [hFI_sn (by decide)] at this
          have pl2 : (PLf t s c).length + 1 ≤ (PL t s).length := by
            have := pl
            rw [PLf_s, if_pos hin, List.length_append] at this
            exact this
          refine bX4_copyPieces_65 M.1 ?_
          rw [nt_nI (by omega), r6, r7, r412]
          have vx := vp_in_nI (n := pc t c) (N := 468) (by omega) (by omega)
          refine ⟨vx, vx, _, ctX4_setPiece M.1 (by omega) q1 q2, ?_⟩
          intro h2 q2'
          obtain ⟨b1, b2, b3, b4⟩ := ct_setBear M (s := j) (a := pA t c + b) (b := pB t c + b) (v := sf t (pc t c)) (w := ck t (pc t c)) (by rw [f1]; exact hj) q1 q2 (by rw [nb1]; omega) h2 q2'
          refine ⟨b1, _, b4, ?_⟩
          rintro h6 ⟨m6, e6⟩
          refine ⟨m6.1, ?_⟩
          rw [nI_add]
          refine hS h6 _ _ _ ?_ (by rw [e6, b2]; exact e1)
          rw [PLf_s, if_pos hin, List.map_append]
          unfold bears
          rw [List.foldl_append]
          exact m6
        · refine hS h' _ _ _ ?_ e1
          rw [PLf_s, if_neg (by rw [inSh_iff]; exact fun z => y z.2)]
          exact M
    · intro h' y6 y7 y8 M e1
      exact bX4_copyPieces_9 M.1 ⟨fun _ => RV.i ⟨M, e1⟩, fun z => absurd (nI_le (Nat.le_refl _) (by omega)) z⟩
  exact L 0 (by omega) h _ _ _ m rfl
