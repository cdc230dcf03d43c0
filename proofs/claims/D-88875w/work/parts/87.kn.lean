theorem massO_ne {a b : Int32} (ha : bt a 1 9 = true) (hb : bt b 0 9 = true) : massO a b ≠ 0 := by
  obtain ⟨x, hx1, hx, rfl⟩ := bt_k (n := 9) ha (by decide)
  obtain ⟨y, _, hy, rfl⟩ := bt_k (n := 9) hb (by decide)
  unfold massO
  rw [nI_add]
  split
  · decide
  · exact nI_ne0 (by omega) (by omega)
theorem tk_mass {t : St} (W : WSh t) {s : Nat} (hs : s < ns t) : ∀ i < kN (tkO t s), kM (tkO t s) i ≠ 0 := fun i hi => massO_ne (W s hs i hi).1 (W s hs i hi).2.2.1
theorem ctX4_blow {h : Hp} {o g : Nat} {t : St} {s c v n : Int32} (m : MS h o t g) (W : WSh t) : Ret mX4_blow 4 [vR (some o), vI s, vI c, vI v, vI n] h 0 0 (RI fun y h' => y = (spBlow t s c v n).2 ∧ MS h' o (spBlow t s c v n).1 g) := by
  have B : ∀ z : ¬ (isSh t s = true ∧ isCo t s c = true ∧ bt v (-99) 99 = true ∧ bt n 1 200 = true), spBlow t s c v n = (t, -1) := fun z => by rw [spBlow, if_pos z]
  refine Ret.go (by decide) rfl rfl RI.ret (bX4_blow_0 m ⟨fun e => RIs (B fun z => e z.1) rfl m, fun h1 => ⟨h1, fun e => RIs (B fun z => e z.2.1) rfl m, fun h2 => ⟨fun e => RIs (B fun z => e z.2.2.1) rfl m, fun h3 => ⟨fun h4 => ?_, fun e => RIs (B fun z => e z.2.2.2) rfl m⟩⟩⟩⟩)
  have G : ¬ ¬ (isSh t s = true ∧ isCo t s c = true ∧ bt v (-99) 99 = true ∧ bt n 1 200 = true) := fun z => z ⟨h1, h2, h3, h4⟩
  have hn := m.b_ns
  obtain ⟨k, i, hk, hi, hi6, rfl, rfl, ek, ei⟩ := isCoN m h1 h2
  obtain ⟨N, hN1, hN, rfl⟩ := bt_k (n := 200) h4 (by decide)
  have eN : nt (nI N) = N := nt_nI (by omega)
  rw [pk_mul, nI_add, nt_nI (by omega), ei]
  refine ⟨vp_in_nI (by omega) (by omega), by omega, fun h5 => ⟨_, ctX4_begin m W hk, ?_⟩, fun e => RIs (y := (t, -4)) (by rw [spBlow, if_neg G, ek, ei, if_pos e]) rfl m⟩
  rintro h7 ⟨m7, K7, X7⟩
  have E : spBlow t (nI k) (nI i) v (nI N) = (blowT t k 0 (ux (fun _ => 0) i (v * 64)) N, mqS t (tkO t k) 0 (ux (fun _ => 0) i (v * 64)) N) := by rw [spBlow, if_neg G, ek, ei, eN, if_neg (fun z => z h5)]
  generalize hU : ux (fun _ => (0 : Int32)) i (v * 64) = U at E
  have M7 := m7 (fun j => (sqS t (tkO t k) 0 U (j % 200 + 1)).1 (nt (ewS t k (j / 200))))
  refine ⟨_, _, M7, vp_in_nI (by omega) (by omega), fun h12 q12 => ?_⟩
  have L : ∀ a, a ≤ N → ∀ h', MS h' o (tB t k (fun j => (sqS t (tkO t k) 0 U (j % 200 + 1)).1 (nt (ewS t k (j / 200)))) a) g → TK h' o (tkO t k) → XS h' o (sqS t (tkO t k) 0 U a) → AWP mX4_blow 4 80 [vR (some o), vI (nI k), vI (nI i), vI v, vI (nI N), vI (mqS t (tkO t k) 0 U a), vI (nI a)] [] h' (0, 0) (RI fun y h' => y = (spBlow t (nI k) (nI i) v (nI N)).2 ∧ MS h' o (spBlow t (nI k) (nI i) v (nI N)).1 g) := by
    refine lo_up ?_ ?_
    · intro a ha hS h' M K X
      refine bX4_blow_80 M ⟨fun z => absurd z (nI_ge ha (by omega)), fun _ => ⟨_, ctX4_step M K X hk (tk_mass W hk) (by omega) (fun e he h0 => ?_), ?_⟩⟩
      · show (sqS t (tkO t k) 0 U ((200 * e + a) % 200 + 1)).1 (nt (ewS t k ((200 * e + a) / 200))) = _
        rw [show (200 * e + a) % 200 = a by omega, show (200 * e + a) / 200 = e by omega]
        rfl
      · rintro y h3 ⟨rfl, m3, K3, X3⟩
        rw [nI_add]
        exact ⟨_, _, m3, hS h3 m3 K3 X3⟩
    · intro h' M K X
      exact bX4_blow_80 M ⟨fun _ => RIs E rfl M, fun z => absurd (nI_le (Nat.le_refl _) (by omega)) z⟩
  have F12 : FR h7 h12 o [] [47] [] := by rw [q12]; exact FR.w rfl
  refine L 0 (by omega) h12 (by rw [q12]; exact M7.fr (PE.w rfl)) (K7.fr F12 rfl rfl rfl rfl rfl) (fun x hx => ?_)
  obtain ⟨x1, x2⟩ := X7 x hx
  refine ⟨by rw [F12.2.1 46 rfl]; exact x1, ?_⟩
  rw [q12, hAI_w1, x2]
  show (if x = i then v * nI 64 else 0) = U x
  rw [← hU]
  rfl
theorem ctX4_rolled {h : Hp} {o g : Nat} {t : St} {s n : Int32} (m : MS h o t g) (W : WSh t) : Ret mX4_rolled 4 [vR (some o), vI s, vI n] h 0 0 (RI fun y h' => y = (spRolled t s n).2 ∧ MS h' o (spRolled t s n).1 g) := by
  have hr := m.b_rm
  have B : ∀ z : ¬ (isSh t s = true ∧ bt n 1 200 = true), spRolled t s n = (t, -1) := fun z => by rw [spRolled, if_pos z]
  refine Ret.go (by decide) rfl rfl RI.ret (bX4_rolled_0 m ⟨fun e => RIs (B fun z => e z.1) rfl m, fun h1 => ⟨fun h4 => ?_, fun e => RIs (B fun z => e z.2) rfl m⟩⟩)
  have G : ¬ ¬ (isSh t s = true ∧ bt n 1 200 = true) := fun z => z ⟨h1, h4⟩
  have hn := m.b_ns
  obtain ⟨k, hk, rfl⟩ := isShN h1
  have hc := m.b_nc k hk
  have ek : nt (nI k) = k := nt_nI (by omega)
  obtain ⟨N, hN1, hN, rfl⟩ := bt_k (n := 200) h4 (by decide)
  have eN : nt (nI N) = N := nt_nI (by omega)
  have e0 : nI (rm t) = 0 ↔ rm t = 0 := by rw [show (0 : Int32) = nI 0 from rfl, nI_eq (by omega) (by omega)]
  rw [e0]
  refine ⟨fun z0 => ⟨_, ctX4_begin m W hk, ?_⟩, fun z0 => RIs (y := (t, -4)) (by rw [spRolled, if_neg G, if_pos z0]) rfl m⟩
  rintro h7 ⟨m7, K7, X7⟩
  have E : spRolled t (nI k) (nI N) = (uN (blowT t k (rm t) (fun _ => 0) N) 11 0, mqS t (tkO t k) (rm t) (fun _ => 0) N) := by rw [spRolled, if_neg G, ek, eN, if_neg z0]
  generalize hU : (fun _ => (0 : Int32) : Nat → Int32) = U at *
  generalize hH : (fun j => (sqS t (tkO t k) (rm t) U (j % 200 + 1)).1 (nt (ewS t k (j / 200)))) = H
  refine ⟨_, _, m7 H, ?_⟩
  have L : ∀ a, a ≤ N → ∀ h' y, MS h' o (tB t k H a) g → TK h' o (tkO t k) → XS h' o (sqS t (tkO t k) (rm t) U a) → AWP mX4_rolled 4 41 [vR (some o), vI (nI k), vI (nI N), vI (mqS t (tkO t k) (rm t) U a), vI (nI a), y] [] h' (0, 0) (RI fun y h' => y = (spRolled t (nI k) (nI N)).2 ∧ MS h' o (spRolled t (nI k) (nI N)).1 g) := by
    refine lo_up ?_ ?_
    · intro a ha hS h' y M K X
      refine bX4_rolled_41 M ⟨fun z => absurd z (nI_ge ha (by omega)), fun _ => ?_⟩
      have L2 : ∀ r, r ≤ rm t → ∀ h', MS h' o (tB t k H a) g → TK h' o (tkO t k) → XS h' o ((sqS t (tkO t k) (rm t) U a).1, rlS t (tkO t k) a (sqS t (tkO t k) (rm t) U a).2 r) → AWP mX4_rolled 4 50 [vR (some o), vI (nI k), vI (nI N), vI (mqS t (tkO t k) (rm t) U a), vI (nI a), vI (nI r)] [] h' (0, 0) (RI fun y h' => y = (spRolled t (nI k) (nI N)).2 ∧ MS h' o (spRolled t (nI k) (nI N)).1 g) := by
        refine lo_up ?_ ?_
        · intro r hr2 hS2 h' M K X
          have er : nt (nI r) = r := nt_nI (by omega)
          have v6 := vp_in_nI (n := r) (N := 6) (by omega) (by omega)
          have hb := m.b_rc r hr2
          have e1 : rw' (tB t k H a) r = rw' t r := rfl
          have e2 : rc (tB t k H a) r = rc t r := rfl
          have e3 : rv (tB t k H a) r = rv t r := rfl
          have e4 : rm (tB t k H a) = rm t := rfl
          have ec : nt (nI (rc t r)) = rc t r := nt_nI (by omega)
          have vc := vp_in_nI (n := rc t r) (N := 6) (by omega) (by omega)
          refine bX4_rolled_50 M ?_
          rw [er, e1, e2, e3, e4, K.2.1, ec, nI_eq (by omega) (by omega), nI_leI (show kN (tkO t k) < 2 ^ 31 by have := K.1; omega) (by omega)]
          simp only [nI_add]
          have no : ¬ (rw' t r = a ∧ rc t r < kN (tkO t k) ∧ kH (tkO t k) (rc t r) = 0) → AWP mX4_rolled 4 50 [vR (some o), vI (nI k), vI (nI N), vI (mqS t (tkO t k) (rm t) U a), vI (nI a), vI (nI (r + 1))] [] h' (0, 0) (RI fun y h' => y = (spRolled t (nI k) (nI N)).2 ∧ MS h' o (spRolled t (nI k) (nI N)).1 g) := by
            intro c
            refine hS2 h' M K ?_
            rw [rlS, if_neg c]
            exact X
          refine ⟨fun z => absurd z (nI_ge hr2 (by omega)), fun _ => ⟨v6, hr2, fun c => no fun y => c y.1, fun c1 => ⟨v6, hr2, fun c => no fun y => by omega, fun c2 => ⟨v6, hr2, vc, ?_⟩⟩⟩⟩
          rw [(K.2.2 _ (by omega)).2.2.1]
          refine ⟨fun c => no fun y => c y.2.2, fun c3 => ⟨v6, hr2, vc, v6, hr2, vc, fun h11 q11 => ?_⟩⟩
          have F11 : FR h' h11 o [] [47] [] := by rw [q11]; exact FR.w rfl
          refine hS2 h11 (by rw [q11]; exact M.fr (PE.w rfl)) (K.fr F11 rfl rfl rfl rfl rfl) (fun x hx => ⟨by rw [F11.2.1 46 rfl]; exact (X x hx).1, ?_⟩)
          rw [rlS, if_pos ⟨c1, by omega, c3⟩, q11, hAI_w1, (X x hx).2, (X _ (show rc t r < 6 by omega)).2]
          rfl
        · intro h' M K X
          refine bX4_rolled_50 M ⟨fun _ => ⟨_, ctX4_step M K X hk (tk_mass W hk) (by omega) (fun e he h0 => ?_), ?_⟩, fun z => absurd (nI_le (Nat.le_refl _) (by show rm t < _; omega)) z⟩
          · rw [← hH]
            show (sqS t (tkO t k) (rm t) U ((200 * e + a) % 200 + 1)).1 (nt (ewS t k ((200 * e + a) / 200))) = _
            rw [show (200 * e + a) % 200 = a by omega, show (200 * e + a) / 200 = e by omega]
            rfl
          · rintro y h3 ⟨rfl, m3, K3, X3⟩
            rw [nI_add]
            exact ⟨_, _, m3, hS h3 _ m3 K3 X3⟩
      exact L2 0 (by omega) h' M K X
    · intro h' y M K X
      refine bX4_rolled_41 M ⟨fun _ h2 q2 => RIs E rfl ?_, fun z => absurd (nI_le (Nat.le_refl _) (by omega)) z⟩
      rw [q2]
      have eb : blowT t k (rm t) U N = tB t k H N := by rw [← hH]; rfl
      rw [eb]
      refine M.wBl ((AG.oF rfl)) rfl M.1 (by obtain ⟨b1, b2, b3, b4, b5, b6, b7, b8, b9, b10, b11, b12, b13, b14, b15, b16, b17, b18, b19, b20, b21⟩ := M.2.1; exact ⟨b1, b2, b3, b4, b5, b6, b7, b8, b9, b10, by show 0 ≤ 6; omega, b12, b13, b14, b15, b16, b17, b18, b19, b20, fun r hr => absurd hr (Nat.not_lt_zero r)⟩) ?_ (fun r => r)
      obtain ⟨a1, a2, a3, a4, a5⟩ := M.Bl
      exact ⟨by rw [hFI_sn (by decide)]; exact a1, by rw [hFI_sn (by decide)]; exact a2, hFI_s, a4, fun r hr => absurd hr (Nat.not_lt_zero r)⟩
  exact L 0 (by omega) h7 _ (m7 H) K7 (by intro x hx; obtain ⟨a1, a2⟩ := X7 x hx; refine ⟨?_, a2⟩; rw [a1, ← hU]; rfl)
theorem ctX4_digest {h : Hp} {o g : Nat} {t : St} (m : MS h o t g) (W : WF t) : Ret mX4_digest 1 [vR (some o)] h 0 0 (RI fun y h' => y = dgS t (ns t) ∧ h' = h) := by
  have hn := m.b_ns
  have hnb := m.b_nb
  refine Ret.go (by decide) rfl rfl RI.ret (bX4_digest_0 m ?_)
  have L : ∀ s, s ≤ ns t → ∀ y3 y4, AWP mX4_digest 1 5 [vR (some o), vI (dgS t s), vI (nI s), y3, y4] [] h (0, 0) (RI fun y h' => y = dgS t (ns t) ∧ h' = h) := by
    refine lo_up ?_ ?_
    · intro s hs hS y3 y4
      have hc := m.b_nc s hs
      have es : nt (nI s) = s := nt_nI (by omega)
      refine bX4_digest_5 m ⟨fun z => absurd z (nI_ge hs (by omega)), fun _ => ?_⟩
      rw [pk_mul]
      have L2 : ∀ b, b ≤ nb t → ∀ y4, AWP mX4_digest 1 97 [vR (some o), vI ((PLf t s b).foldl (dgB t) (dgC t s (dgS t s) (nc t s))), vI (nI s), vI (nI b), y4] [] h (0, 0) (RI fun y h' => y = dgS t (ns t) ∧ h' = h) := by
        refine lo_up ?_ ?_
        · intro b hb hS2 y4
          have eb : nt (nI b) = b := nt_nI (by omega)
          have hl := (m.b_bk b hb).2
          obtain ⟨p1, p2⟩ := plc (n := li t b) (by omega)
          rw [PLf_s] at hS2
          refine bX4_digest_97 m ?_
          rw [eb, p1]
          simp only [nI_add]
          refine ⟨fun z => absurd z (nI_ge hb (by omega)), fun _ => ⟨vp_in_nI (by omega) (by omega), hb, fun z => ?_, fun z => ?_⟩⟩
          · rw [if_neg (by rw [inSh_iff]; exact fun y => y.1 z)] at hS2
            exact hS2 _
          · rw [p2 z, nI_div (by omega) (by omega), nI_eq (by omega) (by omega)]
            refine ⟨fun y => ?_, fun y => ?_⟩
            · have hin : inSh t s b = true := inSh_iff.mpr ⟨z, y⟩
              obtain ⟨q1, q2, q3, q4, q5, q6, q7, q8, q9, q10⟩ := W.pcs m hb hin
              have epc : li t b - 1 = pc t b := rfl
              rw [epc]
              refine bX4_digest_132 m ?_
              rw [nI_pA (by omega), nI_mod (by omega) (by omega), nt_nI (by omega), mnI_nI (by omega) (by omega), mxI_nI (by omega) (by omega), nI_add]
              have vx := vp_in_nI (n := pc t b) (N := 468) (by omega) (by omega)
              refine ⟨vx, q10, vx, q10, ?_⟩
              rw [if_pos hin, List.foldl_append] at hS2
              exact hS2 _
            · rw [if_neg (by rw [inSh_iff]; exact fun z => y z.2)] at hS2
              exact hS2 _
        · intro y4
          refine bX4_digest_97 m ⟨fun _ => ?_, fun z => absurd (nI_le (Nat.le_refl _) (by omega)) z⟩
          rw [nI_add]
          exact hS _ _
      have L1 : ∀ c, c ≤ nc t s → AWP mX4_digest 1 18 [vR (some o), vI (dgC t s (dgS t s) c), vI (nI s), vI (nI (6 * s + c)), y4] [] h (0, 0) (RI fun y h' => y = dgS t (ns t) ∧ h' = h) := by
        refine lo_up ?_ ?_
        · intro c hc2 hS2
          refine bX4_digest_18 m ?_
          rw [pk_mul, es, nI_add, nI_leI (by omega) (by omega), nt_nI (by omega), nI_add]
          have vx := vp_in_nI (n := 6 * s + c) (N := 78) (by omega) (by omega)
          have lx : 6 * s + c < 6 * ns t := by omega
          refine ⟨vp_in_nI (by omega) (by omega), hs, fun z => by omega, fun _ => ⟨vx, lx, vx, lx, vx, lx, vx, lx, fun z => ?_, fun z => ?_⟩⟩
          · rw [dgC, z] at hS2
            exact hS2
          · rw [dgC, (W.hl2 s hs c hc2).resolve_left z] at hS2
            exact hS2
        · refine bX4_digest_18 m ?_
          rw [pk_mul, es, nI_add]
          exact ⟨vp_in_nI (by omega) (by omega), hs, fun _ => L2 0 (by omega) _, fun z => absurd (nI_le (Nat.le_refl _) (by omega)) z⟩
      exact L1 0 (by omega)
    · intro y3 y4
      exact bX4_digest_5 m ⟨fun _ => RI.i ⟨rfl, rfl⟩, fun z => absurd (nI_le (Nat.le_refl _) (by omega)) z⟩
  exact L 0 (by omega) _ _
