theorem bitB1 : ∀ s < 128, ∀ i < 7, (((nI s >>> (nI i &&& 31)) &&& nI 1 = 0) ↔ s.testBit i = false) := by decide +kernel
theorem bitB2 : ∀ s < 64, ∀ i < 6, nI s &&& ((nI 1 <<< (nI i &&& 31)) ^^^ (-1)) = nI (clrb s i) := by decide +kernel
theorem bitB3 : ∀ s < 64, s ≠ 0 → s.testBit (lowb s) = true ∧ (∀ i < lowb s, s.testBit i = false) ∧ lowb s < 6 ∧ pop (clrb s (lowb s)) + 1 = pop s := by decide +kernel
theorem bitB6 : ∀ r < 8, nI 1 <<< (nI r &&& 31) = nI (2 ^ r) := by decide +kernel
theorem bitB7 : ∀ s < 128, s ≠ 0 → nI s &&& (nI s - nI 1) = nI (s &&& (s - 1)) ∧ s &&& (s - 1) < s ∧ pop7 (s &&& (s - 1)) + 1 = pop7 s := by decide +kernel
theorem pop_0 : ∀ s < 64, pop s = 0 → s = 0 := by decide +kernel
theorem pop_7 : ∀ s < 64, pop7 s = pop s := by decide +kernel
theorem clrb_le {s i : Nat} : clrb s i ≤ s := by unfold clrb; split <;> first | exact Nat.sub_le _ _ | exact Nat.le_refl _
theorem lowb_lt {s r : Nat} (h : s < 2 ^ r) (h64 : s < 64) (h0 : s ≠ 0) : lowb s < r := by
  rcases Nat.lt_or_ge (lowb s) r with c | c
  · exact c
  · have : s < 2 ^ lowb s := Nat.lt_of_lt_of_le h (Nat.pow_le_pow_right (by omega) c)
    have := Nat.testBit_lt_two_pow this
    rw [(bitB3 s h64 h0).1] at this
    exact absurd this (by decide)
theorem ctX4_bitsOf {h : Hp} {s : Nat} (hs : s < 128) : Ret mX4_bitsOf 0 [vI (nI s)] h 0 0 (RI fun x h' => x = nI (pop7 s) ∧ h' = h) := by
  refine Ret.go (by decide) rfl rfl RI.ret (bX4_bitsOf_0 ?_)
  have L : ∀ n x, x ≤ n → x < 128 → ∀ y, y + pop7 x = pop7 s → AWP mX4_bitsOf 0 4 [vI (nI s), vI (nI y), vI (nI x)] [] h (0, 0) (RI fun x h' => x = nI (pop7 s) ∧ h' = h) := by
    intro n
    induction n with
    | zero =>
      intro x hx _ y e
      obtain rfl : x = 0 := by omega
      refine bX4_bitsOf_4 ⟨fun _ => RI.i ⟨?_, rfl⟩, fun q => absurd rfl q⟩
      rw [← e]
      rfl
    | succ n ih =>
      intro x hx h7 y e
      by_cases c : x = 0
      · subst c
        refine bX4_bitsOf_4 ⟨fun _ => RI.i ⟨?_, rfl⟩, fun q => absurd rfl q⟩
        rw [← e]
        rfl
      · obtain ⟨b1, b2, b3⟩ := bitB7 x h7 c
        refine bX4_bitsOf_4 ⟨fun q => absurd q (nI_ne0 (by omega) (by omega)), fun _ => ?_⟩
        rw [nI_add, b1]
        exact ih _ (by omega) (by omega) _ (by omega)
  exact L s s (Nat.le_refl _) hs 0 (by omega)
def MM (h : Hp) (o : Nat) (M : Nat → Nat → Int64) (r : Nat) : Prop := ∀ s < 64, ∀ c < 64, hAI h (o + 31) (64 * s + c) = hFI h 442 o → hAL h (o + 30) (64 * s + c) = mnr M r s c
theorem MS.memo {h : Hp} {o g i : Nat} {t : St} {x : Int64} (m : MS h o t g) : MS (wL (w1 h (o + 31) i (hFI h 442 o)) (o + 30) i x) o t g := by
  have e1 : AG h (wL (w1 h (o + 31) i (hFI h 442 o)) (o + 30) i x) o pF (pK.filter (· ≠ 31)) := (AG.w (by decide +kernel)).tr AG.wl
  have el : hAL (wL (w1 h (o + 31) i (hFI h 442 o)) (o + 30) i x) (o + 60) = hAL h (o + 60) := hAL_wo (by decide)
  obtain ⟨n, gn, gb, gm⟩ := m.Gs
  refine ⟨m.1, m.2.1, m.Sh.fr (e1.sub (by decide +kernel) (by decide +kernel)), m.Bo.fr (e1.sub (by decide +kernel) (by decide +kernel)), m.Tp.fr (e1.sub (by decide +kernel) (by decide +kernel)), m.Ac.fr (e1.sub (by decide +kernel) (by decide +kernel)), m.Pl.fr (e1.sub (by decide +kernel) (by decide +kernel)), m.He.fr (e1.sub (by decide +kernel) (by decide +kernel)), m.Bl.fr (e1.sub (by decide +kernel) (by decide +kernel)), m.Rt.fr (e1.sub (by decide +kernel) (by decide +kernel)), m.Tr.fr (e1.sub (by decide +kernel) (by decide +kernel)), m.Sv.fr (e1.sub (by decide +kernel) (by decide +kernel)) el, n, gn, gb, fun j hj => ?_⟩
  rw [hAI_wL, hAI_w1]
  by_cases c : j = i
  · rw [if_pos c]; exact ⟨n, Nat.le_refl _, gn⟩
  · rw [if_neg c]; exact gm j hj
theorem ctX4_minor {o g r : Nat} {t : St} {M : Nat → Nat → Int64} (hr : r ≤ 6) : ∀ d s c h, pop s ≤ d → s < 2 ^ r → c < 2 ^ r → MS h o t g → MT h o M r → MM h o M r → Ret mX4_minor d [vR (some o), vI (nI s), vI (nI c)] h 0 0 (RJ fun z h' => z = mnr M r s c ∧ MS h' o t g ∧ MM h' o M r ∧ FR h h' o [] [31] [30]) := by
  have h64 : 2 ^ r ≤ 64 := Nat.pow_le_pow_right (n := 2) (by omega) hr
  intro d
  induction d with
  | zero =>
    intro s c h hp hs hc m mt mm
    have := pop_0 s (by omega) (by omega)
    subst this
    exact Ret.go (by decide) rfl rfl RJ.ret (bX4_minor_0 (Nat.zero_le _) m ⟨fun q => absurd rfl q, fun _ => RJ.i ⟨rfl, m, mm, FR.rf⟩⟩)
  | succ d ih =>
    intro s c h hp hs hc m mt mm
    by_cases s0 : s = 0
    · subst s0
      exact Ret.go (by decide) rfl rfl RJ.ret (bX4_minor_0 (Nat.zero_le _) m ⟨fun q => absurd rfl q, fun _ => RJ.i ⟨rfl, m, mm, FR.rf⟩⟩)
    · have hs6 : s < 64 := by omega
      have hc6 : c < 64 := by omega
      obtain ⟨b1, b2, b3, b4⟩ := bitB3 s hs6 s0
      have hlr := lowb_lt hs hs6 s0
      refine Ret.go (by decide) rfl rfl RJ.ret (bX4_minor_0 (Nat.zero_le _) m ⟨fun _ => ?_, fun q => absurd q (nI_ne0 (by omega) (by omega))⟩)
      rw [pk_mul, nI_add]
      have en : nt (nI (64 * s + c)) = 64 * s + c := nt_nI (by omega)
      have vn := vp_in_nI (n := 64 * s + c) (N := 4096) (by omega) (by omega)
      rw [en]
      refine ⟨vn, fun q => ?_, fun q => ⟨vn, RJ.i ⟨mm s hs6 c hc6 q, m, mm, FR.rf⟩⟩⟩
      clear q
      -- the first row
      refine lo_up (n := lowb s) (S := fun i => AWP mX4_minor (d + 1) 36 [vR (some o), vI (nI s), vI (nI c), vI (nI (64 * s + c)), vI (nI i), vU, vU, vU, vU, vU, vU] [] h (0, 0) _) ?_ ?_ 0 (by omega)
      · intro i hi hS
        refine bX4_minor_36 (Nat.zero_le _) m ⟨fun q => absurd ((bitB1 s (by omega) i (by omega)).mpr (b2 i hi)) q, fun _ => ?_⟩
        rw [nI_add]
        exact hS
      · refine bX4_minor_36 (Nat.zero_le _) m ⟨fun _ => ?_, fun q => ?_⟩
        · have E : mnr M r s c = (mnL (M (lowb s)) (fun j => mnr M r (clrb s (lowb s)) (clrb c j)) c r).1 := by
            have e1 : pop s = pop (clrb s (lowb s)) + 1 := b4.symm
            rw [mnr, e1, mnF, if_neg s0]
            rfl
          have L : ∀ j, j ≤ r → ∀ h' y9 y10, MS h' o t g → MT h' o M r → MM h' o M r → FR h h' o [] [31] [30] → AWP mX4_minor (d + 1) 60 [vR (some o), vI (nI s), vI (nI c), vI (nI (64 * s + c)), vI (nI (lowb s)), vJ (mnL (M (lowb s)) (fun j => mnr M r (clrb s (lowb s)) (clrb c j)) c j).1, vU, vI (if (mnL (M (lowb s)) (fun j => mnr M r (clrb s (lowb s)) (clrb c j)) c j).2 then nI 1 else nI 0), vI (nI j), y9, y10] [] h' (0, 0) (RJ fun z h' => z = mnr M r s c ∧ MS h' o t g ∧ MM h' o M r ∧ FR h h' o [] [31] [30]) := by
            refine lo_up ?_ ?_
            · intro j hj hS h' y9 y10 m1 mt1 mm1 F
              refine bX4_minor_60 (Nat.zero_le _) m1 ?_
              have e6 : nt (nI (6 * lowb s + j)) = 6 * lowb s + j := nt_nI (by omega)
              rw [mt1.2.1, pk_mul, nI_add, nI_add, e6, mt1.2.2 _ hlr j hj, bitB2 s hs6 _ b3, bitB2 c hc6 j (by omega), lg_cmp_eq]
              have v6 := vp_in_nI (n := 6 * lowb s + j) (N := 36) (by omega) (by omega)
              refine ⟨fun q => absurd q (nI_ge hj (by omega)), fun _ => ⟨fun q => ⟨v6, fun z => ⟨fun y => ?_, fun y => ?_⟩, fun z => ⟨v6, ?_⟩⟩, fun q => ?_⟩⟩
              · have q : c.testBit j = true := by
                  cases hh : c.testBit j with
                  | true => rfl
                  | false => exact absurd ((bitB1 c (by omega) j (by omega)).mpr hh) q
                have := hS h' y9 y10 m1 mt1 mm1 F
                rw [mnL, if_pos q, if_pos z] at this
                cases hb : (mnL (M (lowb s)) (fun j => mnr M r (clrb s (lowb s)) (clrb c j)) c j).2 with
                | true => rw [hb] at this; exact this
                | false => rw [hb] at y; exact absurd rfl y
              · have q : c.testBit j = true := by
                  cases hh : c.testBit j with
                  | true => rfl
                  | false => exact absurd ((bitB1 c (by omega) j (by omega)).mpr hh) q
                have := hS h' y9 y10 m1 mt1 mm1 F
                rw [mnL, if_pos q, if_pos z] at this
                cases hb : (mnL (M (lowb s)) (fun j => mnr M r (clrb s (lowb s)) (clrb c j)) c j).2 with
                | false => rw [hb] at this; exact this
                | true => rw [hb] at y; exact absurd y (by decide)
              · have q : c.testBit j = true := by
                  cases hh : c.testBit j with
                  | true => rfl
                  | false => exact absurd ((bitB1 c (by omega) j (by omega)).mpr hh) q
                refine ⟨_, d, ble_le (Nat.le_refl _), ih (clrb s (lowb s)) (clrb c j) h' (by omega) (Nat.lt_of_le_of_lt clrb_le hs) (Nat.lt_of_le_of_lt clrb_le hc) m1 mt1 mm1, ?_⟩
                rintro z7 h8 ⟨rfl, m8, mm8, F8⟩
                have mt8 : MT h8 o M r := mt1.fr F8 rfl rfl
                have := hS h8 (vJ (M (lowb s) j * mnr M r (clrb s (lowb s)) (clrb c j))) vU m8 mt8 mm8 (F.tr F8)
                rw [mnL, if_pos q, if_neg z] at this
                refine ⟨t, g, m8, fun y => ?_, fun y => ?_⟩
                · cases hb : (mnL (M (lowb s)) (fun j => mnr M r (clrb s (lowb s)) (clrb c j)) c j).2 with
                  | true => rw [hb] at y; exact absurd y (by decide)
                  | false =>
                    rw [hb] at this
                    refine bX4_minor_150 (Nat.zero_le _) m8 ⟨fun y => absurd rfl y, fun _ => ?_⟩
                    rw [nI_add]
                    exact this
                · cases hb : (mnL (M (lowb s)) (fun j => mnr M r (clrb s (lowb s)) (clrb c j)) c j).2 with
                  | false => rw [hb] at y; exact absurd rfl y
                  | true =>
                    rw [hb] at this
                    refine bX4_minor_150 (Nat.zero_le _) m8 ⟨fun _ => ?_, fun y => absurd y (by decide)⟩
                    rw [nI_add]
                    exact this
              · have q := (bitB1 c (by omega) j (by omega)).mp q
                have := hS h' y9 y10 m1 mt1 mm1 F
                rw [mnL, if_neg (by rw [q]; decide)] at this
                exact this
            · intro h' y9 y10 m1 mt1 mm1 F
              refine bX4_minor_60 (Nat.zero_le _) m1 ?_
              rw [mt1.2.1, en, ← E]
              refine ⟨fun _ => ⟨vn, fun h2 q2 => ⟨vn, fun h3 q3 => RJ.i ⟨rfl, ?_, ?_, ?_⟩⟩⟩, fun z => absurd (nI_le (Nat.le_refl _) (by omega)) z⟩
              · rw [q3, q2]; exact m1.memo
              · rw [q3, q2]
                intro s' hs' c' hc' z
                rw [hAI_wL, hAI_w1, hFI_wL, hFI_w1] at z
                rw [hAL_wL, hAL_w1]
                by_cases y : 64 * s' + c' = 64 * s + c
                · rw [if_pos y]
                  obtain rfl : s' = s := by omega
                  obtain rfl : c' = c := by omega
                  rfl
                · rw [if_neg y] at z ⊢
                  exact mm1 s' hs' c' hc' z
              · rw [q3, q2]
                exact (F.tr (FR.w rfl)).tr (FR.wl rfl)
          exact L 0 (by omega) h _ _ m mt mm FR.rf
        · have := (bitB1 s (by omega) _ (by omega)).mp q
          rw [b1] at this
          exact absurd this (by decide)
