def LW (h : Hp) (o : Nat) (t : St) (w : Int32) (n : Nat) : Prop := ∀ i < n, hAI h (o + 56) i = lowO t w i
theorem ctX4_doAgree {h : Hp} {o g k a b n : Nat} {t : St} {w d : Int32} (m : MS h o t g) (L : LW h o t w n) (hn : n ≤ 7) (ha : a < n) (hb : b < n) (hk : k < rt t) : Ret mX4_doAgree 1 [vR (some o), vI (nI k), vI (nI a), vI (nI b), vI d] h 0 0 (RI fun x h' => x = bI (agr t w d k a b = true) ∧ h' = h) := by
  have hr := m.b_rt
  refine Ret.go (by decide) rfl rfl RI.ret (bX4_doAgree_0 m ?_)
  rw [nt_nI (show a < 2 ^ 31 by omega), nt_nI (show b < 2 ^ 31 by omega), nt_nI (show k < 2 ^ 31 by omega), L a ha, L b hb]
  have vk := vp_in_nI (n := k) (N := 6) (by omega) (by omega)
  refine ⟨vp_in_nI (by omega) (by omega), vk, hk, vp_in_nI (by omega) (by omega), vk, hk, fun z => RI.i ⟨?_, rfl⟩, fun z => RI.i ⟨?_, rfl⟩⟩
  · rw [bI_f]; rfl
    intro y
    have y := of_decide_eq_true y
    rw [lt_i] at z
    rw [le_i] at y
    omega
  · rw [bI_t]; rfl
    refine decide_eq_true ?_
    rw [lt_i] at z
    rw [le_i]
    omega
theorem agL_le {t : St} {w d : Int32} {left : Nat} : ∀ i, (agL t w d left i).2.1 ≤ i ∧ (0 < (agL t w d left i).2.1 → (agL t w d left i).2.2 < i)
  | 0 => ⟨Nat.le_refl _, fun h => absurd h (Nat.lt_irrefl 0)⟩
  | i + 1 => by
    obtain ⟨h1, h2⟩ := agL_le (t := t) (w := w) (d := d) (left := left) i
    unfold agL
    split
    · exact ⟨by show (agL t w d left i).2.1 + 1 ≤ i + 1; omega, fun _ => Nat.lt_succ_self i⟩
    · exact ⟨by omega, fun h => Nat.lt_succ_of_lt (h2 h)⟩
theorem agL_mono {t : St} {w d : Int32} {left i : Nat} : ∀ k, (agL t w d left (i + k)).1 + (agL t w d left i).2.1 ≤ (agL t w d left (i + k)).2.1 + (agL t w d left i).1
  | 0 => by rw [Nat.add_zero]; omega
  | k + 1 => by
    have h := agL_mono (t := t) (w := w) (d := d) (left := left) (i := i) k
    rw [← Nat.add_assoc, agL]
    split
    · show (agL t w d left (i + k)).1 + (if _ then 1 else 0) + (agL t w d left i).2.1 ≤ (agL t w d left (i + k)).2.1 + 1 + (agL t w d left i).1
      split <;> omega
    · exact h
theorem agL_many {t : St} {w d : Int32} {left : Nat} : ∀ i, (agL t w d left i).2.1 = cntB left.testBit i
  | 0 => rfl
  | i + 1 => by
    have h := agL_many (t := t) (w := w) (d := d) (left := left) i
    rw [agL, cntB, ← h]
    split <;> rfl
theorem pop_pos : ∀ n < 8, ∀ l < 2 ^ n, l ≠ 0 → cntB l.testBit n ≠ 0 := by decide +kernel
theorem ctX4_allAgree {h : Hp} {o g n left : Nat} {t : St} {w d : Int32} (m : MS h o t g) (L : LW h o t w n) (hn : n ≤ 7) (hr : n ≤ rt t + 1) (hl : left < 2 ^ n) (h0 : left ≠ 0) : Ret mX4_allAgree 2 [vR (some o), vI (nI left), vI (nI n), vI d] h 0 0 (RI fun x h' => x = bI (agQ t w d n left = true) ∧ h' = h) := by
  have h128 : left < 128 := Nat.lt_of_lt_of_le hl (Nat.pow_le_pow_right (n := 2) (by omega) hn)
  refine Ret.go (by decide) rfl rfl RI.ret (bX4_allAgree_0 m ?_)
  have K : ∀ i, i ≤ n → (agL t w d left i).2.1 = 0 ∧ (agL t w d left i).1 = 0 ∨ (agL t w d left i).1 + 1 = (agL t w d left i).2.1 → AWP mX4_allAgree 2 9 [vR (some o), vI (nI left), vI (nI n), vI d, vI (nI ((agL t w d left i).2.1 - 1)), vI (if (agL t w d left i).2.1 = 0 then -1 else nI (agL t w d left i).2.2), vI (nI i)] [] h (0, 0) (RI fun x h' => x = bI (agQ t w d n left = true) ∧ h' = h) := by
    refine lo_up ?_ ?_
    · intro i hi hS I
      obtain ⟨b1, b2⟩ := agL_le (t := t) (w := w) (d := d) (left := left) i
      have MN := fun k => agL_mono (t := t) (w := w) (d := d) (left := left) (i := i + 1) k
      rw [agL] at hS
      refine bX4_allAgree_9 m ⟨fun z => absurd z (nI_ge hi (by omega)), fun _ => ⟨fun z => ?_, fun z => ?_⟩⟩
      · have hb : left.testBit i = true := by
          cases hh : left.testBit i with
          | true => rfl
          | false => exact absurd ((bitB1 left h128 i (by omega)).mpr hh) z
        rw [if_pos hb] at hS
        have MN : ∀ k, (agL t w d left (i + 1 + k)).1 + ((agL t w d left i).2.1 + 1) ≤ (agL t w d left (i + 1 + k)).2.1 + ((agL t w d left i).1 + if 0 < (agL t w d left i).2.1 ∧ agr t w d ((agL t w d left i).2.1 - 1) (agL t w d left i).2.2 i then 1 else 0) := by
          intro k
          have := MN k
          rw [show agL t w d left (i + 1) = ((agL t w d left i).1 + (if 0 < (agL t w d left i).2.1 ∧ agr t w d ((agL t w d left i).2.1 - 1) (agL t w d left i).2.2 i then 1 else 0), (agL t w d left i).2.1 + 1, i) by rw [agL, if_pos hb]] at this
          exact this
        dsimp only at hS
        generalize (agL t w d left i).1 = u1 at *
        generalize (agL t w d left i).2.1 = u2 at *
        generalize (agL t w d left i).2.2 = u3 at *
        by_cases c0 : u2 = 0
        · subst c0
          refine ⟨fun _ => ?_, fun y => absurd (by rw [if_pos rfl]; decide) y⟩
          have e1 : (if 0 < 0 ∧ agr t w d (0 - 1) u3 i = true then 1 else 0) = 0 := if_neg (fun q => absurd q.1 (by decide))
          rw [e1] at hS
          have := hS (Or.inr (by omega))
          rw [if_neg (by omega)] at this
          rw [nI_add]
          exact this
        · have hu3 := b2 (by omega)
          refine ⟨fun y => ?_, fun y => ?_⟩
          · rw [if_neg c0] at y
            exact absurd y (nI_pos (by omega))
          · rw [if_neg c0]
            refine ⟨_, ctX4_doAgree m L hn (a := u3) (b := i) (k := u2 - 1) (by omega) hi (by omega), ?_⟩
            rintro x h5 ⟨rfl, rfl⟩
            refine ⟨_, _, m, fun y => ?_, fun y => RI.i ⟨?_, rfl⟩⟩
            · have y := bI_n0.mp y
              rw [if_pos ⟨by omega, y⟩] at hS
              have := hS (Or.inr (by omega))
              rw [if_neg (by omega)] at this
              simp only [nI_add]
              rw [show u2 - 1 + 1 = u2 + 1 - 1 by omega]
              exact this
            · have y := bI_0.mp y
              rw [bI_f]; rfl
              intro q
              have q := of_decide_eq_true q
              have M1 := MN (n - (i + 1))
              rw [if_neg (fun q => y q.2), show i + 1 + (n - (i + 1)) = n by omega] at M1
              omega
      · have hb := (bitB1 left h128 i (by omega)).mp z
        rw [if_neg (by rw [hb]; decide)] at hS
        rw [nI_add]
        exact hS I
    · intro I
      refine bX4_allAgree_9 m ⟨fun _ => RI.i ⟨?_, rfl⟩, fun z => absurd (nI_le (Nat.le_refl _) (by omega)) z⟩
      rw [bI_t]; rfl
      refine decide_eq_true ?_
      rcases I with I | I
      · have := pop_pos n (by omega) left hl h0
        rw [← agL_many (t := t) (w := w) (d := d)] at this
        exact absurd I.1 this
      · exact I
  exact K 0 (by omega) (Or.inl ⟨rfl, rfl⟩)
theorem bitA1 : ∀ n < 8, ∀ a < 2 ^ n, nI (2 ^ n - 1) &&& (nI a ^^^ (-1)) = nI (2 ^ n - 1 - a) := by decide +kernel
theorem agL_all {t : St} {w d : Int32} {n : Nat} (hb : ∀ i < n, (2 ^ n - 1).testBit i = true) : ∀ i, i + 1 ≤ n → agL t w d (2 ^ n - 1) (i + 1) = (cntB (fun k => agr t w d k k (k + 1)) i, i + 1, i)
  | 0, h => by rw [agL, if_pos (hb 0 (by omega))]; rfl
  | i + 1, h => by
    rw [agL, if_pos (hb (i + 1) (by omega)), agL_all hb i (by omega)]
    simp only [Nat.add_sub_cancel, cntB, Nat.succ_pos, true_and]
theorem s_l32 : ∀ n < 32, ((nI n &&& 31).toBitVec.smod 32).toNat = n := by decide +kernel
theorem shr16 {W i : Nat} (hW : W < 2 ^ 31) (hi : i ≤ 7) : nI W >>> (nI 4 * nI i &&& 31) = nI (W / 16 ^ i) := by
  rw [pk_mul, pk_shrN hW _ (4 * i) (s_l32 _ (by omega)), show (16 : Nat) ^ i = 2 ^ (4 * i) by rw [Nat.pow_mul]]
theorem ctX4_agree {h : Hp} {o g : Nat} {t : St} {w n d k : Int32} (m : MS h o t (g + 49)) (W : WSh t) : Ret mX4_agree 17 [vR (some o), vI w, vI n, vI d, vI k] h 0 0 (RI fun y h' => y = spAgree t w n d k ∧ MS h' o t g) := by
  have hr := m.b_rt
  have hns := m.b_ns
  have B : ∀ z : ¬ (bt n 2 7 = true ∧ bt d 0 9999 = true ∧ bt k 0 1 = true ∧ 0 ≤ w.toInt ∧ nt w / 16 ^ nt n = 0 ∧ (List.range (nt n)).all (fun i => decide (nth w i < ns t ∧ tones t (nth w i) ≠ 0)) = true), spAgree t w n d k = -1 := fun z => by rw [spAgree, if_pos z]
  refine Ret.go (by decide) rfl rfl RI.ret (bX4_agree_0 m ⟨fun q => RIq (B fun z => q z.1).symm (m.le (by omega)), fun q1 => ⟨fun q => RIq (B fun z => q z.2.1).symm (m.le (by omega)), fun q2 => ⟨fun q => RIq (B fun z => q z.2.2.1).symm (m.le (by omega)), fun q3 => ⟨fun q => RIq (B fun z => ?_).symm (m.le (by omega)), fun q4 => ?_⟩⟩⟩⟩)
  · have := z.2.2.2.1
    rw [lt_i] at q
    have e0 : (0 : Int32).toInt = 0 := rfl
    omega
  obtain ⟨V, hV, rfl⟩ := nI_of q4
  obtain ⟨N, hN2, hN7, rfl⟩ := bt_k (n := 7) q1 (by decide)
  have eV : nt (nI V) = V := nt_nI hV
  have eN : nt (nI N) = N := nt_nI (by omega)
  have hw0 : 0 ≤ (nI V).toInt := by rw [nI_toInt hV]; omega
  have eth : ∀ i, nth (nI V) i = V / 16 ^ i % 16 := fun i => by rw [nth, eV]
  have hdiv : ∀ i, V / 16 ^ i < 2 ^ 31 := fun i => Nat.lt_of_le_of_lt (Nat.div_le_self _ _) hV
  rw [eV, eN] at B
  have e0 : nI (V / 16 ^ N) = 0 ↔ V / 16 ^ N = 0 := by rw [show (0 : Int32) = nI 0 from rfl, nI_eq (hdiv N) (by omega)]
  rw [shr16 hV hN7, e0]
  refine ⟨fun q5 => ?_, fun q => RIq (B fun z => q z.2.2.2.2.1).symm (m.le (by omega))⟩
  -- the third part
  have L3 : ∀ h', MS h' o t g → LW h' o t (nI V) N → (∀ i < N, nth (nI V) i < ns t ∧ tones t (nth (nI V) i) ≠ 0) → N ≤ rt t + 1 → (k = 0 → AWP mX4_agree 17 171 [vR (some o), vI (nI V), vI (nI N), vI d, vI k, vI (nI (2 ^ N - 1)), vI (nI 0), vI (nI 0)] [] h' (0, 0) (RI fun y h' => y = spAgree t (nI V) (nI N) d k ∧ MS h' o t g)) ∧ (¬ k = 0 → AWP mX4_agree 17 220 [vR (some o), vI (nI V), vI (nI N), vI d, vI k, vI (nI (2 ^ N - 1)), vI (-1), vI (nI 0)] [] h' (0, 0) (RI fun y h' => y = spAgree t (nI V) (nI N) d k ∧ MS h' o t g)) := by
    intro h' M L R hrt
    have G : ¬ ¬ (bt (nI N) 2 7 = true ∧ bt d 0 9999 = true ∧ bt k 0 1 = true ∧ 0 ≤ (nI V).toInt ∧ V / 16 ^ N = 0 ∧ (List.range N).all (fun i => decide (nth (nI V) i < ns t ∧ tones t (nth (nI V) i) ≠ 0)) = true) := fun z => z ⟨q1, q2, q3, hw0, q5, all_range.mpr fun i hi => decide_eq_true (R i hi)⟩
    have G2 : ¬ rt t < N - 1 := by omega
    have p7 : 2 ^ N ≤ 128 := Nat.pow_le_pow_right (n := 2) (by omega) hN7
    have p1 : 1 ≤ 2 ^ N := Nat.one_le_two_pow
    refine ⟨fun z => ?_, fun z => ?_⟩
    · have hbits : ∀ i < N, (2 ^ N - 1).testBit i = true := by
        intro i hi
        rw [Nat.testBit_two_pow_sub_one]
        exact decide_eq_true hi
      have E : spAgree t (nI V) (nI N) d k = nI (cntB (fun x => agr t (nI V) d x x (x + 1)) (N - 1)) := by
        rw [spAgree, eV, eN, if_neg G, if_neg G2, if_pos z, show N = (N - 1) + 1 by omega]
        rw [show (N - 1) + 1 = N by omega]
        have := agL_all (t := t) (w := nI V) (d := d) hbits (N - 1) (by omega)
        rw [show N - 1 + 1 = N by omega] at this
        rw [this]
      have K : ∀ x, x ≤ N - 1 → AWP mX4_agree 17 171 [vR (some o), vI (nI V), vI (nI N), vI d, vI k, vI (nI (2 ^ N - 1)), vI (nI (cntB (fun x => agr t (nI V) d x x (x + 1)) x)), vI (nI x)] [] h' (0, 0) (RI fun y h' => y = spAgree t (nI V) (nI N) d k ∧ MS h' o t g) := by
        refine lo_up ?_ ?_
        · intro x hx hS
          refine bX4_agree_171 M ?_
          simp only [nI_add]
          rw [nI_leI (by omega) (by omega)]
          refine ⟨fun c => by omega, fun _ => ⟨_, ctX4_doAgree M L hN7 (by omega) (by omega) (by omega), ?_⟩⟩
          rintro y h3 ⟨rfl, rfl⟩
          rw [cntB] at hS
          refine ⟨_, _, M, fun c => ?_, fun c => ?_⟩
          · rw [if_neg (bI_0.mp c)] at hS; exact hS
          · rw [if_pos (bI_n0.mp c)] at hS; exact hS
        · refine bX4_agree_171 M ?_
          rw [nI_add, nI_leI (by omega) (by omega)]
          exact ⟨fun _ => RIq E.symm M, fun c => by omega⟩
      exact K 0 (by omega)
    · have E : spAgree t (nI V) (nI N) d k = (List.range (2 ^ N - 1)).foldl (agF t (nI V) d N) (-1) := by rw [spAgree, eV, eN, if_neg G, if_neg G2, if_neg z]
      have K : ∀ a, a ≤ 2 ^ N - 1 → ∀ b, b = (List.range a).foldl (agF t (nI V) d N) (-1) → (b = -1 ∨ ∃ x, x < a ∧ b = nI x) → AWP mX4_agree 17 220 [vR (some o), vI (nI V), vI (nI N), vI d, vI k, vI (nI (2 ^ N - 1)), vI b, vI (nI a)] [] h' (0, 0) (RI fun y h' => y = spAgree t (nI V) (nI N) d k ∧ MS h' o t g) := by
        refine lo_up ?_ ?_
        · intro a ha hS b eb hb
          have step : (List.range (a + 1)).foldl (agF t (nI V) d N) (-1) = agF t (nI V) d N b a := by rw [List.range_succ, List.foldl_append, ← eb]; rfl
          have keep : ¬ ((b < 0 ∨ pop7 a < pop7 (nt b)) ∧ agQ t (nI V) d N (2 ^ N - 1 - a) = true) → AWP mX4_agree 17 220 [vR (some o), vI (nI V), vI (nI N), vI d, vI k, vI (nI (2 ^ N - 1)), vI b, vI (nI (a + 1))] [] h' (0, 0) (RI fun y h' => y = spAgree t (nI V) (nI N) d k ∧ MS h' o t g) := by
            intro c
            refine hS b (by rw [step, agF, if_neg c]) ?_
            rcases hb with hb | ⟨x, hx, hb⟩
            · exact Or.inl hb
            · exact Or.inr ⟨x, by omega, hb⟩
          have try' : (b < 0 ∨ pop7 a < pop7 (nt b)) → AWP mX4_agree 17 245 [vR (some o), vI (nI V), vI (nI N), vI d, vI k, vI (nI (2 ^ N - 1)), vI b, vI (nI a)] [] h' (0, 0) (RI fun y h' => y = spAgree t (nI V) (nI N) d k ∧ MS h' o t g) := by
            intro c
            refine bX4_agree_245 M ?_
            rw [bitA1 N (by omega) a (by omega), nI_add]
            refine ⟨_, ctX4_allAgree M L hN7 hrt (by omega) (by omega), ?_⟩
            rintro y h2 ⟨rfl, rfl⟩
            refine ⟨_, _, M, fun y => keep fun q => bI_0.mp y q.2, fun y => hS (nI a) (by rw [step, agF, if_pos ⟨c, bI_n0.mp y⟩]) (Or.inr ⟨a, by omega, rfl⟩)⟩
          refine bX4_agree_220 M ⟨fun c => absurd c (nI_ge ha (by omega)), fun _ => ⟨fun c => try' (Or.inl c), fun c => ⟨_, ctX4_bitsOf (by omega), ?_⟩⟩⟩
          obtain ⟨x, hx, rfl⟩ : ∃ x, x < a ∧ b = nI x := by
            rcases hb with hb | hb
            · rw [hb] at c; exact absurd (by decide) c
            · exact hb
          rintro y h2 ⟨rfl, rfl⟩
          refine ⟨_, _, M, _, ctX4_bitsOf (by omega), ?_⟩
          rintro y h3 ⟨rfl, rfl⟩
          have P7 : ∀ s, pop7 s ≤ 7 := fun s => cntB_le _ 7
          have a1 := P7 x
          have a2 := P7 a
          rw [nI_leI (by omega) (by omega), nI_add]
          refine ⟨_, _, M, fun y => keep fun q => ?_, fun y => try' (Or.inr ?_)⟩
          · rcases q.1 with q | q
            · exact c q
            · rw [nt_nI (by omega)] at q; omega
          · rw [nt_nI (by omega)]; omega
        · intro b eb hb
          exact bX4_agree_220 M ⟨fun _ => RIq (by rw [E, eb]) M, fun c => absurd (nI_le (Nat.le_refl _) (by omega)) c⟩
      exact K 0 (by omega) (-1) rfl (Or.inl rfl)
  -- the second part
  have L2 : ∀ i, i ≤ N → ∀ h' y, MS h' o t (g + 7 * (N - i)) → (∀ j < N, hAI h' (o + 55) j = nI (nth (nI V) j)) → LW h' o t (nI V) i → (∀ i < N, nth (nI V) i < ns t ∧ tones t (nth (nI V) i) ≠ 0) → N ≤ rt t + 1 → AWP mX4_agree 17 116 [vR (some o), vI (nI V), vI (nI N), vI d, vI k, vI (nI i), y, vU] [] h' (0, 0) (RI fun y h' => y = spAgree t (nI V) (nI N) d k ∧ MS h' o t g) := by
    refine lo_up ?_ ?_
    · intro i hi hS h' y M O L R hrt
      refine bX4_agree_116 M ?_
      rw [nt_nI (by omega), O i hi, nI_add]
      refine ⟨fun c => absurd c (nI_ge hi (by omega)), fun _ => ⟨vp_in_nI (by omega) (by omega), _, ctX4_take M W (R i hi).1, ?_⟩⟩
      rintro h4 ⟨m4, K4, F4⟩
      refine ⟨_, _, m4, _, ctX4_shutNow (g := g + 7 * (N - (i + 1))) (m4.le (by omega)) K4 (by omega), ?_⟩
      rintro z h10 ⟨rfl, m10, C10, F10⟩
      refine ⟨_, _, m10, vp_in_nI (by omega) (by omega), fun h15 q15 => ?_⟩
      refine hS h15 y (by rw [q15]; exact m10.fr (PE.w rfl)) (fun j hj => ?_) (fun j hj => ?_) R hrt
      · rw [q15, hAI_wo (by decide), F10.2.1 55 rfl, F4.2.1 55 rfl]; exact O j hj
      · rw [q15, hAI_w1]
        by_cases c : j = i
        · rw [if_pos c, c]; rfl
        · rw [if_neg c, F10.2.1 56 rfl, F4.2.1 56 rfl]; exact L j (by omega)
    · intro h' y M O L R hrt
      refine bX4_agree_116 M ?_
      rw [bitB6 N (by omega), nI_sub Nat.one_le_two_pow]
      obtain ⟨c1, c2⟩ := L3 h' (M.le (by omega)) L R hrt
      exact ⟨fun _ => ⟨c2, c1⟩, fun c => absurd (nI_le (Nat.le_refl _) (by omega)) c⟩
  -- the first part
  have L1 : ∀ i, i ≤ N → ∀ h' y, MS h' o t (g + 49) → (∀ j < i, hAI h' (o + 55) j = nI (nth (nI V) j)) → (∀ j < i, nth (nI V) j < ns t ∧ tones t (nth (nI V) j) ≠ 0) → AWP mX4_agree 17 48 [vR (some o), vI (nI V), vI (nI N), vI d, vI k, vI (nI i), y, vU] [] h' (0, 0) (RI fun y h' => y = spAgree t (nI V) (nI N) d k ∧ MS h' o t g) := by
    refine lo_up ?_ ?_
    · intro i hi hS h' y M O R
      refine bX4_agree_48 M ?_
      have e15 : nI (V / 16 ^ i) &&& nI 15 = nI (nth (nI V) i) := by rw [pk_andN (Nat.lt_trans (hdiv i) (by omega)) 4 (by decide), eth]
      have h16 : nth (nI V) i < 16 := by rw [eth]; exact Nat.mod_lt _ (by omega)
      rw [shr16 hV (by omega), e15, nt_nI (show nth (nI V) i < 2 ^ 31 by omega)]
      have bad : ¬ (nth (nI V) i < ns t ∧ tones t (nth (nI V) i) ≠ 0) → spAgree t (nI V) (nI N) d k = -1 := fun c => B fun z => c (of_decide_eq_true (all_range.mp z.2.2.2.2.2 i hi))
      refine ⟨fun c => absurd c (nI_ge hi (by omega)), fun _ => ⟨fun c => RIq (bad fun z => c (bt_of z.1 (by omega))).symm (M.le (by omega)), fun c => ⟨c, ?_⟩⟩⟩
      have hsh : nth (nI V) i < ns t := by
        have := bt_iff.mp c
        rw [nI_toInt (by omega)] at this
        omega
      have hc := m.b_nc _ hsh
      have ht : tones t (nth (nI V) i) ≤ nc t (nth (nI V) i) := cntB_le _ _
      have et : nI (tones t (nth (nI V) i)) = 0 ↔ tones t (nth (nI V) i) = 0 := by rw [show (0 : Int32) = nI 0 from rfl, nI_eq (by omega) (by omega)]
      rw [et, nt_nI (by omega), nI_add]
      refine ⟨fun c2 => ⟨vp_in_nI (by omega) (by omega), fun h5 q5 => hS h5 _ (by rw [q5]; exact M.fr (PE.w rfl)) (fun j hj => ?_) (fun j hj => ?_)⟩, fun c2 => RIq (bad fun z => z.2 c2).symm (M.le (by omega))⟩
      · rw [q5, hAI_w1]
        by_cases e : j = i
        · rw [if_pos e, e]
        · rw [if_neg e]; exact O j (by omega)
      · by_cases e : j = i
        · rw [e]; exact ⟨hsh, c2⟩
        · exact R j (by omega)
    · intro h' y M O R
      refine bX4_agree_48 M ⟨fun _ => ?_, fun c => absurd (nI_le (Nat.le_refl _) (by omega)) c⟩
      rw [nI_sub (by omega), nI_leI (by omega) (by omega)]
      refine ⟨fun c => L2 0 (by omega) h' _ (M.le (by omega)) O (fun j hj => absurd hj (Nat.not_lt_zero j)) R (by omega), fun c => RIq ?_ (M.le (by omega))⟩
      rw [spAgree, eV, eN, if_neg (by exact fun z => z ⟨q1, q2, q3, hw0, q5, all_range.mpr fun i hi => decide_eq_true (R i hi)⟩), if_pos (by omega)]
  exact L1 0 (by omega) h _ m (fun j hj => absurd hj (Nat.not_lt_zero j)) (fun j hj => absurd hj (Nat.not_lt_zero j))
