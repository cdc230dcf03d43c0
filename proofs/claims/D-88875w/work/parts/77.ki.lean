/-! turns -/
abbrev T3 : Type := Nat × Int32 × Option Int32
def orf (w : Nat) (b : Int32) (r : List Nat) : Int32 := b ||| ((1 : Int32) <<< nI (r.getD w 0))
def aft (w : Nat) (x : T3) (L : List (List Nat)) : T3 := (x.1 + L.length, L.foldl (orf w) x.2.1, match x.2.2 with
  | some v => some v
  | none => L.head?.map dgt)
theorem aft_nil {w : Nat} {x : T3} : aft w x [] = x := by
  obtain ⟨a, b, c⟩ := x
  cases c <;> rfl
theorem aft_app {w : Nat} {x : T3} {L1 L2 : List (List Nat)} : aft w (aft w x L1) L2 = aft w x (L1 ++ L2) := by
  obtain ⟨a, b, c⟩ := x
  unfold aft
  simp only [List.length_append, List.foldl_append, Nat.add_assoc]
  cases c with
  | some v => rfl
  | none =>
    cases L1 with
    | nil => rfl
    | cons r L => rfl
def TS (h : Hp) (o w : Nat) (x : T3) : Prop := hFI h 446 o = nI x.1 ∧ hFI h 447 o = x.2.1 ∧ hFI h 448 o = nI w ∧ match x.2.2 with
  | none => hFI h 449 o = 0
  | some v => hFI h 449 o = nI 1 ∧ hFI h 450 o = v
/-- the row so far -/
def RW (h : Hp) (o : Nat) (r : List Nat) : Prop := ∀ i < r.length, hAI h (o + 34) i = nI (r.getD i 0)
theorem bitB8 : ∀ x < 7, nI 1 <<< (nI x &&& 31) = (1 : Int32) <<< nI x := by decide +kernel
theorem bitB9 : ∀ u < 64, ∀ i < 6, nI u ||| (nI 1 <<< (nI i &&& 31)) = nI (u ||| 2 ^ i) ∧ u ||| 2 ^ i < 64 ∧ ∀ j < 6, (u ||| 2 ^ i).testBit j = (u.testBit j || decide (j = i)) := by decide +kernel
theorem bitB10 : ∀ s < 64, ∀ i < 6, (((nI s >>> (nI i &&& 31)) &&& nI 1 = nI 1) ↔ s.testBit i = true) := by decide +kernel
def dgF (v : Int32) (x : Nat) : Int32 := 10 * v + nI x
theorem dgt_take {r : List Nat} {i : Nat} (h : i < r.length) : (r.take (i + 1)).foldl dgF 0 = nI 10 * (r.take i).foldl dgF 0 + nI (r.getD i 0) := by
  rw [List.take_add_one, List.getElem?_eq_getElem h, List.foldl_append]
  simp only [Option.toList, List.foldl_cons, List.foldl_nil, List.getD_eq_getElem?_getD, List.getElem?_eq_getElem h, Option.getD_some]
  rfl
theorem ctX4_turnOn {o g s q w : Nat} {t : St} (hs : s < ns t) (hq : q < ns t) (hw : w < nc t s) : ∀ f d r u h x, r.length + f = nc t s → 3 + f ≤ d → (∀ y ∈ r, y < 6) → u < 64 → (∀ i < 6, u.testBit i = decide (i ∈ r)) → MS h o t g → TS h o w x → RW h o r → Ret mX4_turnOn d [vR (some o), vI (nI s), vI (nI q), vI (nI r.length), vI (nI u)] h 0 0 (RV fun h' => MS h' o t g ∧ TS h' o w (aft w x (trn t s q f r)) ∧ RW h' o r) := by
  intro f
  induction f with
  | zero =>
    intro d r u h x hl hd hr hu hb m ts rw1
    have hn := m.b_ns
    have hc := m.b_nc s hs
    have es : nt (nI s) = s := nt_nI (by omega)
    refine Ret.go (by decide) rfl rfl RV.ret (bX4_turnOn_0 (by omega) m ?_)
    rw [es, nI_eq (by omega) (by omega)]
    refine ⟨vp_in_nI (by omega) (by omega), hs, fun z => absurd (by omega) z, fun _ h2 q2 => ?_⟩
    obtain ⟨s1, s2, s3, s4⟩ := ts
    rw [s1, nI_add] at q2
    have f8 : hFI h2 448 o = nI w := by rw [q2, hFI_sn (by decide)]; exact s3
    have f7 : hFI h2 447 o = x.2.1 := by rw [q2, hFI_sn (by decide)]; exact s2
    have fr : hAI h2 (o + 34) w = nI (r.getD w 0) := by rw [q2, hAI_sF]; exact rw1 w (by omega)
    rw [f8, f7, nt_nI (by omega), fr]
    refine ⟨vp_in_nI (by omega) (by omega), fun h3 q3 => ?_⟩
    have hrw : r.getD w 0 < 6 := by
      rw [List.getD_eq_getElem?_getD, List.getElem?_eq_getElem (show w < r.length by omega)]
      exact hr _ (List.getElem_mem _)
    rw [bitB8 _ (by omega)] at q3
    have e6 : hFI h3 446 o = nI (x.1 + 1) := by rw [q3, hFI_sn (by decide), q2]; exact hFI_s
    have e7 : hFI h3 447 o = orf w x.2.1 r := by rw [q3]; exact hFI_s
    have e8 : hFI h3 448 o = nI w := by rw [q3, hFI_sn (by decide)]; exact f8
    have e9 : hFI h3 449 o = hFI h 449 o := by rw [q3, hFI_sn (by decide), q2, hFI_sn (by decide)]
    have e10 : hFI h3 450 o = hFI h 450 o := by rw [q3, hFI_sn (by decide), q2, hFI_sn (by decide)]
    have eR : hAI h3 (o + 34) = hAI h (o + 34) := by rw [q3, q2]; rfl
    have m3 : MS h3 o t g := by rw [q3, q2]; exact (m.fr (PE.F rfl)).fr (PE.F rfl)
    clear q3 q2
    have et : aft w x (trn t s q 0 r) = (x.1 + 1, orf w x.2.1 r, match x.2.2 with
      | some v => some v
      | none => some (dgt r)) := by
      unfold aft trn
      cases x.2.2 <;> rfl
    rw [et]
    cases hx : x.2.2 with
    | some v =>
      rw [hx] at s4
      obtain ⟨s4, s5⟩ := s4
      refine ⟨fun _ => RV.i ⟨m3, ⟨e6, e7, e8, by rw [e9]; exact s4, by rw [e10]; exact s5⟩, fun i hi => by rw [eR]; exact rw1 i hi⟩, fun z => ?_⟩
      rw [e9, s4] at z
      exact absurd z (by decide)
    | none =>
      rw [hx] at s4
      have s4 : hFI h 449 o = 0 := s4
      refine ⟨fun z => absurd (by rw [e9]; exact s4) z, fun _ h5 q5 => ?_⟩
      have L : ∀ i, i ≤ r.length → ∀ h', MS h' o t g → hFI h' 446 o = nI (x.1 + 1) → hFI h' 447 o = orf w x.2.1 r → hFI h' 448 o = nI w → hFI h' 450 o = (r.take i).foldl dgF 0 → RW h' o r → AWP mX4_turnOn d 55 [vR (some o), vI (nI s), vI (nI q), vI (nI r.length), vI (nI u), vI (nI i), vU, vU] [] h' (0, 0) (RV fun h' => MS h' o t g ∧ TS h' o w (x.1 + 1, orf w x.2.1 r, some (dgt r)) ∧ RW h' o r) := by
        refine lo_up ?_ ?_
        · intro i hi hS h' M c1 c2 c3 c4 c5
          refine bX4_turnOn_55 (by omega) M ?_
          rw [c4, nt_nI (by omega), c5 i hi, nI_add]
          refine ⟨fun z => absurd z (nI_ge hi (by omega)), fun _ => ⟨vp_in_nI (by omega) (by omega), fun h3 q3 => ?_⟩⟩
          rw [q3]
          refine hS _ (M.fr (PE.F rfl)) (by rw [hFI_sn (by decide)]; exact c1) (by rw [hFI_sn (by decide)]; exact c2) (by rw [hFI_sn (by decide)]; exact c3) ?_ c5
          rw [hFI_s, dgt_take hi]
        · intro h' M c1 c2 c3 c4 c5
          refine bX4_turnOn_55 (by omega) M ⟨fun _ h2 q2 => ?_, fun z => absurd (nI_le (Nat.le_refl _) (by omega)) z⟩
          rw [q2]
          refine RV.i ⟨M.fr (PE.F rfl), ⟨by rw [hFI_sn (by decide)]; exact c1, by rw [hFI_sn (by decide)]; exact c2, by rw [hFI_sn (by decide)]; exact c3, hFI_s, ?_⟩, c5⟩
          rw [hFI_sn (by decide), c4, List.take_length]
          rfl
      rw [q5]
      exact L 0 (by omega) _ (m3.fr (PE.F rfl)) (by rw [hFI_sn (by decide)]; exact e6) (by rw [hFI_sn (by decide)]; exact e7) (by rw [hFI_sn (by decide)]; exact e8) hFI_s (fun i hi => by rw [hAI_sF, eR]; exact rw1 i hi)
  | succ f ih =>
    intro d r u h x hl hd hr hu hb m ts rw1
    have hn := m.b_ns
    have hc := m.b_nc s hs
    have es : nt (nI s) = s := nt_nI (by omega)
    refine Ret.go (by decide) rfl rfl RV.ret (bX4_turnOn_0 (by omega) m ?_)
    rw [es, nI_eq (by omega) (by omega)]
    refine ⟨vp_in_nI (by omega) (by omega), hs, fun _ => ?_, fun z => by omega⟩
    have L : ∀ a, a ≤ nc t s → ∀ h' y6 y7, MS h' o t g → TS h' o w (aft w x ((List.range a).flatMap (fun to => if tnOk t s q r to then trn t s q f (r ++ [to]) else []))) → RW h' o r → AWP mX4_turnOn d 95 [vR (some o), vI (nI s), vI (nI q), vI (nI r.length), vI (nI u), vI (nI a), y6, y7] [] h' (0, 0) (RV fun h' => MS h' o t g ∧ TS h' o w (aft w x (trn t s q (f + 1) r)) ∧ RW h' o r) := by
      refine lo_up ?_ ?_
      · intro a ha hS h' y6 y7 M T R
        have ea' : nt (nI a) = a := nt_nI (by omega)
        have step : ∀ h' y6 y7, MS h' o t g → TS h' o w (aft w (aft w x ((List.range a).flatMap (fun to => if tnOk t s q r to then trn t s q f (r ++ [to]) else []))) (if tnOk t s q r a then trn t s q f (r ++ [a]) else [])) → RW h' o r → AWP mX4_turnOn d 95 [vR (some o), vI (nI s), vI (nI q), vI (nI r.length), vI (nI u), vI (nI (a + 1)), y6, y7] [] h' (0, 0) (RV fun h' => MS h' o t g ∧ TS h' o w (aft w x (trn t s q (f + 1) r)) ∧ RW h' o r) := by
          intro h' y6 y7 M T R
          refine hS h' y6 y7 M ?_ R
          rw [List.range_succ, List.flatMap_append, ← aft_app]
          simp only [List.flatMap_cons, List.flatMap_nil, List.append_nil]
          exact T
        have no : tnOk t s q r a = false → ∀ h' y6 y7, MS h' o t g → TS h' o w (aft w x ((List.range a).flatMap (fun to => if tnOk t s q r to then trn t s q f (r ++ [to]) else []))) → RW h' o r → AWP mX4_turnOn d 95 [vR (some o), vI (nI s), vI (nI q), vI (nI r.length), vI (nI u), vI (nI (a + 1)), y6, y7] [] h' (0, 0) (RV fun h' => MS h' o t g ∧ TS h' o w (aft w x (trn t s q (f + 1) r)) ∧ RW h' o r) := by
          intro z h' y6 y7 M T R
          refine step h' y6 y7 M ?_ R
          rw [if_neg (by rw [z]; decide), aft_nil]
          exact T
        refine bX4_turnOn_95 (by omega) M ?_
        rw [es, bitB10 u hu a (by omega), hb a (by omega), decide_eq_true_eq, nI_add]
        refine ⟨vp_in_nI (by omega) (by omega), hs, fun z => absurd z (nI_ge ha (by omega)), fun _ => ⟨fun z => no ?_ h' y6 y7 M T R, fun z => ⟨_, ctX4_areLike M hs hq (by omega) (by omega), ?_⟩⟩⟩
        · rw [tnOk, decide_eq_false (by simpa using z)]; rfl
        · rintro z3 h4 ⟨rfl, rfl⟩
          refine ⟨_, _, M, fun y => ?_, fun y => ?_⟩
          · have y := bI_n0.mp y
            -- the pieces
            have fin : ∀ y7 good, good = (List.range r.length).all (fun k => decide (cnt t s k r.length = cnt t q (r.getD k 0) a)) → AWP mX4_turnOn d 187 [vR (some o), vI (nI s), vI (nI q), vI (nI r.length), vI (nI u), vI (nI a), vI (if good then nI 1 else nI 0), vI y7] [] h4 (0, 0) (RV fun h' => MS h' o t g ∧ TS h' o w (aft w x (trn t s q (f + 1) r)) ∧ RW h' o r) := by
              intro y7 good eg
              have eok : tnOk t s q r a = good := by rw [tnOk, decide_eq_true z, y, ← eg]; simp
              refine bX4_turnOn_187 (by omega) M ?_
              rw [nI_add, nI_add, nt_nI (by omega)]
              cases good with
              | false => exact ⟨fun z => absurd rfl z, fun _ => no eok h4 _ _ M T R⟩
              | true =>
                refine ⟨fun _ => ⟨vp_in_nI (by omega) (by omega), fun h2 q2 => ?_⟩, fun z => absurd (show nI 1 = 0 from z) (by decide)⟩
                obtain ⟨b1, b2, b3⟩ := bitB9 u hu a (by omega)
                have hlen : (r ++ [a]).length = r.length + 1 := by rw [List.length_append]; rfl
                have R2 : RW h2 o (r ++ [a]) := by
                  intro i hi
                  rw [hlen] at hi
                  rw [q2, hAI_w1, getD_app]
                  by_cases c : i = r.length
                  · rw [if_pos c, if_neg (by omega), if_pos c]
                  · rw [if_neg c, if_pos (by omega)]; exact R i (by omega)
                have M2 : MS h2 o t g := by rw [q2]; exact M.fr (PE.w rfl)
                have T2 : TS h2 o w (aft w x ((List.range a).flatMap (fun to => if tnOk t s q r to then trn t s q f (r ++ [to]) else []))) := by
                  obtain ⟨c1, c2, c3, c4⟩ := T
                  rw [q2]
                  exact ⟨c1, c2, c3, c4⟩
                have := ih (d - 1) (r ++ [a]) (u ||| 2 ^ a) h2 _ (by rw [hlen]; omega) (by omega) (fun y hy => by
                  rcases List.mem_append.mp hy with c | c
                  · exact hr y c
                  · rw [List.mem_singleton.mp c]; omega) b2 (fun i hi => by rw [b3 i hi, hb i hi]; simp [List.mem_append]) M2 T2 R2
                rw [hlen] at this
                rw [b1]
                refine ⟨_, d - 1, ble_le (by omega), this, ?_⟩
                rintro h5 ⟨m5, t5, r5⟩
                refine ⟨_, _, m5, step h5 _ _ m5 ?_ (fun i hi => ?_)⟩
                · rw [if_pos eok]
                  exact t5
                · have := r5 i (by rw [hlen]; omega)
                  rw [getD_app, if_pos hi] at this
                  exact this
            have K : ∀ k, k ≤ r.length → ∀ good, good = (List.range k).all (fun k => decide (cnt t s k r.length = cnt t q (r.getD k 0) a)) → AWP mX4_turnOn d 138 [vR (some o), vI (nI s), vI (nI q), vI (nI r.length), vI (nI u), vI (nI a), vI (if good then nI 1 else nI 0), vI (nI k)] [] h4 (0, 0) (RV fun h' => MS h' o t g ∧ TS h' o w (aft w x (trn t s q (f + 1) r)) ∧ RW h' o r) := by
              refine lo_up ?_ ?_
              · intro k hk hS2 good eg
                refine bX4_turnOn_138 (by omega) M ⟨fun z => absurd z (nI_ge hk (by omega)), fun _ => ⟨fun z => ?_, fun z => ⟨_, ctX4_countBetween M hs (by omega) (by omega), ?_⟩⟩⟩
                · refine fin _ good ?_
                  cases good with
                  | true => exact absurd (show nI 1 = 0 from z) (by decide)
                  | false =>
                    have : ¬ (List.range r.length).all (fun k => decide (cnt t s k r.length = cnt t q (r.getD k 0) a)) = true := by
                      intro c
                      have c := all_range.mp c
                      have : (List.range k).all (fun k => decide (cnt t s k r.length = cnt t q (r.getD k 0) a)) = true := all_range.mpr fun i hi => c i (by omega)
                      rw [← eg] at this
                      exact absurd this (by decide)
                    simpa using this
                · rintro z1 h5 ⟨rfl, rfl⟩
                  rw [nt_nI (by omega), R k hk]
                  have hrk : r.getD k 0 < 6 := by
                    rw [List.getD_eq_getElem?_getD, List.getElem?_eq_getElem hk]
                    exact hr _ (List.getElem_mem _)
                  refine ⟨_, _, M, vp_in_nI (by omega) (by omega), _, ctX4_countBetween M hq hrk (by omega), ?_⟩
                  rintro z2 h6 ⟨rfl, rfl⟩
                  rw [nI_add]
                  have eg1 : good = true := by
                    cases good with
                    | true => rfl
                    | false => exact absurd rfl z
                  rw [eg1] at eg
                  have S : ∀ b : Bool, b = decide (cnt t s k r.length = cnt t q (r.getD k 0) a) → b = (List.range (k + 1)).all (fun k => decide (cnt t s k r.length = cnt t q (r.getD k 0) a)) := by
                    intro b eb
                    rw [List.range_succ, List.all_append, ← eg, eb]
                    simp
                  exact ⟨_, _, M, fun c => hS2 false (S false (decide_eq_false c).symm), fun c => hS2 true (S true (decide_eq_true c).symm)⟩
              · intro good eg
                exact bX4_turnOn_138 (by omega) M ⟨fun _ => fin _ good eg, fun z => absurd (nI_le (Nat.le_refl _) (by omega)) z⟩
            exact K 0 (by omega) true rfl
          · have y := bI_0.mp y
            refine no ?_ h4 _ _ M T R
            have y : like t s r.length q a = false := by simpa using y
            rw [tnOk, y]
            simp
      · intro h' y6 y7 M T R
        refine bX4_turnOn_95 (by omega) M ?_
        rw [es]
        exact ⟨vp_in_nI (by omega) (by omega), hs, fun _ => RV.i ⟨M, T, R⟩, fun z => absurd (nI_le (Nat.le_refl _) (by omega)) z⟩
    exact L 0 (by omega) h _ _ m (by rw [show ((List.range 0).flatMap (fun to => if tnOk t s q r to then trn t s q f (r ++ [to]) else [])) = [] from rfl, aft_nil]; exact ts) rw1
theorem ctX4_findTurns {h : Hp} {o g s q w : Nat} {t : St} (m : MS h o t g) (hs : s < ns t) (hq : q < ns t) (hw : w < nc t s) : Ret mX4_findTurns 16 [vR (some o), vI (nI s), vI (nI q), vI (nI w)] h 0 0 (RV fun h' => MS h' o t g ∧ TS h' o w (aft w (0, 0, none) (trnA t s q))) := by
  have hc := m.b_nc s hs
  refine Ret.go (by decide) rfl rfl RV.ret (bX4_findTurns_0 m fun h1 q1 h2 q2 h3 q3 h4 q4 => ?_)
  have M : MS h4 o t g := by rw [q4, q3, q2, q1]; exact (((m.fr (PE.F rfl)).fr (PE.F rfl)).fr (PE.F rfl)).fr (PE.F rfl)
  have T : TS h4 o w (0, 0, none) := by
    rw [q4, q3, q2, q1]
    refine ⟨?_, ?_, ?_, ?_⟩
    · rw [hFI_sn (by decide), hFI_sn (by decide), hFI_sn (by decide), hFI_s]
    · rw [hFI_sn (by decide), hFI_sn (by decide), hFI_s]; rfl
    · rw [hFI_sn (by decide), hFI_s]
    · exact hFI_s
  refine ⟨_, 15, rfl, ctX4_turnOn hs hq hw (nc t s) 15 [] 0 h4 (0, 0, none) (by simp) (by omega) (by simp) (by omega) (fun i hi => by simp) M T (fun i hi => absurd hi (Nat.not_lt_zero i)), ?_⟩
  rintro h5 ⟨m5, t5, _⟩
  exact ⟨_, _, m5, RV.i ⟨m5, t5⟩⟩
theorem ctX4_turnsOf {h : Hp} {o g : Nat} {t : St} {s : Int32} (m : MS h o t g) : Ret mX4_turnsOf 17 [vR (some o), vI s] h 0 0 (RI fun y h' => y = spTurns t s ∧ MS h' o t g) := by
  refine Ret.go (by decide) rfl rfl RI.ret (bX4_turnsOf_0 m ⟨fun h1 => ?_, fun e => RIq (by rw [spTurns, if_neg e]) m⟩)
  obtain ⟨k, hk, rfl⟩ := isShN h1
  have hn := m.b_ns
  have hc := m.b_nc k hk
  refine ⟨_, ctX4_findTurns m hk hk (by omega), ?_⟩
  rintro h3 ⟨m3, t3⟩
  refine ⟨_, _, m3, RIq ?_ m3⟩
  rw [t3.1, spTurns, if_pos h1, nt_nI (by omega)]
  unfold aft
  rw [Nat.zero_add]
theorem ctX4_orbit {h : Hp} {o g : Nat} {t : St} {s c : Int32} (m : MS h o t g) : Ret mX4_orbit 17 [vR (some o), vI s, vI c] h 0 0 (RI fun y h' => y = spOrbit t s c ∧ MS h' o t g) := by
  refine Ret.go (by decide) rfl rfl RI.ret (bX4_orbit_0 m ⟨fun e => RIq (by rw [spOrbit, if_neg (by exact fun z => e z.1)]) m, fun h1 => ⟨h1, fun h2 => ?_, fun e => RIq (by rw [spOrbit, if_neg (by exact fun z => e z.2)]) m⟩⟩)
  obtain ⟨k, i, hk, hi, hi6, rfl, rfl, ek, ei⟩ := isCoN m h1 h2
  refine ⟨_, ctX4_findTurns m hk hk hi, ?_⟩
  rintro h3 ⟨m3, t3⟩
  refine ⟨_, _, m3, RIq ?_ m3⟩
  rw [t3.2.1, spOrbit, if_pos ⟨h1, h2⟩, ek, ei]
  rfl
theorem ctX4_tableOf {h : Hp} {o g s q : Nat} {t : St} (m : MS h o t g) (hs : s < ns t) (hq : q < ns t) : Ret mX4_tableOf 17 [vR (some o), vI (nI s), vI (nI q)] h 0 0 (RI fun y h' => y = tabO t s q ∧ MS h' o t g) := by
  have hn := m.b_ns
  have hc := m.b_nc s hs
  have hc2 := m.b_nc q hq
  refine Ret.go (by decide) rfl rfl RI.ret (bX4_tableOf_0 m ?_)
  rw [nt_nI (by omega), nt_nI (by omega), nI_eq (by omega) (by omega)]
  refine ⟨vp_in_nI (by omega) (by omega), hs, vp_in_nI (by omega) (by omega), hq, fun e => ⟨_, ctX4_findTurns m hs hq (by omega), ?_⟩, fun e => RIq (by rw [tabO, if_pos e]) m⟩
  rintro h3 ⟨m3, t3⟩
  refine ⟨_, _, m3, ?_⟩
  obtain ⟨_, _, _, t4⟩ := t3
  have t4 : match (trnA t s q).head?.map dgt with
    | none => hFI h3 449 o = 0
    | some v => hFI h3 449 o = nI 1 ∧ hFI h3 450 o = v := t4
  have E : tabO t s q = match trnA t s q with
    | [] => -2
    | r :: _ => dgt r := by rw [tabO, if_neg (fun z => z e)]; cases trnA t s q <;> rfl
  cases hL : trnA t s q with
  | nil =>
    rw [hL] at t4 E
    have t4 : hFI h3 449 o = 0 := t4
    exact ⟨fun _ => RIq E.symm m3, fun z => absurd t4 z⟩
  | cons r L =>
    rw [hL] at t4 E
    obtain ⟨t4, t5⟩ := t4
    refine ⟨fun z => ?_, fun _ => RIq (by rw [t5, E]) m3⟩
    rw [t4] at z
    exact absurd z (by decide)
theorem ctX4_table {h : Hp} {o g : Nat} {t : St} {s q : Int32} (m : MS h o t g) : Ret mX4_table 18 [vR (some o), vI s, vI q] h 0 0 (RI fun y h' => y = spTable t s q ∧ MS h' o t g) := by
  refine Ret.go (by decide) rfl rfl RI.ret (bX4_table_0 m ⟨fun e => RIq (by rw [spTable, if_neg (by exact fun z => e z.1)]) m, fun h1 => ⟨fun e => RIq (by rw [spTable, if_neg (by exact fun z => e z.2)]) m, fun h2 => ?_⟩⟩)
  have hn := m.b_ns
  obtain ⟨k, hk, rfl⟩ := isShN h1
  obtain ⟨j, hj, rfl⟩ := isShN h2
  refine ⟨_, ctX4_tableOf m hk hj, ?_⟩
  rintro y h3 ⟨rfl, m3⟩
  exact ⟨_, _, m3, RIq (by rw [spTable, if_pos ⟨h1, h2⟩, nt_nI (by omega), nt_nI (by omega)]) m3⟩
theorem ctX4_alike {h : Hp} {o g : Nat} {t : St} {s q w : Int32} (m : MS h o t (g + 14)) (W : WSh t) : Ret mX4_alike 18 [vR (some o), vI s, vI q, vI w] h 0 0 (RI fun y h' => y = spAlike t s q w ∧ MS h' o t g) := by
  have B : ∀ z : ¬ (isSh t s = true ∧ isSh t q = true ∧ bt w 0 1 = true), spAlike t s q w = -1 := fun z => by rw [spAlike, if_pos z]
  refine Ret.go (by decide) rfl rfl RI.ret (bX4_alike_0 m ⟨fun e => RIq (B fun z => e z.1).symm (m.le (by omega)), fun h1 => ⟨fun e => RIq (B fun z => e z.2.1).symm (m.le (by omega)), fun h2 => ⟨fun h3 => ?_, fun e => RIq (B fun z => e z.2.2).symm (m.le (by omega))⟩⟩⟩)
  have G : ¬ ¬ (isSh t s = true ∧ isSh t q = true ∧ bt w 0 1 = true) := fun z => z ⟨h1, h2, h3⟩
  have hn := m.b_ns
  obtain ⟨k, hk, rfl⟩ := isShN h1
  obtain ⟨j, hj, rfl⟩ := isShN h2
  have ek : nt (nI k) = k := nt_nI (by omega)
  have ej : nt (nI j) = j := nt_nI (by omega)
  refine ⟨_, ctX4_soundAlike m W hk hj, ?_⟩
  rintro y h5 ⟨rfl, m5⟩
  refine ⟨_, _, m5, fun z => ⟨fun z2 => RIq ?_ m5, fun z2 => ⟨_, ctX4_tableOf m5 hk hj, ?_⟩⟩, fun z => RIq ?_ m5⟩
  · rw [spAlike, if_neg G, ek, ej, if_neg (by rw [bI_n0.mp z]; decide), if_pos (by exact Or.inl z2)]; rfl
  · rintro y h6 ⟨rfl, m6⟩
    refine ⟨_, _, m6, fun z3 => RIq ?_ m6, fun z3 => RIq ?_ m6⟩
    · rw [spAlike, if_neg G, ek, ej, if_neg (by rw [bI_n0.mp z]; decide), if_neg (by rintro (c | c); exact z2 c; exact z3 c)]; rfl
    · rw [spAlike, if_neg G, ek, ej, if_neg (by rw [bI_n0.mp z]; decide), if_pos (by exact Or.inr z3)]; rfl
  · rw [spAlike, if_neg G, ek, ej, if_pos (by simpa using bI_0.mp z)]; rfl
