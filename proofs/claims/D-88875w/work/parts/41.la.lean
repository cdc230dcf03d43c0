/-! small tools -/
theorem RI.i {P : Int32 → Hp → Prop} {x : Int32} {h : Hp} (p : P x h) : RI P (rI x) h := ⟨x, rfl, p⟩
theorem RJ.i {P : Int64 → Hp → Prop} {x : Int64} {h : Hp} (p : P x h) : RJ P (rJ x) h := ⟨x, rfl, p⟩
theorem RR.i {P : Option Nat → Hp → Prop} {x : Option Nat} {h : Hp} (p : P x h) : RR P (rR x) h := ⟨x, rfl, p⟩
theorem RV.i {P : Hp → Prop} {h : Hp} (p : P h) : RV P rV h := ⟨rfl, p⟩
theorem lo_up {n : Nat} {S : Nat → Prop} (hs : ∀ i, i < n → S (i + 1) → S i) (he : S n) : ∀ i, i ≤ n → S i := by
  intro i hi
  obtain ⟨k, rfl⟩ : ∃ k, n = i + k := ⟨n - i, by omega⟩
  induction k generalizing i with
  | zero => exact he
  | succ k ih => exact hs i (by omega) (ih (i + 1) (by rw [show i + 1 + k = i + (k + 1) by omega]; exact hs) (by rw [show i + 1 + k = i + (k + 1) by omega]; exact he) (by omega))
theorem le_i {a b : Int32} : a ≤ b ↔ a.toInt ≤ b.toInt := Int32.le_iff_toInt_le
theorem lt_i {a b : Int32} : a < b ↔ a.toInt < b.toInt := Int32.lt_iff_toInt_lt
theorem eq_i {a b : Int32} : a = b ↔ a.toInt = b.toInt := Int32.toInt_inj.symm
theorem bt_iff {v : Int32} {lo hi : Int} : bt v lo hi = true ↔ lo ≤ v.toInt ∧ v.toInt ≤ hi := by rw [bt, decide_eq_true_eq]
theorem bt_lit {v a b : Int32} {lo hi : Int} (ha : a.toInt = lo) (hb : b.toInt = hi) : (a ≤ v ∧ v ≤ b) ↔ bt v lo hi = true := by rw [bt_iff, le_i, le_i, ha, hb]
theorem nI_sub {a b : Nat} (h : b ≤ a) : nI a - nI b = nI (a - b) := (Int32.ofNat_sub a b h).symm
theorem nI_m1 {n : Nat} (h : n < 2 ^ 31) : (nI n - nI 1).toInt = (n : Int) - 1 := by
  cases n with
  | zero => decide
  | succ n => rw [nI_sub (by omega), nI_toInt (by omega)]; omega
theorem bt_m1 {v : Int32} {n : Nat} (h : n < 2 ^ 31) : (nI 0 ≤ v ∧ v ≤ nI n - nI 1) ↔ bt v 0 (n - 1) = true := bt_lit rfl (nI_m1 h)
theorem bt_nI {v : Int32} {n : Nat} (h : bt v 0 (n - 1)) : ∃ k, k < n ∧ v = nI k := by
  obtain ⟨a, b⟩ := bt_iff.mp h
  have hb : v.toInt < 2 ^ 31 := Int32.toInt_lt v
  refine ⟨v.toInt.toNat, by omega, ?_⟩
  rw [eq_i, nI_toInt (by omega)]
  omega
theorem bt_of {n k : Nat} (h : k < n) (hn : k < 2 ^ 31) : bt (nI k) 0 (n - 1) := by
  rw [bt_iff, nI_toInt hn]
  omega
theorem bt_k {v : Int32} {lo : Int} {n : Nat} (h : bt v lo n) (h0 : 0 ≤ lo) : ∃ k : Nat, lo ≤ k ∧ k ≤ n ∧ v = nI k := by
  obtain ⟨a, b⟩ := bt_iff.mp h
  have hb : v.toInt < 2 ^ 31 := Int32.toInt_lt v
  refine ⟨v.toInt.toNat, by omega, by omega, ?_⟩
  rw [eq_i, nI_toInt (by omega)]
  omega
theorem nt_nI {n : Nat} (h : n < 2 ^ 31) : nt (nI n) = n := nI_clamp h
theorem nI_div {a b : Nat} (ha : a < 2 ^ 31) (hb : b < 2 ^ 31) : nI a / nI b = nI (a / b) := (Int32.ofNat_div ha hb).symm
theorem nI_mod {a b : Nat} (ha : a < 2 ^ 31) (hb : b < 2 ^ 31) : nI a - nI a / nI b * nI b = nI (a % b) := by
  rw [nI_div ha hb, pk_mul, nI_sub (Nat.div_mul_le_self a b)]
  congr 1
  rw [Nat.mod_def, Nat.mul_comm]
theorem Ret.go {M : MI} {d : Nat} {args : List AV} {h : Hp} {mc ms : Nat} {Q : Rs → Hp → Prop} {L : List AV} (hy : plainName M.1.cls = true) (hn : Nat.ble (args.map avc).sum M.2.2.1 = true) (hL : entL M.2.2.1 args = L) (hQ : ∀ r h', Q r h' → ∃ v, r = .inl v) (k : AWP M d 0 L [] h (mc, ms) Q) : Ret M d args h mc ms Q :=
  Ret.of L hy (Nat.le_of_ble_eq_true hn) hL hQ k
/-! leaves -/
theorem ctX4_in {h : Hp} {v a b : Int32} : Ret mX4_in 0 [vI v, vI a, vI b] h 0 0 (RI fun x h' => x = bI (a ≤ v ∧ v ≤ b) ∧ h' = h) := by
  refine Ret.go (by decide) rfl rfl RI.ret (bX4_in_0 ⟨fun e => RI.i ⟨?_, rfl⟩, fun e => ⟨fun e1 => RI.i ⟨?_, rfl⟩, fun e1 => RI.i ⟨?_, rfl⟩⟩⟩)
  · rw [bI_f]; rfl
    rw [le_i]; rw [lt_i] at e; omega
  · rw [bI_f]; rfl
    rw [le_i, le_i]; rw [lt_i] at e1; omega
  · rw [bI_t]; rfl
    rw [le_i, le_i]; rw [lt_i] at e e1; omega
theorem ctX4_inL {h : Hp} {v a b : Int32} {lo hi : Int} (ha : a.toInt = lo) (hb : b.toInt = hi) : Ret mX4_in 0 [vI v, vI a, vI b] h 0 0 (RI fun x h' => x = bI (bt v lo hi) ∧ h' = h) := by
  refine Ret.mono ctX4_in ?_
  rintro r h' ⟨x, rfl, rfl, rfl⟩
  exact RI.i ⟨bI_c (bt_lit ha hb), rfl⟩
theorem ctX4_lesser {h : Hp} {a b : Int32} : Ret mX4_lesser 0 [vI a, vI b] h 0 0 (RI fun x h' => x = mnI a b ∧ h' = h) := by
  refine Ret.go (by decide) rfl rfl RI.ret (bX4_lesser_0 ⟨fun e => RI.i ⟨?_, rfl⟩, fun e => RI.i ⟨?_, rfl⟩⟩)
  · rw [mnI, if_neg]; rw [lt_i]; rw [le_i] at e; omega
  · rw [mnI, if_pos]; rw [lt_i]; rw [le_i] at e; omega
theorem ctX4_greater {h : Hp} {a b : Int32} : Ret mX4_greater 0 [vI a, vI b] h 0 0 (RI fun x h' => x = mxI a b ∧ h' = h) := by
  refine Ret.go (by decide) rfl rfl RI.ret (bX4_greater_0 ⟨fun e => RI.i ⟨?_, rfl⟩, fun e => RI.i ⟨?_, rfl⟩⟩)
  · rw [mxI, if_neg]; rw [lt_i]; rw [le_i] at e; omega
  · rw [mxI, if_pos]; rw [lt_i]; rw [le_i] at e; omega
theorem ctX4_sizeOf {h : Hp} {a : Int32} : Ret mX4_sizeOf 0 [vI a] h 0 0 (RI fun x h' => x = abI a ∧ h' = h) := by
  refine Ret.go (by decide) rfl rfl RI.ret (bX4_sizeOf_0 ⟨fun e => RI.i ⟨?_, rfl⟩, fun e => RI.i ⟨?_, rfl⟩⟩)
  · rw [abI, if_neg]; rw [lt_i]; rw [le_i] at e; omega
  · rw [abI, if_pos]; rw [lt_i]; rw [le_i] at e; omega
theorem ctX4_at {h : Hp} {a b c : Int32} : Ret mX4_at 0 [vI a, vI b, vI c] h 0 0 (RI fun x h' => x = nI 36 * a + nI 6 * b + c ∧ h' = h) :=
  Ret.go (by decide) rfl rfl RI.ret (bX4_at_0 (RI.i ⟨rfl, rfl⟩))
theorem ctX4_massOf {h : Hp} {a b : Int32} : Ret mX4_massOf 0 [vI a, vI b] h 0 0 (RI fun x h' => x = massO a b ∧ h' = h) := by
  refine Ret.go (by decide) rfl rfl RI.ret (bX4_massOf_0 ⟨fun e => RI.i ⟨?_, rfl⟩, fun e => RI.i ⟨?_, rfl⟩⟩)
  · rw [massO, if_neg]; rw [lt_i]; rw [le_i] at e; simp only [show (nI 9).toInt = 9 from rfl, show (9 : Int32).toInt = 9 from rfl] at e ⊢; omega
  · rw [massO, if_pos]; rfl
    rw [lt_i]; rw [le_i] at e; simp only [show (nI 9).toInt = 9 from rfl, show (9 : Int32).toInt = 9 from rfl] at e ⊢; omega
