/-! PLAIN LAYER: whole numbers of 32 bits as natural numbers; arrays -/
set_option maxRecDepth 100000
theorem n_toInt {n : Nat} (h : n < 2147483648) : (Int32.ofNat n).toInt = n := Int32.toInt_ofNat_of_lt h
theorem n_clamp {n : Nat} (h : n < 2147483648) : (Int32.ofNat n).toNatClampNeg = n := Int32.toNatClampNeg_ofNat_of_lt h
theorem n_lt {a b : Nat} (ha : a < 2147483648) (hb : b < 2147483648) : (Int32.ofNat a < Int32.ofNat b) = (a < b) := propext (Int32.ofNat_lt_iff_lt ha hb)
theorem n_le {a b : Nat} (ha : a < 2147483648) (hb : b < 2147483648) : (Int32.ofNat a ≤ Int32.ofNat b) = (a ≤ b) := propext (Int32.ofNat_le_iff_le ha hb)
theorem n_eq {a b : Nat} (ha : a < 2147483648) (hb : b < 2147483648) : (Int32.ofNat a = Int32.ofNat b) = (a = b) := by
  apply propext
  constructor
  · intro h
    have := congrArg Int32.toNatClampNeg h
    rwa [n_clamp ha, n_clamp hb] at this
  · intro h
    rw [h]
theorem n_suc {a : Nat} : Int32.ofNat a + 1 = Int32.ofNat (a + 1) := (Int32.ofNat_add a 1).symm
theorem n_add {a b : Nat} : Int32.ofNat a + Int32.ofNat b = Int32.ofNat (a + b) := (Int32.ofNat_add a b).symm
theorem n_mul {a b : Nat} : Int32.ofNat a * Int32.ofNat b = Int32.ofNat (a * b) := (Int32.ofNat_mul a b).symm
theorem n_sub {a b : Nat} (h : b ≤ a) : Int32.ofNat a - Int32.ofNat b = Int32.ofNat (a - b) := (Int32.ofNat_sub a b h).symm
theorem n_ix {k a b : Nat} : Int32.ofNat k * Int32.ofNat a + Int32.ofNat b = Int32.ofNat (k * a + b) := by rw [n_mul, n_add]
theorem n_nn {n : Nat} (h : n < 2147483648) : ¬ Int32.ofNat n < 0 := by
  show ¬ Int32.ofNat n < Int32.ofNat 0
  rw [n_lt h (by decide)]
  exact Nat.not_lt_zero n
theorem n_in {n N : Nat} (h : n < N) (hN : N < 2147483648) : vp_in (Int32.ofNat n) N := by
  have hn : n < 2147483648 := Nat.lt_trans h hN
  rintro (h1 | h1)
  · exact n_nn hn h1
  · rw [n_clamp hn] at h1
    omega
/-- a number that is not negative is a natural one -/
theorem n_of {x : Int32} (h : ¬ x < 0) : ∃ n : Nat, n < 2147483648 ∧ x = Int32.ofNat n := by
  have h0 : 0 ≤ x := by
    rw [Int32.le_iff_toInt_le]
    rw [Int32.lt_iff_toInt_lt] at h
    omega
  exact ⟨x.toNatClampNeg, Int32.toNatClampNeg_lt x, (Int32.ofNat_toNatClampNeg x h0).symm⟩
theorem n_upto {x : Int32} {m : Nat} (h : ¬ x < 0) (h2 : ¬ Int32.ofNat m < x) (hm : m < 2147483648) : ∃ n : Nat, n ≤ m ∧ x = Int32.ofNat n := by
  obtain ⟨n, hn, rfl⟩ := n_of h
  rw [n_lt hm hn] at h2
  exact ⟨n, by omega, rfl⟩
theorem n_below {x : Int32} {m : Nat} (h : ¬ x < 0) (h2 : ¬ Int32.ofNat m ≤ x) (hm : m < 2147483648) : ∃ n : Nat, n < m ∧ x = Int32.ofNat n := by
  obtain ⟨n, hn, rfl⟩ := n_of h
  rw [n_le hm hn] at h2
  exact ⟨n, by omega, rfl⟩
theorem upd2_at {f : St} {k i j : Nat} {v : Int32} : upd2 f k i v k j = if j = i then v else f k j := by
  simp [upd2, upd]
theorem upd2_o {f : St} {k k' i : Nat} {v : Int32} (h : k' ≠ k) : upd2 f k i v k' = f k' := upd2_n h
theorem vz0 : vz 0 := Or.inl rfl
theorem vz1 : vz 1 := Or.inr rfl
