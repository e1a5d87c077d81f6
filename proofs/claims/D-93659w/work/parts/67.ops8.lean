/-! PLAIN LAYER: feed -/
set_option maxRecDepth 100000
theorem byte_and (y : Int64) : (i_b y.toInt32 &&& 255) = (y &&& 255).toInt32 := by
  unfold i_b
  apply Int32.toBitVec_inj.mp
  apply BitVec.eq_of_getLsbD_eq
  intro i hi
  have e255 : (255 : Int32).toBitVec = 255#32 := rfl
  have e255' : (255 : Int64).toBitVec = 255#64 := rfl
  by_cases h8 : i < 8
  · have : i = 0 ∨ i = 1 ∨ i = 2 ∨ i = 3 ∨ i = 4 ∨ i = 5 ∨ i = 6 ∨ i = 7 := by omega
    rcases this with h | h | h | h | h | h | h | h <;> subst h <;> simp [e255, e255', BitVec.getElem_signExtend, BitVec.getLsbD_signExtend]
  · have ht : Nat.testBit 255 i = false := Nat.testBit_lt_two_pow (Nat.lt_of_lt_of_le (show 255 < 2 ^ 8 by decide) (Nat.pow_le_pow_right (by decide) (by omega)))
    have h1 : (255#32).getLsbD i = false := by rw [BitVec.getLsbD_ofNat, ht, Bool.and_false]
    have h2 : (255#64).getLsbD i = false := by rw [BitVec.getLsbD_ofNat, ht, Bool.and_false]
    simp [e255, e255', h1, h2]
theorem n_pred {m : Nat} (h : 0 < m) : Int32.ofNat m - 1 = Int32.ofNat (m - 1) := n_sub (b := 1) h
/-- k bytes of a row, from P on -/
def tp (P : Nat) (v : Nat → Int32) (F : Nat → Int32) (k : Nat) : Nat → Int32 := fun i => if P ≤ i ∧ i < P + k then v (i - P) else F i
theorem tp_0 {P : Nat} {v F : Nat → Int32} : tp P v F 0 = F := by
  funext i
  unfold tp
  rw [if_neg (by omega)]
theorem tp_step {P k : Nat} {v F : Nat → Int32} : upd (tp P v F k) (P + k) (v k) = tp P v F (k + 1) := by
  funext i
  unfold upd tp
  by_cases h : i = P + k
  · subst h
    rw [if_pos rfl, if_pos ⟨by omega, by omega⟩, show P + k - P = k by omega]
  · rw [if_neg h]
    by_cases h2 : P ≤ i ∧ i < P + k
    · rw [if_pos h2, if_pos ⟨h2.1, by omega⟩]
    · rw [if_neg h2, if_neg (by omega)]
def fdX (w : Int64) (n : Nat) (j : Nat) : Int32 := vp_nar .byte (i_b (Int64.toInt32 (l_shr w ((8 : Int32) * Int32.ofNat (n - 1 - j)))))
def fdM (w : Int64) (n : Nat) (j : Nat) : Int32 := Int64.toInt32 ((l_shr w ((8 : Int32) * Int32.ofNat (n - 1 - j))) &&& (255 : Int64))
def stM (g : St) (w : Int64) (n P k : Nat) : St := upd2 (updR g 10 (tp P (fdM w n) (g 10) k)) 99 11 (Int32.ofNat (P + k))
theorem m1_lt {m : Nat} (h : m < 2147483648) : Int32.ofNat m - 1 < 0 ↔ m = 0 := by
  rw [i_lt, i_dec h, i0]
  omega
theorem m1_pred {m : Nat} (h : 0 < m) : Int32.ofNat m - 1 + -1 = Int32.ofNat (m - 1) - 1 := by
  rw [n_pred h]
  exact (Int32.sub_eq_add_neg ..).symm
theorem upd2_upd2 {f : St} {r i : Nat} {v w : Int32} : upd2 (upd2 f r i v) r i w = upd2 f r i w := by
  funext a
  by_cases h : a = r
  · subst h
    simp only [upd2, if_pos]
    funext j
    unfold upd
    by_cases hj : j = i
    · rw [if_pos hj, if_pos hj]
    · rw [if_neg hj, if_neg hj, if_neg hj]
  · simp [upd2, h]
theorem upd2_x {f : St} {r r' i j : Nat} {v w : Int32} (h : r ≠ r') : upd2 (upd2 f r i v) r' j w = upd2 (upd2 f r' j w) r i v := by
  funext a
  by_cases h1 : a = r
  · subst h1
    simp [upd2, h]
  · by_cases h2 : a = r'
    · subst h2
      simp [upd2, h1]
    · simp [upd2, h1, h2]
theorem pX7_feedL {g : St} {Q : Int32 → St → Prop} {w : Int64} {n P : Nat} (hP : g 99 11 = Int32.ofNat P) (hn : n ≤ 8) (hPn : P + n ≤ 160) (h : Q (Int32.ofNat (P + n)) (stM g w n P n)) : ∃ m : Nat, wlX7_feed_33 Q m w (Int32.ofNat n - 1) g := by
  refine ilX7_feed_33 (fun x1 x4 f => ∃ k, k ≤ n ∧ x1 = w ∧ x4 = Int32.ofNat (n - k) - 1 ∧ f = stM g w n P k) (fun _ x4 _ => (x4 + 1).toNatClampNeg) ?_ _ _ _ ⟨0, by omega, rfl, rfl, ?_⟩
  · intro K x1 x4 f hI hK
    obtain ⟨k, hk, rfl, rfl, rfl⟩ := hI
    unfold wbX7_feed_33
    have ef : (stM g x1 n P k) 99 11 = Int32.ofNat (P + k) := by simp [stM, upd2, upd]
    rw [ef]
    have hz := m1_lt (m := n - k) (by omega)
    refine ⟨fun q => ?_, fun q => ?_⟩
    · have : k = n := by
        have := hz.mp q
        omega
      subst this
      exact h
    · have hkn : k < n := by
        have : ¬ n - k = 0 := fun e => q (hz.mpr e)
        omega
      refine ⟨n_in (by omega) (by decide), fun f4 e4 f5 e5 x e => ?_⟩
      rw [n_clamp (by omega), n_pred (by omega), show n - k - 1 = n - 1 - k by omega] at e4
      have e5' : f5 = stM g x1 n P (k + 1) := by
        rw [e5]
        have ef4 : f4 99 11 = Int32.ofNat (P + k) := by rw [e4]; exact ef
        rw [ef4, n_suc, e4]
        show upd2 (upd2 (stM g x1 n P k) 10 (P + k) (fdM x1 n k)) 99 11 (Int32.ofNat (P + k + 1)) = _
        unfold stM
        rw [upd2_x (by decide), upd2_upd2, upd2_x (by decide), updR_upd2', tp_step]
        rfl
      subst e
      rw [m1_pred (by omega), e5', show n - k - 1 = n - (k + 1) by omega]
      refine hK _ _ _ ⟨k + 1, by omega, rfl, rfl, rfl⟩ ?_
      show (Int32.ofNat (n - (k + 1)) - 1 + 1).toNatClampNeg < (Int32.ofNat (n - k) - 1 + 1).toNatClampNeg
      rw [Int32.sub_add_cancel, Int32.sub_add_cancel, n_clamp (by omega), n_clamp (by omega)]
      omega
  · unfold stM
    rw [tp_0, updR_self, Nat.add_zero, ← hP]
    funext a
    by_cases ha : a = 99
    · subst ha
      simp only [upd2, if_pos]
      funext j
      unfold upd
      by_cases hj : j = 11
      · rw [if_pos hj, hj]
      · rw [if_neg hj]
    · simp [upd2, ha]
