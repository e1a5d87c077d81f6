/-! PLAIN LAYER: feed, both sides -/
set_option maxRecDepth 100000
def stX (S : XS) (w : Int64) (n P k : Nat) : XS := (upd2 (updR S.1 40 (tp P (fdX w n) (S.1 40) k)) 99 41 (Int32.ofNat (P + k)), S.2)
section
variable {b o : Nat} {cs ad : Nat → Nat} {vs : Nat → Option Nat} {S : XS} {g : St}
theorem pX0_feedL {Q : Int32 → XS → Prop} {w : Int64} {n P : Nat} (hP : S.1 99 41 = Int32.ofNat P) (hn : n ≤ 8) (hPn : P + n ≤ 160) (h : Q (Int32.ofNat (P + n)) (stX S w n P n)) : ∃ m : Nat, wlX0_feed_35 b cs ad vs o Q m w (Int32.ofNat n - 1) S := by
  refine ilX0_feed_35 (fun x1 x4 f => ∃ k, k ≤ n ∧ x1 = w ∧ x4 = Int32.ofNat (n - k) - 1 ∧ f = stX S w n P k) (fun _ x4 _ => (x4 + 1).toNatClampNeg) ?_ _ _ _ ⟨0, by omega, rfl, rfl, ?_⟩
  · intro K x1 x4 f hI hK
    obtain ⟨k, hk, rfl, rfl, rfl⟩ := hI
    unfold wbX0_feed_35
    have ef : (stX S x1 n P k).1 99 41 = Int32.ofNat (P + k) := by simp [stX, upd2, upd]
    rw [ef]
    have hz := m1_lt (m := n - k) (by omega)
    refine ⟨fun q => ?_, fun q => ?_⟩
    · have : k = n := by
        have := hz.mp q
        omega
      subst this
      exact h
    · have hkn : k < n := by
        have : ¬ n - k = 0 := fun e => q (hz.mpr e)
        omega
      refine ⟨n_in (by omega) (by decide), fun f4 e4 f5 e5 x e => ?_⟩
      rw [n_clamp (by omega), n_pred (by omega), show n - k - 1 = n - 1 - k by omega] at e4
      have e5' : f5 = stX S x1 n P (k + 1) := by
        rw [e5]
        have ef4 : f4.1 99 41 = Int32.ofNat (P + k) := by rw [e4]; exact ef
        rw [ef4, n_suc, e4]
        show (upd2 (upd2 (stX S x1 n P k).1 40 (P + k) (fdX x1 n k)) 99 41 (Int32.ofNat (P + k + 1)), S.2) = _
        unfold stX
        rw [upd2_x (by decide), upd2_upd2, upd2_x (by decide), updR_upd2', tp_step]
        rfl
      subst e
      rw [m1_pred (by omega), e5', show n - k - 1 = n - (k + 1) by omega]
      refine hK _ _ _ ⟨k + 1, by omega, rfl, rfl, rfl⟩ ?_
      show (Int32.ofNat (n - (k + 1)) - 1 + 1).toNatClampNeg < (Int32.ofNat (n - k) - 1 + 1).toNatClampNeg
      rw [Int32.sub_add_cancel, Int32.sub_add_cancel, n_clamp (by omega), n_clamp (by omega)]
      omega
  · unfold stX
    rw [tp_0, updR_self, Nat.add_zero, ← hP]
    refine Prod.ext (funext fun a => ?_) rfl
    show S.1 a = upd2 S.1 99 41 (S.1 99 41) a
    by_cases ha : a = 99
    · subst ha
      simp only [upd2, if_pos]
      funext j
      unfold upd
      by_cases hj : j = 41
      · rw [if_pos hj, hj]
      · rw [if_neg hj]
    · simp [upd2, ha]
theorem fd_and {w : Int64} {n j : Nat} : (fdX w n j &&& 255) = fdM w n j := by
  unfold fdX fdM
  rw [vb_vp]
  exact byte_and _
theorem fd_rng {w : Int64} {n j : Nat} : 0 ≤ (fdM w n j).toInt ∧ (fdM w n j).toInt ≤ 255 := by
  rw [← fd_and]
  have h : ∀ x : Int32, (x &&& 255).toBitVec.toNat ≤ 255 := fun x => by
    rw [Int32.toBitVec_and, BitVec.toNat_and]
    exact Nat.and_le_right
  have h2 := h (fdX w n j)
  have e : (fdX w n j &&& 255) = Int32.ofNat (fdX w n j &&& 255).toBitVec.toNat := by
    rw [Int32.ofNat_bitVecToNat]
    rfl
  rw [e, n_toInt (by omega)]
  omega
theorem op_feed (hI : RI S.1 g) (hM : MI g) (w : Int64) (x : Int32) : wX0_feed b cs ad vs o S w x (fun r S' => wX7_feed g w x (fun r' g' => r = r' ∧ OK1 S g S' g')) := by
  have hO := OK1.rf hI hM
  obtain ⟨⟨a1, a2, a3, a4, a5, a6⟩, aA, aB, aF, aT, aR⟩ := hI
  obtain ⟨⟨m1, m2, m3, ⟨P, hP160, hP⟩, m5⟩, mA, mB, mT, mR⟩ := hM
  have hPX : S.1 99 41 = Int32.ofNat P := a6.trans hP
  unfold wX0_feed
  refine pX0_in ?_
  rw [l_of, show (1 : Int64).toInt = 1 by decide, show (8 : Int64).toInt = 8 by decide]
  by_cases hc : 1 ≤ x.toInt ∧ x.toInt ≤ 8
  · rw [if_pos hc]
    have hc0 := hc
    obtain ⟨n, hn, rfl⟩ := bN_of (m := 8) (x := x) (by omega) (by omega) (by decide)
    rw [n_toInt (by omega)] at hc
    refine w1 ?_
    rw [hPX, n_add]
    have c160 : (Int32.ofNat (P + n) ≤ 160) ↔ P + n ≤ 160 := n_leI (b := 160) (by omega) (by decide)
    refine ⟨fun hle x4 e4 => ?_, fun hle => ?_⟩
    · have hle' := c160.mp hle
      subst e4
      refine pX0_feedL hPX hn hle' ?_
      unfold wX7_feed
      refine pX7_in ?_
      rw [show (1 : Int32).toInt = 1 by decide, show (8 : Int32).toInt = 8 by decide, if_pos hc0]
      refine w1 ?_
      rw [hP, n_add]
      refine ⟨fun _ x4 e4 => ?_, fun q => absurd hle q⟩
      subst e4
      refine pX7_feedL hP hn hle' ?_
      have eP : nn (g 99 11) = P := by rw [hP]; exact nn_of (by omega)
      rw [eP] at aT mT
      have en : nn (Int32.ofNat (P + n)) = P + n := nn_of (by omega)
      refine ⟨rfl, ⟨⟨a1, a2, a3, a4, a5, rfl⟩, aA, aB, aF, ?_, aR⟩, ⟨⟨m1, m2, m3, ⟨P + n, hle', rfl⟩, m5⟩, mA, mB, ?_, mR⟩, rfl, rfl, rfl, rfl, rfl, rfl, rfl, rfl⟩
      · show tapeR (nn (Int32.ofNat (P + n))) (tp P (fdX w n) (S.1 40) n) (tp P (fdM w n) (g 10) n)
        rw [en]
        intro i hi
        unfold tp
        by_cases h : P ≤ i ∧ i < P + n
        · rw [if_pos h, if_pos h]
          exact fd_and
        · rw [if_neg h, if_neg h]
          exact aT i (by omega)
      · show rIn (nn (Int32.ofNat (P + n))) (tp P (fdM w n) (g 10) n) 0 255
        rw [en]
        intro i hi
        unfold tp
        by_cases h : P ≤ i ∧ i < P + n
        · rw [if_pos h]
          exact fd_rng
        · rw [if_neg h]
          exact mT i (by omega)
    · unfold wX7_feed
      refine pX7_in ?_
      rw [show (1 : Int32).toInt = 1 by decide, show (8 : Int32).toInt = 8 by decide, if_pos hc0]
      refine w1 ?_
      rw [hP, n_add]
      exact ⟨fun q => absurd q hle, fun _ => ⟨rfl, hO⟩⟩
  · rw [if_neg hc]
    refine w0 ?_
    unfold wX7_feed
    refine pX7_in ?_
    rw [show (1 : Int32).toInt = 1 by decide, show (8 : Int32).toInt = 8 by decide, if_neg hc]
    exact w0 ⟨rfl, hO⟩
end
