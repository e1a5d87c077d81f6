/-! PLAIN LAYER: operations, one by one: both answer alike and stay related -/
set_option maxRecDepth 100000
theorem w1 {A B : Prop} (h : A) : (¬ (1 : Int32) = 0 → A) ∧ ((1 : Int32) = 0 → B) := ⟨fun _ => h, fun q => absurd q z1n⟩
theorem w1' {A B : Prop} (h : A) : ((1 : Int32) = 0 → B) ∧ (¬ (1 : Int32) = 0 → A) := ⟨fun q => absurd q z1n, fun _ => h⟩
theorem w0 {A B : Prop} (h : B) : (¬ (0 : Int32) = 0 → A) ∧ ((0 : Int32) = 0 → B) := ⟨fun q => absurd rfl q, fun _ => h⟩
theorem w0' {A B : Prop} (h : B) : ((0 : Int32) = 0 → B) ∧ (¬ (0 : Int32) = 0 → A) := ⟨fun _ => h, fun q => absurd rfl q⟩
theorem l0 : (0 : Int64).toInt = 0 := by decide
theorem i0 : (0 : Int32).toInt = 0 := by decide
theorem im1 : (-1 : Int32).toInt = -1 := by decide
theorem bN_of {x : Int32} {m : Nat} (h1 : 0 ≤ x.toInt) (h2 : x.toInt ≤ m) (hm : m < 2147483648) : bN x m := by
  have h0 : ¬ x < 0 := fun q => by have := i_lt.mp q; rw [i0] at this; omega
  obtain ⟨k, hk, rfl⟩ := n_of h0
  rw [n_toInt hk] at h2
  exact ⟨k, by omega, rfl⟩
section
variable {b o : Nat} {cs ad : Nat → Nat} {vs : Nat → Option Nat} {S : XS} {g : St}
theorem op_week (hI : RI S.1 g) (hM : MI g) (x : Int32) : wX0_week b cs ad vs o S x (fun r S' => wX7_week g x (fun r' g' => r = r' ∧ OK1 S g S' g')) := by
  unfold wX0_week
  refine pX0_in ?_
  rw [l_of, show (2 : Int64).toInt = 2 by decide, show (7 : Int64).toInt = 7 by decide]
  have hm : ∀ Q : Int32 → St → Prop, Q (if 2 ≤ x.toInt ∧ x.toInt ≤ 7 then g 99 6 else -2) (if 2 ≤ x.toInt ∧ x.toInt ≤ 7 then upd2 g 99 6 x else g) → wX7_week g x Q := by
    intro Q h
    unfold wX7_week
    refine pX7_in ?_
    rw [show (2 : Int32).toInt = 2 by decide, show (7 : Int32).toInt = 7 by decide]
    by_cases hc : 2 ≤ x.toInt ∧ x.toInt ≤ 7
    · rw [if_pos hc, if_pos hc] at h
      rw [if_pos hc]
      refine w1 (fun x2 e2 f4 e4 => ?_)
      rw [e2, e4]
      exact h
    · rw [if_neg hc, if_neg hc] at h
      rw [if_neg hc]
      exact w0 h
  by_cases hc : 2 ≤ x.toInt ∧ x.toInt ≤ 7
  · rw [if_pos hc]
    refine w1 (fun x2 e2 f3 e3 => hm _ ?_)
    rw [if_pos hc, if_pos hc, e2, e3]
    obtain ⟨⟨a1, a2, a3, a4, a5, a6⟩, aR⟩ := hI
    obtain ⟨⟨m1, m2, m3, m4, m5, m6, m7, m8⟩, mR⟩ := hM
    refine ⟨a2, ⟨⟨a1, rfl, a3, a4, a5, a6⟩, aR⟩, ⟨⟨m1, ?_, m3, m4, m5, m6, m7, m8⟩, mR⟩, rfl, rfl, rfl, rfl, rfl, rfl, rfl, rfl⟩
    obtain ⟨k, hk, rfl⟩ := bN_of (m := 7) (x := x) (by omega) (by omega) (by decide)
    rw [n_toInt (by omega)] at hc
    exact ⟨k, by omega, by omega, rfl⟩
  · rw [if_neg hc]
    refine w0 (hm _ ?_)
    rw [if_neg hc, if_neg hc]
    exact ⟨rfl, OK1.rf hI hM⟩
theorem op_townTold (hI : RI S.1 g) (hM : MI g) (x y : Int32) : wX0_townTold b cs ad vs o S x y (fun r S' => wX7_townTold g x y (fun r' g' => r = r' ∧ OK1 S g S' g')) := by
  have hO := OK1.rf hI hM
  obtain ⟨⟨a1, a2, a3, a4, a5, a6⟩, ⟨r0, r1, r2, r3, r4⟩, aR⟩ := hI
  obtain ⟨⟨⟨T, hT6, hT⟩, -⟩, -⟩ := hM
  have hTX : S.1 99 6 = Int32.ofNat T := a1.trans hT
  unfold wX0_townTold
  by_cases hx : isN x T
  · obtain ⟨k, hk, rfl⟩ := hx
    have hin : vp_in (Int32.ofNat k) 6 := n_in (by omega) (by decide)
    have hm : ∀ Q : Int32 → St → Prop, Q (if y = 0 then g 1 k else if y = 1 then g 2 k else if y = 2 then g 3 k else if y = 3 then g 4 k else -7) g → wX7_townTold g (Int32.ofNat k) y Q := by
      intro Q h
      unfold wX7_townTold
      refine pX7_isTown_y hT hT6 hk (w1 ?_)
      rw [n_clamp (by omega)]
      refine ⟨fun h0 => ⟨fun h1 => ⟨fun h2 => ⟨fun h3 => ?_, fun h3 => ⟨hin, ?_⟩⟩, fun h2 => ⟨hin, ?_⟩⟩, fun h1 => ⟨hin, ?_⟩⟩, fun h0 => ⟨hin, ?_⟩⟩ <;> simpa [*] using h
    refine pX0_isTown_y hTX hT6 hk (w1 ?_)
    rw [n_clamp (by omega)]
    refine ⟨fun h0 => ⟨hin, hm _ ?_⟩, fun h0 => ⟨fun h1 => ⟨hin, hm _ ?_⟩, fun h1 => ⟨fun h2 => ⟨hin, hm _ ?_⟩, fun h2 => ⟨fun h3 => ⟨hin, hm _ ?_⟩, fun h3 => hm _ ?_⟩⟩⟩⟩
    · rw [if_pos h0]
      exact ⟨r0 k (by omega), hO⟩
    · rw [if_neg h0, if_pos h1]
      exact ⟨r1 k (by omega), hO⟩
    · rw [if_neg h0, if_neg h1, if_pos h2]
      exact ⟨r2 k (by omega), hO⟩
    · rw [if_neg h0, if_neg h1, if_neg h2, if_pos h3]
      exact ⟨r3 k (by omega), hO⟩
    · rw [if_neg h0, if_neg h1, if_neg h2, if_neg h3]
      exact ⟨rfl, hO⟩
  · refine pX0_isTown_n hTX hT6 hx (w0 ?_)
    unfold wX7_townTold
    exact pX7_isTown_n hT hT6 hx (w0 ⟨rfl, hO⟩)
theorem op_hours (hI : RI S.1 g) (hM : MI g) (x y : Int32) : wX0_hours b cs ad vs o S x y (fun r S' => wX7_hours g x y (fun r' g' => r = r' ∧ OK1 S g S' g')) := by
  have hO := OK1.rf hI hM
  have hI0 := hI
  have hM0 := hM
  obtain ⟨⟨a1, a2, a3, a4, a5, a6⟩, ⟨r0, r1, r2, r3, r4⟩, -, aF, aR⟩ := hI
  obtain ⟨⟨⟨T, hT6, hT⟩, -⟩, ⟨-, -, -, -, hroad⟩, -⟩ := hM
  have hTX : S.1 99 6 = Int32.ofNat T := a1.trans hT
  unfold wX0_hours
  by_cases hx : isN x T
  · obtain ⟨k, hk, rfl⟩ := hx
    refine pX0_isTown_y hTX hT6 hk (w1' ?_)
    by_cases hy : isN y T
    · obtain ⟨j, hj, rfl⟩ := hy
      refine pX0_isTown_y hTX hT6 hj (w1 ?_)
      have e3 : (6 : Int32) * Int32.ofNat k + Int32.ofNat j = Int32.ofNat (6 * k + j) := n_ix
      rw [e3, n_clamp (n := 6 * k + j) (by omega)]
      refine ⟨n_in (by omega) (by decide), ?_⟩
      unfold wX7_hours
      refine pX7_isTown_y hT hT6 hk (w1' (pX7_isTown_y hT hT6 hj (w1 (pX7_spreads hT hT6 ?_))))
      rw [e3, n_clamp (n := 6 * k + j) (by omega), updR_s]
      refine ⟨n_in (by omega) (by decide), ?_, hO⟩
      rw [hT, nn_of (by omega)] at aF
      have h1 := (aF k j hk hj).1
      have h2 := far_same (T := T) (road := g 5) (old := fun _ => 0) (old' := g 39) hT6 hroad.1
      have h3 := far_same (T := T) (road := g 5) (old := fun _ => 0) (old' := fun _ => 0) hT6 hroad.1
      rw [h1, ← (h3 k j hk hj).1, (h2 k j hk hj).1]
    · refine pX0_isTown_n hTX hT6 hy (w0 ?_)
      unfold wbX0_hours_16 wX7_hours
      exact pX7_isTown_y hT hT6 hk (w1' (pX7_isTown_n hT hT6 hy (w0 ⟨rfl, hO⟩)))
  · refine pX0_isTown_n hTX hT6 hx (w0' ?_)
    unfold wbX0_hours_16 wX7_hours
    exact pX7_isTown_n hT hT6 hx (w0' ⟨rfl, hO⟩)
end
