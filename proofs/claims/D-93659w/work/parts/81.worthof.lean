/-! PLAIN LAYER: worthOf -/
set_option maxRecDepth 100000
section
variable {b o : Nat} {cs ad : Nat → Nat} {vs : Nat → Option Nat} {S : XS} {g : St}
theorem pX0_isDay {Q : Int32 → XS → Prop} {x : Int32} {w : Nat} (hw : S.1 99 7 = Int32.ofNat w) (hw7 : w ≤ 7) (h : Q (if 0 ≤ x.toInt ∧ x.toInt ≤ (w : Int) - 1 then 1 else 0) S) : wX0_isDay b cs ad vs o S x Q := by
  unfold wX0_isDay
  refine pX0_in ?_
  rw [hw, l_of, l_of, i_dec (by omega), l0]
  by_cases hc : 0 ≤ x.toInt ∧ x.toInt ≤ (w : Int) - 1
  · rw [if_pos hc] at h ⊢
    exact ⟨vz1, h⟩
  · rw [if_neg hc] at h ⊢
    exact ⟨vz0, h⟩
theorem op_worthOf (hI : RI S.1 g) (hM : MI g) (hR : RT o cs S g) (x d hrs oth : Int32) : wX0_worthOf b cs ad vs o S x d hrs oth (fun r S' => wX7_worthOf g x d hrs oth (fun r' g' => r = r' ∧ OK1 S g S' g')) := by
  have hO := OK1.rf hI hM
  have hI0 := hI
  have hM0 := hM
  obtain ⟨r, l, hr6, er, htx, hpl⟩ := RT_at hR hM 1 (by decide)
  obtain ⟨⟨a1, a2, a3, a4, a5, a6⟩, ⟨r0, r1, r2, r3, r4⟩, aA, aF, aR⟩ := hI
  obtain ⟨⟨⟨T, hT6, hT⟩, ⟨w, hw2, hw7, hw⟩, -⟩, -⟩ := hM
  have hTX : S.1 99 6 = Int32.ofNat T := a1.trans hT
  have hWX : S.1 99 7 = Int32.ofNat w := a2.trans hw
  -- the reference
  have mm : ∀ Q : Int64 → St → Prop, ∀ k, k < T → ((0 ≤ d.toInt ∧ d.toInt ≤ (w : Int) - 1) ∧ (0 ≤ hrs.toInt ∧ hrs.toInt ≤ 99) ∧ (0 ≤ oth.toInt ∧ oth.toInt ≤ 6) → wX7_worthBy g (Int32.ofNat k) d hrs oth (fun r f => Q (Int32.toInt64 r) f)) → (¬ ((0 ≤ d.toInt ∧ d.toInt ≤ (w : Int) - 1) ∧ (0 ≤ hrs.toInt ∧ hrs.toInt ≤ 99) ∧ (0 ≤ oth.toInt ∧ oth.toInt ≤ 6)) → Q (-4611686018427387904) g) → wX7_worthOf g (Int32.ofNat k) d hrs oth Q := by
    intro Q k hk hy hn
    unfold wX7_worthOf
    refine pX7_isTown_y hT hT6 hk (w1' (pX7_in ?_))
    rw [hw, i_dec (by omega), i0]
    by_cases h1 : 0 ≤ d.toInt ∧ d.toInt ≤ (w : Int) - 1
    · rw [if_pos h1]
      refine w1' (pX7_in ?_)
      rw [i0, show (99 : Int32).toInt = 99 by decide]
      by_cases h2 : 0 ≤ hrs.toInt ∧ hrs.toInt ≤ 99
      · rw [if_pos h2]
        refine w1' (pX7_in ?_)
        rw [i0, show (6 : Int32).toInt = 6 by decide]
        by_cases h3 : 0 ≤ oth.toInt ∧ oth.toInt ≤ 6
        · rw [if_pos h3]
          exact w1' (hy ⟨h1, h2, h3⟩)
        · rw [if_neg h3]
          exact w0' (hn (fun q => h3 q.2.2))
      · rw [if_neg h2]
        exact w0' (hn (fun q => h2 q.2.1))
    · rw [if_neg h1]
      exact w0' (hn (fun q => h1 q.1))
  unfold wX0_worthOf
  by_cases hx : isN x T
  · obtain ⟨k, hk, rfl⟩ := hx
    refine pX0_isTown_y hTX hT6 hk (w1' (pX0_isDay hWX hw7 ?_))
    by_cases h1 : 0 ≤ d.toInt ∧ d.toInt ≤ (w : Int) - 1
    · rw [if_pos h1]
      refine w1' (pX0_in ?_)
      rw [l0, l_of, show (99 : Int64).toInt = 99 by decide]
      by_cases h2 : 0 ≤ hrs.toInt ∧ hrs.toInt ≤ 99
      · rw [if_pos h2]
        refine w1' (pX0_in ?_)
        rw [l0, l_of, show (6 : Int64).toInt = 6 by decide]
        by_cases h3 : 0 ≤ oth.toInt ∧ oth.toInt ≤ 6
        · rw [if_pos h3]
          have hok : okL l 0 1 := by
            obtain ⟨_, _, _, _, _, _, _, _, h7⟩ := hpl
            exact h7
          refine w1' (pX0_saysWorth (by omega) (a4.trans er) hr6 htx hok (mm _ k hk (fun _ => pX7_worthBy (by omega) hpl (fun F G => ⟨?_, ?_⟩)) (fun q => absurd ⟨h1, h2, h3⟩ q)))
          · unfold worthV
            rw [r0 k (by omega), r2 k (by omega), a2]
          · exact ⟨hI0, hM0, rfl, rfl, rfl, rfl, rfl, rfl, rfl, rfl⟩
        · rw [if_neg h3]
          exact w0' (mm _ k hk (fun q => absurd q.2.2 h3) (fun _ => ⟨rfl, hO⟩))
      · rw [if_neg h2]
        exact w0' (mm _ k hk (fun q => absurd q.2.1 h2) (fun _ => ⟨rfl, hO⟩))
    · rw [if_neg h1]
      exact w0' (mm _ k hk (fun q => absurd q.1 h1) (fun _ => ⟨rfl, hO⟩))
  · refine pX0_isTown_n hTX hT6 hx (w0' ?_)
    unfold wX7_worthOf
    exact pX7_isTown_n hT hT6 hx (w0' ⟨rfl, hO⟩)
end
