/-! PLAIN LAYER: says -/
set_option maxRecDepth 100000
/-- part p of text r is l, in the reference -/
def tpart (g : St) (r p : Nat) (l : List Nat) : Prop := ∃ s : Nat, g 13 (4 * r + p) = Int32.ofNat s ∧ g 13 (4 * r + p + 1) = Int32.ofNat (s + l.length) ∧ (∀ k, (hk : k < l.length) → g 12 (200 * r + (s + k)) = Int32.ofNat l[k]) ∧ s + l.length ≤ 200 ∧ okL l 0 1
/-- texts of both sides -/
def RT (o : Nat) (cs : Nat → Nat) (S : XS) (g : St) : Prop := ∀ r, r < nn (g 99 14) → ∀ p, p < 2 → ∃ l, txR o cs S r p l ∧ tpart g r p l
theorem RT_at {o : Nat} {cs : Nat → Nat} {S : XS} {g : St} (hT : RT o cs S g) (hM : MI g) (p : Nat) (hp : p < 2) : ∃ (r : Nat) (l : List Nat), r < 6 ∧ g 99 15 = Int32.ofNat r ∧ txR o cs S r p l ∧ partL g p l := by
  obtain ⟨⟨-, -, -, -, ⟨X, hX1, hX6, hX⟩, ⟨r, hr, er⟩, -⟩, -⟩ := hM
  obtain ⟨l, h1, s, h2, h3, h4, h5, h6⟩ := hT r hr p hp
  rw [hX, nn_of (by omega)] at hr
  exact ⟨r, l, by omega, er, h1, r, s, er, by omega, h2, h3, h4, h5, h6⟩
section
variable {b o : Nat} {cs ad : Nat → Nat} {vs : Nat → Option Nat} {S : XS} {g : St}
theorem op_says (hI : RI S.1 g) (hM : MI g) (hR : RT o cs S g) (x y : Int32) : wX0_says b cs ad vs o S x y (fun r S' => wX7_says g x y (fun r' g' => r = r' ∧ OK1 S g S' g')) := by
  have hO := OK1.rf hI hM
  have hI0 := hI
  have hM0 := hM
  obtain ⟨r, l, hr6, er, htx, hpl⟩ := RT_at hR hM 0 (by decide)
  obtain ⟨⟨a1, a2, a3, a4, a5, a6⟩, ⟨r0, r1, r2, r3, r4⟩, aA, aF, aR⟩ := hI
  obtain ⟨⟨⟨T, hT6, hT⟩, -⟩, ⟨-, -, -, -, hroad⟩, -⟩ := hM
  have hTX : S.1 99 6 = Int32.ofNat T := a1.trans hT
  unfold wX0_says
  by_cases hx : isN x T
  · obtain ⟨k, hk, rfl⟩ := hx
    refine pX0_isTown_y hTX hT6 hk (w1' ?_)
    by_cases hy : isN y T
    · obtain ⟨j, hj, rfl⟩ := hy
      refine pX0_isTown_y hTX hT6 hj (w1' ?_)
      refine ⟨fun he => ?_, fun hne => ?_⟩
      · unfold wX7_says
        exact pX7_isTown_y hT hT6 hk (w1' (pX7_isTown_y hT hT6 hj (w1' ⟨fun q => absurd he q, fun _ => ⟨rfl, hO⟩⟩)))
      · have hok : okL l 0 1 := by
          obtain ⟨_, _, _, _, _, _, _, _, h7⟩ := hpl
          exact h7
        refine pX0_near (by omega) (by omega) (a4.trans er) hr6 htx hok ?_
        unfold wX7_says
        refine pX7_isTown_y hT hT6 hk (w1' (pX7_isTown_y hT hT6 hj (w1' ⟨fun _ => pX7_spreads hT hT6 (pX7_nearOf (by omega) (by omega) hpl (fun F G => ⟨?_, ?_⟩)), fun q => absurd q hne⟩)))
        · have e1 : S.1 5 (6 * k + j) = farF T (g 5) (g 39) (6 * k + j) := by
            rw [hT, nn_of (by omega)] at aF
            have h1 := (aF k j hk hj).1
            have h2 := far_same (T := T) (road := g 5) (old := fun _ => 0) (old' := g 39) hT6 hroad.1
            have h3 := far_same (T := T) (road := g 5) (old := fun _ => 0) (old' := fun _ => 0) hT6 hroad.1
            rw [h1, ← (h3 k j hk hj).1, (h2 k j hk hj).1]
          unfold nearV
          rw [e1, r0 k (by omega), r0 j (by omega), a2, updR_s]
          rfl
        · exact ⟨hI0, hM0, rfl, rfl, rfl, rfl, rfl, rfl, rfl, rfl⟩
    · refine pX0_isTown_n hTX hT6 hy (w0' ?_)
      unfold wX7_says
      exact pX7_isTown_y hT hT6 hk (w1' (pX7_isTown_n hT hT6 hy (w0' ⟨rfl, hO⟩)))
  · refine pX0_isTown_n hTX hT6 hx (w0' ?_)
    unfold wX7_says
    exact pX7_isTown_n hT hT6 hx (w0' ⟨rfl, hO⟩)
end
