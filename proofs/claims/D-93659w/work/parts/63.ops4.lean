/-! PLAIN LAYER: want -/
set_option maxRecDepth 100000
section
variable {b o : Nat} {cs ad : Nat → Nat} {vs : Nat → Option Nat} {S : XS} {g : St}
theorem op_want (hI : RI S.1 g) (hM : MI g) (x y z : Int32) : wX0_want b cs ad vs o S x y z (fun r S' => wX7_want g x y z (fun r' g' => r = r' ∧ OK1 S g S' g')) := by
  have hO := OK1.rf hI hM
  obtain ⟨⟨a1, a2, a3, a4, a5, a6⟩, ⟨r0, r1, r2, r3, r4⟩, aR⟩ := hI
  obtain ⟨⟨⟨T, hT6, hT⟩, m2⟩, ⟨n1, n2, n3, n4, n5⟩, mR⟩ := hM
  have hTX : S.1 99 6 = Int32.ofNat T := a1.trans hT
  unfold wX0_want
  by_cases hx : isN x T
  · obtain ⟨k, hk, rfl⟩ := hx
    have hin : vp_in (Int32.ofNat k) 6 := n_in (by omega) (by decide)
    refine pX0_isTown_y hTX hT6 hk (w1 (pX0_in ?_))
    rw [l0, l_of, show (2 : Int64).toInt = 2 by decide]
    have hTd : (Int32.toInt64 (S.1 99 6) - 1).toInt = (T : Int) - 1 := by rw [hTX]; exact l_dec (by omega)
    -- the reference's answer when the wish is bad
    have hbad : ∀ Q : Int32 → St → Prop, (¬ y = 0 ∨ ¬ (0 ≤ z.toInt ∧ z.toInt ≤ 127)) → (¬ y = 1 ∨ ¬ (-1 ≤ z.toInt ∧ z.toInt ≤ 6)) → (¬ y = 2 ∨ z = Int32.ofNat k ∨ ¬ (-1 ≤ z.toInt ∧ z.toInt ≤ (T : Int) - 1)) → Q (-7) g → wX7_want g (Int32.ofNat k) y z Q := by
      intro Q h0 h1 h2 h
      unfold wX7_want
      refine pX7_isTown_y hT hT6 hk (w1 ?_)
      have hb : wbX7_want_69 Q (Int32.ofNat k) y z 0 g := by
        unfold wbX7_want_69
        exact w0 h
      refine ⟨fun y0 => ⟨fun y1 => ⟨fun y2 => hb, fun y2 => ⟨fun _ => hb, fun hz => pX7_in ?_⟩⟩, fun y1 => pX7_in ?_⟩, fun y0 => pX7_in ?_⟩
      · rw [im1, hT, i_dec (by omega)]
        have : ¬ (-1 ≤ z.toInt ∧ z.toInt ≤ (T : Int) - 1) := by
          rcases h2 with q | q | q
          · exact absurd y2 q
          · exact absurd q hz
          · exact q
        rw [if_neg this]
        exact w0' hb
      · rw [im1, show (6 : Int32).toInt = 6 by decide]
        have : ¬ (-1 ≤ z.toInt ∧ z.toInt ≤ 6) := by
          rcases h1 with q | q
          · exact absurd y1 q
          · exact q
        rw [if_neg this]
        exact hb
      · rw [i0, show (127 : Int32).toInt = 127 by decide]
        have : ¬ (0 ≤ z.toInt ∧ z.toInt ≤ 127) := by
          rcases h0 with q | q
          · exact absurd y0 q
          · exact q
        rw [if_neg this]
        exact hb
    have y01 : ¬ (0 : Int32) = 1 := by decide
    have y02 : ¬ (0 : Int32) = 2 := by decide
    have y12 : ¬ (1 : Int32) = 2 := by decide
    have y10 : ¬ (1 : Int32) = 0 := by decide
    have y20 : ¬ (2 : Int32) = 0 := by decide
    have y21 : ¬ (2 : Int32) = 1 := by decide
    by_cases hy0 : y = 0
    · subst hy0
      rw [if_pos (show (0 : Int) ≤ (0 : Int32).toInt ∧ (0 : Int32).toInt ≤ 2 by decide)]
      refine w1' ⟨fun q => absurd rfl q, fun _ => ?_⟩
      unfold wbX0_want_36
      refine ⟨fun q => absurd rfl q, fun _ => ?_⟩
      unfold wbX0_want_64
      refine pX0_in ?_
      rw [l0, l_of, show (127 : Int64).toInt = 127 by decide]
      by_cases hc : 0 ≤ z.toInt ∧ z.toInt ≤ 127
      · rw [if_pos hc]
        refine w1' ⟨fun _ => ?_, fun q => absurd q y02⟩
        unfold wbX0_want_83
        refine ⟨fun q => absurd rfl q, fun _ => ⟨hin, ?_⟩⟩
        unfold wbX0_want_116
        refine ⟨fun q => absurd rfl q, fun _ => ⟨hin, fun s7 q7 => ?_⟩⟩
        rw [n_clamp (by omega)] at q7 ⊢
        subst q7
        unfold wX7_want
        refine pX7_isTown_y hT hT6 hk (w1 ⟨fun q => absurd rfl q, fun _ => pX7_in ?_⟩)
        rw [i0, show (127 : Int32).toInt = 127 by decide, if_pos hc]
        unfold wbX7_want_69
        refine w1 ⟨fun q => absurd rfl q, fun _ => ⟨hin, ?_⟩⟩
        unfold wbX7_want_112
        refine ⟨fun q => absurd rfl q, fun _ => ⟨hin, fun t5 p5 => ?_⟩⟩
        rw [n_clamp (by omega)] at p5 ⊢
        subst p5
        exact ⟨r1 k (by omega), ⟨⟨a1, a2, a3, a4, a5, a6⟩, ⟨r0, rEq_upd r1, r2, r3, r4⟩, aR⟩, ⟨⟨⟨T, hT6, hT⟩, m2⟩, ⟨n1, rIn_upd n2 hc.1 hc.2, n3, n4, n5⟩, mR⟩, rfl, rfl, rfl, rfl, rfl, rfl, rfl, rfl⟩
      · rw [if_neg hc]
        exact w0' (hbad _ (Or.inr hc) (Or.inl y01) (Or.inl y02) ⟨rfl, hO⟩)
    · by_cases hy1 : y = 1
      · subst hy1
        rw [if_pos (show (0 : Int) ≤ (1 : Int32).toInt ∧ (1 : Int32).toInt ≤ 2 by decide)]
        refine w1' ⟨fun _ => ?_, fun q => absurd q y10⟩
        unfold wbX0_want_36
        refine ⟨fun _ => ⟨fun q => absurd rfl q, fun _ => ?_⟩, fun q => absurd q y10⟩
        unfold wbX0_want_64
        refine pX0_in ?_
        rw [l_of, show (6 : Int64).toInt = 6 by decide, show (-1 : Int64).toInt = -1 by decide]
        by_cases hc : -1 ≤ z.toInt ∧ z.toInt ≤ 6
        · rw [if_pos hc]
          refine w1' ⟨fun _ => ?_, fun q => absurd q y12⟩
          unfold wbX0_want_83
          refine ⟨fun _ => ⟨fun q => absurd rfl q, fun _ => ⟨hin, ?_⟩⟩, fun q => absurd q y10⟩
          unfold wbX0_want_116
          refine ⟨fun _ => ⟨fun q => absurd rfl q, fun _ => ⟨hin, fun s7 q7 => ?_⟩⟩, fun q => absurd q y10⟩
          rw [n_clamp (by omega)] at q7 ⊢
          subst q7
          unfold wX7_want
          refine pX7_isTown_y hT hT6 hk (w1 ⟨fun _ => ⟨fun q => absurd rfl q, fun _ => pX7_in ?_⟩, fun q => absurd q y10⟩)
          rw [im1, show (6 : Int32).toInt = 6 by decide, if_pos hc]
          unfold wbX7_want_69
          refine w1 ⟨fun _ => ⟨fun q => absurd rfl q, fun _ => ⟨hin, ?_⟩⟩, fun q => absurd q y10⟩
          unfold wbX7_want_112
          refine ⟨fun _ => ⟨fun q => absurd rfl q, fun _ => ⟨hin, fun t5 p5 => ?_⟩⟩, fun q => absurd q y10⟩
          rw [n_clamp (by omega)] at p5 ⊢
          subst p5
          exact ⟨r2 k (by omega), ⟨⟨a1, a2, a3, a4, a5, a6⟩, ⟨r0, r1, rEq_upd r2, r3, r4⟩, aR⟩, ⟨⟨⟨T, hT6, hT⟩, m2⟩, ⟨n1, n2, rIn_upd n3 hc.1 hc.2, n4, n5⟩, mR⟩, rfl, rfl, rfl, rfl, rfl, rfl, rfl, rfl⟩
        · rw [if_neg hc]
          exact w0' (hbad _ (Or.inl y10) (Or.inr hc) (Or.inl y12) ⟨rfl, hO⟩)
      · by_cases hy2 : y = 2
        · subst hy2
          rw [if_pos (show (0 : Int) ≤ (2 : Int32).toInt ∧ (2 : Int32).toInt ≤ 2 by decide)]
          refine w1' ⟨fun _ => ?_, fun q => absurd q y20⟩
          unfold wbX0_want_36
          refine ⟨fun _ => ⟨fun _ => ?_, fun q => absurd q y21⟩, fun q => absurd q y20⟩
          unfold wbX0_want_64
          refine pX0_in ?_
          rw [hTd, l_of, show (-1 : Int64).toInt = -1 by decide]
          by_cases hc : -1 ≤ z.toInt ∧ z.toInt ≤ (T : Int) - 1
          · rw [if_pos hc]
            refine w1' ⟨fun q => absurd rfl q, fun _ => ⟨fun hz => ?_, fun hz => ?_⟩⟩
            · unfold wbX0_want_83
              refine ⟨fun _ => ⟨fun _ => ⟨hin, ?_⟩, fun q => absurd q y21⟩, fun q => absurd q y20⟩
              unfold wbX0_want_116
              refine ⟨fun _ => ⟨fun _ => ⟨hin, fun s7 q7 => ?_⟩, fun q => absurd q y21⟩, fun q => absurd q y20⟩
              rw [n_clamp (by omega)] at q7 ⊢
              subst q7
              unfold wX7_want
              refine pX7_isTown_y hT hT6 hk (w1 ⟨fun _ => ⟨fun _ => ⟨fun q => absurd rfl q, fun _ => ⟨fun q => absurd q hz, fun _ => pX7_in ?_⟩⟩, fun q => absurd q y21⟩, fun q => absurd q y20⟩)
              rw [im1, hT, i_dec (by omega), if_pos hc]
              refine w1' ?_
              unfold wbX7_want_69
              refine w1 ⟨fun _ => ⟨fun _ => ⟨hin, ?_⟩, fun q => absurd q y21⟩, fun q => absurd q y20⟩
              unfold wbX7_want_112
              refine ⟨fun _ => ⟨fun _ => ⟨hin, fun t5 p5 => ?_⟩, fun q => absurd q y21⟩, fun q => absurd q y20⟩
              rw [n_clamp (by omega)] at p5 ⊢
              subst p5
              exact ⟨r3 k (by omega), ⟨⟨a1, a2, a3, a4, a5, a6⟩, ⟨r0, r1, r2, rEq_upd r3, r4⟩, aR⟩, ⟨⟨⟨T, hT6, hT⟩, m2⟩, ⟨n1, n2, n3, rIn_upd n4 hc.1 (by omega), n5⟩, mR⟩, rfl, rfl, rfl, rfl, rfl, rfl, rfl, rfl⟩
            · exact hbad _ (Or.inl y20) (Or.inl y21) (Or.inr (Or.inl hz)) ⟨rfl, hO⟩
          · rw [if_neg hc]
            exact w0' (hbad _ (Or.inl y20) (Or.inl y21) (Or.inr (Or.inr hc)) ⟨rfl, hO⟩)
        · have : ¬ (0 ≤ y.toInt ∧ y.toInt ≤ 2) := by
            intro hq
            obtain ⟨k, hk, rfl⟩ := bN_of (m := 2) (x := y) hq.1 hq.2 (by decide)
            have : k = 0 ∨ k = 1 ∨ k = 2 := by omega
            rcases this with h | h | h <;> subst h
            · exact hy0 rfl
            · exact hy1 rfl
            · exact hy2 rfl
          rw [if_neg this]
          exact w0' (hbad _ (Or.inl hy0) (Or.inl hy1) (Or.inl hy2) ⟨rfl, hO⟩)
  · refine pX0_isTown_n hTX hT6 hx (w0 ?_)
    unfold wX7_want
    exact pX7_isTown_n hT hT6 hx (w0 ⟨rfl, hO⟩)
end
