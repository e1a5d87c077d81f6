/-! PLAIN LAYER: town, road -/
set_option maxRecDepth 100000
theorem farI_congr {R R' old : Nat → Int32} (h : rEq 36 R R') : farI R old 36 = farI R' old 36 := by
  funext k
  unfold farI far0
  by_cases hk : k < 36
  · rw [if_pos hk, if_pos hk, h k hk]
  · rw [if_neg hk, if_neg hk]
theorem farR_new {T : Nat} {R R' old : Nat → Int32} (hT : T ≤ 6) (h : rEq 36 R R') (hr : rIn 36 R' 0 50) : farR T (farX T R old) R' := by
  have h1 := far_same (T := T) (road := R) (old := old) (old' := fun _ => 0) hT (fun k hk => by rw [h k hk]; exact hr k hk)
  unfold farR
  rw [show farF T R' (fun _ => 0) = farF T R (fun _ => 0) from by unfold farF; rw [farI_congr h]]
  exact h1
section
variable {b o : Nat} {cs ad : Nat → Nat} {vs : Nat → Option Nat} {S : XS} {g : St}
theorem op_town (hI : RI S.1 g) (hM : MI g) (x : Int32) : wX0_town b cs ad vs o S x (fun r S' => wX7_town g x (fun r' g' => r = r' ∧ OK1 S g S' g')) := by
  have hO := OK1.rf hI hM
  obtain ⟨⟨a1, a2, a3, a4, a5, a6⟩, ⟨r0, r1, r2, r3, r4⟩, aA, aF, aR⟩ := hI
  obtain ⟨⟨⟨T, hT6, hT⟩, m2⟩, ⟨n1, n2, n3, n4, n5⟩, mA, mT, mD, mW, mG, mS⟩ := hM
  unfold wX0_town
  refine pX0_in ?_
  rw [l0, l_of, show (99 : Int64).toInt = 99 by decide]
  by_cases hc : 0 ≤ x.toInt ∧ x.toInt ≤ 99
  · rw [if_pos hc]
    refine w1 ?_
    have hTX : S.1 99 6 = Int32.ofNat T := a1.trans hT
    rw [hTX]
    have e6 : (Int32.ofNat T = 6) ↔ T = 6 := n_eqI (b := 6) (by omega) (by decide)
    refine ⟨fun hne => ?_, fun he => ?_⟩
    · have hT5 : T < 6 := by
        have : ¬ T = 6 := fun q => hne (e6.mpr q)
        omega
      have hin : vp_in (Int32.ofNat T) 6 := n_in hT5 (by decide)
      refine ⟨hin, fun s2 q2 => ?_⟩
      rw [n_clamp (by omega)] at q2
      subst q2
      have z2 : (upd2 S.1 0 T x, S.2).1 99 6 = Int32.ofNat T := hTX
      rw [z2]
      refine ⟨hin, fun s3 q3 => ?_⟩
      rw [n_clamp (by omega)] at q3
      have z3 : s3.1 99 6 = Int32.ofNat T := by rw [q3]; exact hTX
      rw [z3]
      refine ⟨hin, fun s4 q4 => ?_⟩
      rw [n_clamp (by omega)] at q4
      have z4 : s4.1 99 6 = Int32.ofNat T := by rw [q4, q3]; exact hTX
      rw [z4]
      refine ⟨hin, fun s5 q5 s6 q6 => ?_⟩
      rw [n_clamp (by omega)] at q5
      have z5 : s5.1 99 6 = Int32.ofNat T := by rw [q5, q4, q3]; exact hTX
      rw [z5, n_suc] at q6
      have z6 : s6.1 99 6 = Int32.ofNat (T + 1) := by rw [q6]; rfl
      refine pX0_ways z6 (by omega) ?_
      have z7 : (updR s6.1 5 (farX (T + 1) (s6.1 4) (s6.1 5)), s6.2).1 99 6 = Int32.ofNat (T + 1) := z6
      rw [z7]
      unfold wX7_town
      refine pX7_in ?_
      rw [i0, show (99 : Int32).toInt = 99 by decide, if_pos hc]
      refine w1 ⟨fun _ => ?_, fun q => absurd (hT ▸ q) hne⟩
      rw [hT]
      refine ⟨hin, fun t3 p3 => ?_⟩
      rw [n_clamp (by omega)] at p3
      have y3 : t3 99 0 = Int32.ofNat T := by rw [p3]; exact hT
      rw [y3]
      refine ⟨hin, fun t4 p4 => ?_⟩
      rw [n_clamp (by omega)] at p4
      have y4 : t4 99 0 = Int32.ofNat T := by rw [p4, p3]; exact hT
      rw [y4]
      refine ⟨hin, fun t5 p5 => ?_⟩
      rw [n_clamp (by omega)] at p5
      have y5 : t5 99 0 = Int32.ofNat T := by rw [p5, p4, p3]; exact hT
      rw [y5]
      refine ⟨hin, fun t6 p6 t7 p7 => ?_⟩
      rw [n_clamp (by omega)] at p6
      have y6 : t6 99 0 = Int32.ofNat T := by rw [p6, p5, p4, p3]; exact hT
      rw [y6, n_suc] at p7
      have y7 : t7 99 0 = Int32.ofNat (T + 1) := by rw [p7]; rfl
      rw [y7]
      subst q6 q5 q4 q3 p7 p6 p5 p4 p3
      have en : nn (Int32.ofNat (T + 1)) = T + 1 := nn_of (by omega)
      have eT : nn (g 99 0) = T := by rw [hT]; exact nn_of (by omega)
      refine ⟨rfl, ⟨⟨rfl, a2, a3, a4, a5, a6⟩, ⟨rEq_upd r0, rEq_upd r1, rEq_upd r2, rEq_upd r3, r4⟩, aA, ?_, aR⟩, ⟨⟨⟨T + 1, by omega, rfl⟩, m2⟩, ⟨rIn_upd n1 hc.1 hc.2, rIn_upd n2 (by decide) (by decide), rIn_upd n3 (by decide) (by decide), rIn_upd n4 (by decide) (by decide), ?_⟩, mA, mT, mD, mW, ?_, mS⟩, rfl, rfl, rfl, rfl, rfl, rfl, rfl, rfl⟩
      · show farR (nn (Int32.ofNat (T + 1))) (farX (T + 1) (S.1 4) (S.1 5)) (g 5)
        rw [en]
        exact farR_new (by omega) r4 n5.1
      · show roadI (nn (Int32.ofNat (T + 1))) (g 5)
        rw [en]
        rw [eT] at n5
        exact ⟨n5.1, fun a c ha hc h => n5.2 a c ha hc (by omega)⟩
      · rcases mG with d | ⟨d1, ⟨j, hj, ej⟩, d3⟩
        · exact Or.inl d
        · refine Or.inr ⟨d1, ⟨j, ?_, ej⟩, d3⟩
          rw [eT] at hj
          show j ≤ nn (Int32.ofNat (T + 1))
          rw [en]
          omega
    · unfold wX7_town
      refine pX7_in ?_
      rw [i0, show (99 : Int32).toInt = 99 by decide, if_pos hc]
      exact w1 ⟨fun q => absurd (hT.trans he) q, fun _ => ⟨rfl, hO⟩⟩
  · rw [if_neg hc]
    refine w0 ?_
    unfold wX7_town
    refine pX7_in ?_
    rw [i0, show (99 : Int32).toInt = 99 by decide, if_neg hc]
    exact w0 ⟨rfl, hO⟩
theorem roadI_upd {T k j : Nat} {R : Nat → Int32} {v : Int32} (h : roadI T R) (hk : k < T) (hj : j < T) (hT : T ≤ 6) (h1 : 0 ≤ v.toInt) (h2 : v.toInt ≤ 50) : roadI T (upd R (6 * k + j) v) := by
  refine ⟨rIn_upd h.1 h1 h2, fun a c ha hc hh => ?_⟩
  unfold upd
  rw [if_neg (by omega)]
  exact h.2 a c ha hc hh
theorem pX0_road (hI : RI S.1 g) (hM : MI g) (x y z : Int32) (Q : Int32 → XS → Prop) (hQ : ∀ r S' g', (∀ Qm : Int32 → St → Prop, Qm r g' → wX7_road g x y z Qm) → OK1 S g S' g' → Q r S') : wX0_road b cs ad vs o S x y z Q := by
  have hO := OK1.rf hI hM
  obtain ⟨⟨a1, a2, a3, a4, a5, a6⟩, ⟨r0, r1, r2, r3, r4⟩, aA, aF, aR⟩ := hI
  obtain ⟨⟨⟨T, hT6, hT⟩, m2⟩, ⟨n1, n2, n3, n4, n5⟩, mR⟩ := hM
  have hTX : S.1 99 6 = Int32.ofNat T := a1.trans hT
  unfold wX0_road
  by_cases hx : isN x T
  · obtain ⟨k, hk, rfl⟩ := hx
    refine pX0_isTown_y hTX hT6 hk (w1' ?_)
    by_cases hy : isN y T
    · obtain ⟨j, hj, rfl⟩ := hy
      refine pX0_isTown_y hTX hT6 hj (w1 ?_)
      have eq : (Int32.ofNat k = Int32.ofNat j) ↔ k = j := n_eqI (by omega) (by omega)
      refine ⟨fun he => ?_, fun hne => pX0_in ?_⟩
      · refine hQ _ _ g (fun Qm h => ?_) hO
        unfold wX7_road
        exact pX7_isTown_y hT hT6 hk (w1' (pX7_isTown_y hT hT6 hj (w1 ⟨fun _ => h, fun q => absurd he q⟩)))
      · rw [l0, l_of, show (50 : Int64).toInt = 50 by decide]
        by_cases hc : 0 ≤ z.toInt ∧ z.toInt ≤ 50
        · rw [if_pos hc]
          refine w1 ?_
          have e1 : (6 : Int32) * Int32.ofNat k + Int32.ofNat j = Int32.ofNat (6 * k + j) := n_ix
          have e2 : (6 : Int32) * Int32.ofNat j + Int32.ofNat k = Int32.ofNat (6 * j + k) := n_ix
          rw [e1, e2, n_clamp (n := 6 * k + j) (by omega), n_clamp (n := 6 * j + k) (by omega)]
          refine ⟨n_in (by omega) (by decide), fun x4 q4 => ⟨n_in (by omega) (by decide), fun s7 q7 => ⟨n_in (by omega) (by decide), fun s8 q8 => ?_⟩⟩⟩
          subst q4 q7
          have z8 : s8.1 99 6 = Int32.ofNat T := by rw [q8]; exact hTX
          refine pX0_ways z8 hT6 ?_
          refine hQ _ _ (upd2 (upd2 g 5 (6 * k + j) z) 5 (6 * j + k) z) (fun Qm h => ?_) ?_
          · unfold wX7_road
            refine pX7_isTown_y hT hT6 hk (w1' (pX7_isTown_y hT hT6 hj (w1 ⟨fun q => absurd q hne, fun _ => pX7_in ?_⟩)))
            rw [i0, show (50 : Int32).toInt = 50 by decide, if_pos hc]
            refine w1 ?_
            rw [e1, e2, n_clamp (n := 6 * k + j) (by omega), n_clamp (n := 6 * j + k) (by omega)]
            refine ⟨n_in (by omega) (by decide), fun x4 q4 => ⟨n_in (by omega) (by decide), fun t7 p7 => ⟨n_in (by omega) (by decide), fun t8 p8 => ?_⟩⟩⟩
            subst q4 p7 p8
            rw [← r4 (6 * k + j) (by omega)]
            exact h
          · subst q8
            have eT : nn (g 99 0) = T := by rw [hT]; exact nn_of (by omega)
            have hr : rEq 36 (upd (upd (S.1 4) (6 * k + j) z) (6 * j + k) z) (upd (upd (g 5) (6 * k + j) z) (6 * j + k) z) := rEq_upd (rEq_upd r4)
            have hi : roadI T (upd (upd (g 5) (6 * k + j) z) (6 * j + k) z) := roadI_upd (roadI_upd (eT ▸ n5) hk hj hT6 hc.1 hc.2) hj hk hT6 hc.1 hc.2
            have h1 : (upd2 (upd2 S.1 4 (6 * k + j) z) 4 (6 * j + k) z) 4 = upd (upd (S.1 4) (6 * k + j) z) (6 * j + k) z := by simp [upd2]
            have h2 : (upd2 (upd2 g 5 (6 * k + j) z) 5 (6 * j + k) z) 5 = upd (upd (g 5) (6 * k + j) z) (6 * j + k) z := by simp [upd2]
            refine ⟨⟨⟨a1, a2, a3, a4, a5, a6⟩, ⟨r0, r1, r2, r3, ?_⟩, aA, ?_, aR⟩, ⟨⟨⟨T, hT6, hT⟩, m2⟩, ⟨n1, n2, n3, n4, ?_⟩, mR⟩, rfl, rfl, rfl, rfl, rfl, rfl, rfl, rfl⟩
            · show rEq 36 ((upd2 (upd2 S.1 4 (6 * k + j) z) 4 (6 * j + k) z) 4) ((upd2 (upd2 g 5 (6 * k + j) z) 5 (6 * j + k) z) 5)
              rw [h1, h2]
              exact hr
            · show farR (nn (g 99 0)) (farX T ((upd2 (upd2 S.1 4 (6 * k + j) z) 4 (6 * j + k) z) 4) _) ((upd2 (upd2 g 5 (6 * k + j) z) 5 (6 * j + k) z) 5)
              rw [h1, h2, eT]
              exact farR_new hT6 hr hi.1
            · show roadI (nn (g 99 0)) ((upd2 (upd2 g 5 (6 * k + j) z) 5 (6 * j + k) z) 5)
              rw [h2, eT]
              exact hi
        · rw [if_neg hc]
          refine w0 (hQ _ _ g (fun Qm h => ?_) hO)
          unfold wX7_road
          refine pX7_isTown_y hT hT6 hk (w1' (pX7_isTown_y hT hT6 hj (w1 ⟨fun q => absurd q hne, fun _ => pX7_in ?_⟩)))
          rw [i0, show (50 : Int32).toInt = 50 by decide, if_neg hc]
          exact w0 h
    · refine pX0_isTown_n hTX hT6 hy (w0 (hQ _ _ g (fun Qm h => ?_) hO))
      unfold wX7_road
      exact pX7_isTown_y hT hT6 hk (w1' (pX7_isTown_n hT hT6 hy (w0 h)))
  · refine pX0_isTown_n hTX hT6 hx (w0' (hQ _ _ g (fun Qm h => ?_) hO))
    unfold wX7_road
    exact pX7_isTown_n hT hT6 hx (w0' h)
theorem op_road (hI : RI S.1 g) (hM : MI g) (x y z : Int32) : wX0_road b cs ad vs o S x y z (fun r S' => wX7_road g x y z (fun r' g' => r = r' ∧ OK1 S g S' g')) :=
  pX0_road hI hM x y z _ (fun r S' g' hm hO => hm _ ⟨rfl, hO⟩)
end
