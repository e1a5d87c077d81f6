/-! PLAIN LAYER: force, roundTold, foundDay, feast -/
set_option maxRecDepth 100000
theorem i_inc {n : Nat} : Int32.ofNat n + 1 = Int32.ofNat (n + 1) := n_suc
theorem l_dec {n : Nat} (h : n < 2147483648) : (Int32.toInt64 (Int32.ofNat n) - 1).toInt = (n : Int) - 1 := by
  rw [Int64.toInt_sub, l_of, n_toInt h, show (1 : Int64).toInt = 1 by decide]
  exact Int.bmod_eq_of_le (by omega) (by omega)
section
variable {b o : Nat} {cs ad : Nat → Nat} {vs : Nat → Option Nat} {S : XS} {g : St}
theorem op_force (hI : RI S.1 g) (hM : MI g) (x : Int32) : wX0_force b cs ad vs o S x (fun r S' => wX7_force g x (fun r' g' => r = r' ∧ OK1 S g S' g')) := by
  have hO := OK1.rf hI hM
  obtain ⟨⟨a1, a2, a3, a4, a5, a6⟩, aR⟩ := hI
  obtain ⟨⟨m1, m2, m3, m4, ⟨X, hX1, hX6, hX⟩, m6, m7, m8⟩, mR⟩ := hM
  unfold wX0_force
  refine pX0_in ?_
  rw [a5, hX, l_dec (by omega), l_of, l0]
  have hm : ∀ Q : Int32 → St → Prop, Q (if 0 ≤ x.toInt ∧ x.toInt ≤ (X : Int) - 1 then g 99 15 else -2) (if 0 ≤ x.toInt ∧ x.toInt ≤ (X : Int) - 1 then upd2 g 99 15 x else g) → wX7_force g x Q := by
    intro Q h
    unfold wX7_force
    refine pX7_in ?_
    rw [hX, i_dec (by omega), i0]
    by_cases hc : 0 ≤ x.toInt ∧ x.toInt ≤ (X : Int) - 1
    · rw [if_pos hc, if_pos hc] at h
      rw [if_pos hc]
      refine w1 (fun x2 e2 f4 e4 => ?_)
      rw [e2, e4]
      exact h
    · rw [if_neg hc, if_neg hc] at h
      rw [if_neg hc]
      exact w0 h
  by_cases hc : 0 ≤ x.toInt ∧ x.toInt ≤ (X : Int) - 1
  · rw [if_pos hc]
    refine w1 (fun x2 e2 f3 e3 => hm _ ?_)
    rw [if_pos hc, if_pos hc, e2, e3]
    obtain ⟨k, hk, rfl⟩ := (isN_of (by omega)).mp hc
    refine ⟨a4, ⟨⟨a1, a2, a3, rfl, a5, a6⟩, aR⟩, ⟨⟨m1, m2, m3, m4, ⟨X, hX1, hX6, hX⟩, ⟨k, ?_, rfl⟩, m7, m8⟩, mR⟩, rfl, rfl, rfl, rfl, rfl, rfl, rfl, rfl⟩
    show k < nn (g 99 14)
    rw [hX, nn_of (by omega)]
    exact hk
  · rw [if_neg hc]
    refine w0 (hm _ ?_)
    rw [if_neg hc, if_neg hc]
    exact ⟨rfl, hO⟩
theorem op_roundTold (hI : RI S.1 g) (hM : MI g) (x : Int32) : wX0_roundTold b cs ad vs o S x (fun r S' => wX7_roundTold g x (fun r' g' => r = r' ∧ OK1 S g S' g')) := by
  have hO := OK1.rf hI hM
  obtain ⟨-, -, -, -, -, -, ⟨a1, a2⟩, -⟩ := hI
  obtain ⟨⟨-, -, -, -, -, -, -, ⟨D, hD7, hD⟩⟩, -⟩ := hM
  unfold wX0_roundTold
  refine pX0_in ?_
  rw [a1, hD, l_of, l_of, i_dec (by omega), l0]
  by_cases hc : 0 ≤ x.toInt ∧ x.toInt ≤ (D : Int) - 1
  · rw [if_pos hc]
    have hc0 := hc
    obtain ⟨k, hk, rfl⟩ := (isN_of (by omega)).mp hc
    refine w1' ?_
    rw [n_clamp (by omega)]
    refine ⟨n_in (by omega) (by decide), ?_⟩
    unfold wX7_roundTold
    refine pX7_in ?_
    rw [hD, i_dec (by omega), i0, if_pos hc0]
    refine w1' ?_
    rw [n_clamp (by omega)]
    refine ⟨n_in (by omega) (by decide), a2 k ?_, hO⟩
    rw [hD, nn_of (by omega)]
    exact hk
  · rw [if_neg hc]
    refine w0' ?_
    unfold wX7_roundTold
    refine pX7_in ?_
    rw [hD, i_dec (by omega), i0, if_neg hc]
    exact w0' ⟨rfl, hO⟩
theorem op_foundDay (hI : RI S.1 g) (hM : MI g) (x : Int32) : wX0_foundDay b cs ad vs o S x (fun r S' => wX7_foundDay g x (fun r' g' => r = r' ∧ OK1 S g S' g')) := by
  have hO := OK1.rf hI hM
  obtain ⟨-, -, -, -, -, ⟨a1, a2⟩, -⟩ := hI
  obtain ⟨-, -, -, -, ⟨hz, ⟨D, hD7, hD⟩, -⟩, -⟩ := hM
  unfold wX0_foundDay wX7_foundDay wbX0_foundDay_23
  rw [a1]
  rcases hz with hz | hz
  · rw [hz]
    exact w0' (w0' ⟨rfl, hO⟩)
  · rw [hz]
    obtain ⟨e1, e2⟩ := a2 hz
    refine w1' (pX0_in ?_)
    rw [e1, hD, l_of, l_of, i_dec (by omega), l0]
    by_cases hc : 0 ≤ x.toInt ∧ x.toInt ≤ (D : Int) - 1
    · rw [if_pos hc]
      have hc0 := hc
      obtain ⟨k, hk, rfl⟩ := (isN_of (by omega)).mp hc
      refine w1 ?_
      rw [n_clamp (by omega)]
      refine ⟨n_in (by omega) (by decide), w1' (pX7_in ?_)⟩
      rw [i_dec (by omega), i0, if_pos hc0]
      refine w1' ?_
      refine ⟨n_in (by omega) (by decide), e2 k ?_, hO⟩
      rw [hD, nn_of (by omega)]
      exact hk
    · rw [if_neg hc]
      refine w0 (w1' (pX7_in ?_))
      rw [i_dec (by omega), i0, if_neg hc]
      exact w0' ⟨rfl, hO⟩
theorem pX7_isWeek {Q : Int32 → St → Prop} {x : Int32} (h : Q (if 0 ≤ x.toInt ∧ x.toInt ≤ 99 then 1 else 0) g) : wX7_isWeek g x Q := by
  unfold wX7_isWeek
  refine pX7_in ?_
  rw [i0, show (99 : Int32).toInt = 99 by decide]
  by_cases hc : 0 ≤ x.toInt ∧ x.toInt ≤ 99
  · rw [if_pos hc] at h ⊢
    exact ⟨vz1, h⟩
  · rw [if_neg hc] at h ⊢
    exact ⟨vz0, h⟩
theorem pX0_isWeek {Q : Int32 → XS → Prop} {x : Int32} (h : Q (if 0 ≤ x.toInt ∧ x.toInt ≤ 99 then 1 else 0) S) : wX0_isWeek b cs ad vs o S x Q := by
  unfold wX0_isWeek
  refine pX0_in ?_
  rw [l0, l_of, show (99 : Int64).toInt = 99 by decide]
  by_cases hc : 0 ≤ x.toInt ∧ x.toInt ≤ 99
  · rw [if_pos hc] at h ⊢
    exact ⟨vz1, h⟩
  · rw [if_neg hc] at h ⊢
    exact ⟨vz0, h⟩
theorem rEq_app {n : Nat} {F G : Nat → Int32} {v : Int32} (h : rEq n F G) : rEq (n + 1) (upd F n v) (upd G n v) := by
  intro i hi
  unfold upd
  by_cases e : i = n
  · rw [if_pos e, if_pos e]
  · rw [if_neg e, if_neg e]
    exact h i (by omega)
theorem rEq_upd {n k : Nat} {F G : Nat → Int32} {v : Int32} (h : rEq n F G) : rEq n (upd F k v) (upd G k v) := by
  intro i hi
  unfold upd
  by_cases e : i = k
  · rw [if_pos e, if_pos e]
  · rw [if_neg e, if_neg e]
    exact h i hi
theorem rEq_lft {n k : Nat} {F G : Nat → Int32} {v : Int32} (h : rEq n F G) (hk : n ≤ k) : rEq n (upd F k v) G := by
  intro i hi
  unfold upd
  rw [if_neg (by omega)]
  exact h i hi
theorem rIn_upd {n k : Nat} {F : Nat → Int32} {v : Int32} {lo hi : Int} (h : rIn n F lo hi) (h1 : lo ≤ v.toInt) (h2 : v.toInt ≤ hi) : rIn n (upd F k v) lo hi := by
  intro i hi
  unfold upd
  by_cases e : i = k
  · rw [if_pos e]
    exact ⟨h1, h2⟩
  · rw [if_neg e]
    exact h i hi
theorem rIn_app {n : Nat} {F : Nat → Int32} {v : Int32} {lo hi : Int} (h : rIn n F lo hi) (h1 : lo ≤ v.toInt) (h2 : v.toInt ≤ hi) : rIn (n + 1) (upd F n v) lo hi := by
  intro i hi
  unfold upd
  by_cases e : i = n
  · rw [if_pos e]
    exact ⟨h1, h2⟩
  · rw [if_neg e]
    exact h i (by omega)
theorem op_feast (hI : RI S.1 g) (hM : MI g) (x y : Int32) : wX0_feast b cs ad vs o S x y (fun r S' => wX7_feast g x y (fun r' g' => r = r' ∧ OK1 S g S' g')) := by
  have hO := OK1.rf hI hM
  obtain ⟨⟨a1, a2, a3, a4, a5, a6⟩, aA, ⟨f1, f2⟩, aF, aT, aD, aW, aG, aS⟩ := hI
  obtain ⟨⟨m1, m2, ⟨n, hn, hF⟩, m4⟩, mA, ⟨k1, k2⟩, mT, mD, mW, mG, mS⟩ := hM
  unfold wX0_feast
  refine pX0_isWeek ?_
  by_cases hc : 0 ≤ x.toInt ∧ x.toInt ≤ 99
  · rw [if_pos hc]
    refine w1' (pX0_in ?_)
    rw [l0, l_of, show (6 : Int64).toInt = 6 by decide]
    by_cases hd : 0 ≤ y.toInt ∧ y.toInt ≤ 6
    · rw [if_pos hd]
      refine w1 ?_
      rw [a3, hF]
      have e10 : (Int32.ofNat n = 10) ↔ n = 10 := n_eqI (b := 10) (by omega) (by decide)
      refine ⟨fun hne => ?_, fun he => ?_⟩
      · have hn9 : n < 10 := by
          have : ¬ n = 10 := fun q => hne (e10.mpr q)
          omega
        refine ⟨n_in hn9 (by decide), fun s4 q4 => ?_⟩
        rw [n_clamp (by omega)] at q4
        subst q4
        have e4 : (upd2 S.1 8 n x, S.2).1 99 10 = Int32.ofNat n := a3.trans hF
        rw [e4]
        refine ⟨n_in hn9 (by decide), fun s5 q5 s6 q6 => ?_⟩
        rw [n_clamp (by omega)] at q5
        subst q5
        have e5 : (upd2 (upd2 S.1 8 n x, S.2).1 9 n y, (upd2 S.1 8 n x, S.2).2).1 99 10 = Int32.ofNat n := a3.trans hF
        rw [e5, n_suc] at q6
        subst q6
        unfold wX7_feast
        refine pX7_isWeek ?_
        rw [if_pos hc]
        refine w1' (pX7_in ?_)
        rw [i0, show (6 : Int32).toInt = 6 by decide, if_pos hd]
        refine w1 ⟨fun _ => ?_, fun q => absurd (hF ▸ q) hne⟩
        rw [hF]
        refine ⟨n_in hn9 (by decide), fun t5 q5 => ?_⟩
        rw [n_clamp (by omega)] at q5
        subst q5
        have g5 : (upd2 g 8 n x) 99 7 = Int32.ofNat n := hF
        rw [g5]
        refine ⟨n_in hn9 (by decide), fun t6 q6 t7 q7 => ?_⟩
        rw [n_clamp (by omega)] at q6
        subst q6
        have g6 : (upd2 (upd2 g 8 n x) 9 n y) 99 7 = Int32.ofNat n := hF
        rw [g6, n_suc] at q7
        subst q7
        rw [hF, nn_of (by omega)] at f1 f2 k1 k2
        have en : nn (Int32.ofNat (n + 1)) = n + 1 := nn_of (by omega)
        have mG' := mG
        rw [hF, nn_of (by omega)] at mG'
        refine ⟨rfl, ⟨⟨a1, a2, rfl, a4, a5, a6⟩, aA, ⟨?_, ?_⟩, aF, aT, aD, aW, ?_, aS⟩, ⟨⟨m1, m2, ⟨n + 1, by omega, rfl⟩, m4⟩, mA, ⟨?_, ?_⟩, mT, mD, mW, ?_, mS⟩, rfl, rfl, rfl, rfl, rfl, rfl, rfl, rfl⟩
        · show rEq (nn (Int32.ofNat (n + 1))) (upd (S.1 8) n x) (upd (g 8) n x)
          rw [en]
          exact rEq_app f1
        · show rEq (nn (Int32.ofNat (n + 1))) (upd (S.1 9) n y) (upd (g 9) n y)
          rw [en]
          exact rEq_app f2
        · rcases aG with aG | ⟨c1, c2, c3, c4, c5, c6, c7, c8, c9, c10, c11⟩
          · exact Or.inl aG
          · rcases mG' with d | ⟨-, -, -, ⟨j, hj, ej⟩, -⟩
            · exact absurd (d.symm.trans c1) (by decide)
            · refine Or.inr ⟨c1, c2, c3, c4, c5, c6, c7, c8, c9, ?_, ?_⟩
              · rw [ej, nn_of (by omega)] at c10
                show rEq (nn (g 99 28)) (upd (S.1 8) n x) (g 34)
                rw [ej, nn_of (by omega)]
                exact rEq_lft c10 hj
              · rw [ej, nn_of (by omega)] at c11
                show rEq (nn (g 99 28)) (upd (S.1 9) n y) (g 35)
                rw [ej, nn_of (by omega)]
                exact rEq_lft c11 hj
        · show rIn (nn (Int32.ofNat (n + 1))) (upd (g 8) n x) 0 99
          rw [en]
          exact rIn_app k1 hc.1 hc.2
        · show rIn (nn (Int32.ofNat (n + 1))) (upd (g 9) n y) 0 6
          rw [en]
          exact rIn_app k2 hd.1 hd.2
        · rcases mG with d | ⟨d1, d2, d3, ⟨j, hj, ej⟩, d5⟩
          · exact Or.inl d
          · refine Or.inr ⟨d1, d2, d3, ⟨j, ?_, ej⟩, d5⟩
            rw [hF, nn_of (by omega)] at hj
            show j ≤ nn (Int32.ofNat (n + 1))
            rw [en]
            omega
      · unfold wX7_feast
        refine pX7_isWeek ?_
        rw [if_pos hc]
        refine w1' (pX7_in ?_)
        rw [i0, show (6 : Int32).toInt = 6 by decide, if_pos hd]
        exact w1 ⟨fun q => absurd (hF.trans he) q, fun _ => ⟨rfl, hO⟩⟩
    · rw [if_neg hd]
      refine w0 ?_
      unfold wX7_feast
      refine pX7_isWeek ?_
      rw [if_pos hc]
      refine w1' (pX7_in ?_)
      rw [i0, show (6 : Int32).toInt = 6 by decide, if_neg hd]
      exact w0 ⟨rfl, hO⟩
  · rw [if_neg hc]
    refine w0' ?_
    unfold wX7_feast
    refine pX7_isWeek ?_
    rw [if_neg hc]
    exact w0' ⟨rfl, hO⟩
end
