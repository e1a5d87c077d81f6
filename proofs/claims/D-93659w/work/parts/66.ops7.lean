/-! PLAIN LAYER: back, both sides -/
set_option maxRecDepth 100000
section
variable {b o : Nat} {cs ad : Nat → Nat} {vs : Nat → Option Nat} {S : XS} {g : St}
theorem pX0_backL {K132 : XS → Prop} {Q : Int32 → XS → Prop} {T n : Nat} (hT : S.1 99 6 = Int32.ofNat T) (hT6 : T ≤ 6) (hn : S.1 99 34 = Int32.ofNat n) (hn6 : n ≤ 6) (h : K132 (updR S.1 4 (xbA n T (S.1 33) T (S.1 4)), S.2)) : ∃ m : Nat, wlX0_back_64 b cs ad vs o K132 Q m (0 : Int32) S := by
  have e0 : S = (updR S.1 4 (xbA n T (S.1 33) 0 (S.1 4)), S.2) := by
    show S = (updR S.1 4 (S.1 4), S.2)
    rw [updR_self]
  rw [e0]
  refine icX0_back_64_1 T 0 (by omega) (by omega) (fun _ => True) (fun k => (updR S.1 4 (xbA n T (S.1 33) k (S.1 4)), S.2)) trivial ?_
  intro K a _ ha _ hK
  unfold wbX0_back_64
  rw [xr_n (show (99 : Nat) ≠ 4 by decide), hT]
  refine w_upto (by omega) ha (fun q => ?_) (fun haT => ?_)
  · subst q
    exact h
  · generalize hF : xbA n T (S.1 33) a (S.1 4) = F
    refine icX0_back_74_2 T 0 (by omega) (by omega) (fun _ => True) (fun _ => Int32.ofNat a) (fun k => (updR S.1 4 (xbB n (S.1 33) a k F), S.2)) trivial ?_
    intro K2 c _ hc _ hK2
    unfold wbX0_back_74
    rw [xr_n (show (99 : Nat) ≠ 4 by decide), hT, hn]
    refine w_upto (by omega) hc (fun q => ?_) (fun hcT => ?_)
    · subst q
      intro x1 e1
      rw [n_suc] at e1
      subst e1
      have := hK haT trivial
      simp only [xbA, hF] at this
      exact this
    · have e3 : (6 : Int32) * Int32.ofNat a + Int32.ofNat c = Int32.ofNat (6 * a + c) := n_ix
      have hyes : (a < n ∨ c < n) → ∀ K126, wbX0_back_98 b cs ad vs o K2 K126 Q (Int32.ofNat a) (Int32.ofNat c) (updR S.1 4 (xbB n (S.1 33) a c F), S.2) := by
        intro hy K126
        unfold wbX0_back_98
        rw [e3, n_clamp (by omega)]
        refine ⟨n_in (by omega) (by decide), n_in (by omega) (by decide), fun s q => ?_⟩
        unfold wbX0_back_120
        intro x e
        rw [n_suc] at e
        subst e
        have hk := hK2 hcT trivial
        simp only [xbB, if_pos hy] at hk
        rw [q, updR_upd2']
        exact hk
      have hno : ¬ (a < n ∨ c < n) → ∀ K126, wbX0_back_120 b cs ad vs o K2 K126 Q (Int32.ofNat a) (Int32.ofNat c) (updR S.1 4 (xbB n (S.1 33) a c F), S.2) := by
        intro hy K126
        unfold wbX0_back_120
        intro x e
        rw [n_suc] at e
        subst e
        have hk := hK2 hcT trivial
        simp only [xbB, if_neg hy] at hk
        exact hk
      have c1 : (Int32.ofNat a < Int32.ofNat n) ↔ a < n := n_ltI (by omega) (by omega)
      have c2 : (Int32.ofNat n ≤ Int32.ofNat c) ↔ n ≤ c := n_leI (by omega) (by omega)
      refine ⟨fun h1 => hyes (Or.inl (c1.mp h1)) _, fun h1 => ⟨fun h2 => hno ?_ _, fun h2 => hyes (Or.inr ?_) _⟩⟩
      · have h1' : ¬ a < n := fun q => h1 (c1.mpr q)
        have := c2.mp h2
        omega
      · have : ¬ n ≤ c := fun q => h2 (c2.mpr q)
        omega
theorem op_back (hI : RI S.1 g) (hM : MI g) : wX0_back b cs ad vs o S (fun r S' => wX7_back g (fun r' g' => r = r' ∧ OK1 S g S' g')) := by
  have hO := OK1.rf hI hM
  obtain ⟨⟨a1, a2, a3, a4, a5, a6⟩, ⟨r0, r1, r2, r3, r4⟩, ⟨f1, f2⟩, aF, aT, aD, aW, aG, aS⟩ := hI
  obtain ⟨⟨⟨T, hT6, hT⟩, m2, m3, m4, m5, m6, m7⟩, ⟨n1, n2, n3, n4, n5⟩, ⟨k1, k2⟩, mT, mD, mW, mG, mS⟩ := hM
  have hTX : S.1 99 6 = Int32.ofNat T := a1.trans hT
  have eT : nn (g 99 0) = T := by rw [hT]; exact nn_of (by omega)
  unfold wX0_back
  rcases aG with ⟨g0, x34⟩ | ⟨g1, c34, c35, c36, c37, c30, c31, c32, c33, c8, c9⟩
  · rw [x34]
    refine ⟨fun q => absurd rfl q, fun _ => ?_⟩
    unfold wX7_back
    rw [g0]
    exact w0 ⟨rfl, hO⟩
  · rcases mG with d | ⟨-, ⟨n, hnT, hn⟩, ⟨w, hw1, hw2, hw⟩, ⟨j, hjF, hj⟩, ⟨l, hlX, hl⟩, i30, i31, i32, i33, i34, i35⟩
    · exact absurd (d.symm.trans g1) (by decide)
    · rw [eT] at hnT
      have hnX : S.1 99 34 = Int32.ofNat n := c34.trans hn
      have nm1 : ¬ Int32.ofNat n = -1 := by
        intro q
        have := congrArg Int32.toInt q
        rw [n_toInt (by omega), im1] at this
        omega
      have en : nn (g 99 26) = n := by rw [hn]; exact nn_of (by omega)
      have z0 : ¬ (0 : Int32) < 0 := by decide
      have c0 : Int32.toNatClampNeg (0 : Int32) = 0 := by decide
      have zn : ¬ Int32.ofNat n < 0 := n_nn (by omega)
      rw [hnX]
      refine ⟨fun _ => ?_, fun q => absurd q nm1⟩
      rw [c0, n_clamp (by omega)]
      simp only [cpy_cp]
      refine ⟨z0, z0, zn, by omega, by omega, fun s1 e1 => ?_⟩
      have x1 : s1.1 99 34 = Int32.ofNat n := by rw [e1]; exact hnX
      rw [x1, n_clamp (by omega)]
      refine ⟨z0, z0, zn, by omega, by omega, fun s2 e2 => ?_⟩
      have x2 : s2.1 99 34 = Int32.ofNat n := by rw [e2]; exact x1
      rw [x2, n_clamp (by omega)]
      refine ⟨z0, z0, zn, by omega, by omega, fun s3 e3 => ?_⟩
      have x3 : s3.1 99 34 = Int32.ofNat n := by rw [e3]; exact x2
      have t3 : s3.1 99 6 = Int32.ofNat T := by rw [e3, e2, e1]; exact hTX
      refine pX0_backL t3 hT6 x3 (by omega) ?_
      intro s4 e4 s5 e5 s6 e6
      have t6 : s6.1 99 6 = Int32.ofNat T := by rw [e6, e5, e4]; exact t3
      refine pX0_ways t6 hT6 ?_
      refine pX7_back g1 hn (by omega) ?_
      subst e6 e5 e4 e3 e2 e1
      -- roads
      have hroad : rEq 36 (xbA n T (S.1 33) T (S.1 4)) (cp (bkR n (g 33) (g 5)) (g 5) 36) := by
        intro i hi
        have ei : i = 6 * (i / 6) + i % 6 := by omega
        have hd : i % 6 < 6 := Nat.mod_lt _ (by decide)
        have h1 := xbA_at (n := n) (T := T) (c := i / 6) (d := i % 6) (I := S.1 33) (F := S.1 4) hT6 hd T
        rw [← ei] at h1
        rw [h1, cp_eq i hi]
        unfold bkR
        rw [c33 i hi, r4 i hi]
        by_cases hA : i / 6 < n ∧ i % 6 < n
        · rw [if_pos ⟨by omega, by omega, Or.inl hA.1⟩, if_pos hA]
        · rw [if_neg hA]
          by_cases hB : i / 6 < n ∨ i % 6 < n
          · rw [if_pos hB]
            by_cases hC : i / 6 < T ∧ i % 6 < T ∧ (i / 6 < n ∨ i % 6 < n)
            · rw [if_pos hC]
              have := i33.2 (i / 6) (i % 6) (by omega) hd (by rw [en]; omega)
              rwa [← ei] at this
            · rw [if_neg hC]
              have := n5.2 (i / 6) (i % 6) (by omega) hd (by rw [eT]; omega)
              rwa [← ei] at this
          · rw [if_neg hB, if_neg (fun q => hB q.2.2)]
      have hrI : roadI T (cp (bkR n (g 33) (g 5)) (g 5) 36) := by
        rw [eT] at n5
        refine ⟨fun i hi => ?_, fun a c ha hc hh => ?_⟩
        · rw [cp_eq i hi]
          unfold bkR
          by_cases hA : i / 6 < n ∧ i % 6 < n
          · rw [if_pos hA]
            exact i33.1 i hi
          · rw [if_neg hA]
            by_cases hB : i / 6 < n ∨ i % 6 < n
            · rw [if_pos hB]
              exact ⟨by decide, by decide⟩
            · rw [if_neg hB]
              exact n5.1 i hi
        · rw [cp_eq _ (by omega)]
          unfold bkR
          rw [if_neg (by omega)]
          by_cases hB : (6 * a + c) / 6 < n ∨ (6 * a + c) % 6 < n
          · rw [if_pos hB]
          · rw [if_neg hB]
            exact n5.2 a c ha hc hh
      have hcp : ∀ {F F' G G' : Nat → Int32}, rEq 6 F G → rEq 6 F' G' → rEq 6 (cp F F' n) (cp G G' n) := fun h1 h2 i hi => by
        unfold cp
        by_cases q : i < n
        · rw [if_pos q, if_pos q]; exact h1 i hi
        · rw [if_neg q, if_neg q]; exact h2 i hi
      have hci : ∀ {F F' : Nat → Int32} {lo hi : Int}, rIn 6 F lo hi → rIn 6 F' lo hi → rIn 6 (cp F F' n) lo hi := fun h1 h2 i hi => by
        unfold cp
        by_cases q : i < n
        · rw [if_pos q]; exact h1 i hi
        · rw [if_neg q]; exact h2 i hi
      obtain ⟨F, hF10, hF⟩ := m3
      have eF : nn (g 99 7) = F := by rw [hF]; exact nn_of (by omega)
      rw [eF] at hjF
      have ej : nn (g 99 28) = j := by rw [hj]; exact nn_of (by omega)
      rw [ej] at c8 c9 i34 i35
      refine ⟨a1, ⟨⟨a1, c35, c36, c37, a5, a6⟩, ⟨r0, hcp c30 r1, hcp c31 r2, hcp c32 r3, hroad⟩, ⟨?_, ?_⟩, ?_, aT, aD, aW, Or.inr ⟨g1, c34, c35, c36, c37, c30, c31, c32, c33, ?_, ?_⟩, aS⟩, ⟨⟨⟨T, hT6, hT⟩, ⟨w, hw1, hw2, hw⟩, ⟨j, by omega, hj⟩, m4, m5, ⟨l, hlX, hl⟩, m7⟩, ⟨n1, hci i30 n2, hci i31 n3, hci i32 n4, ?_⟩, ⟨?_, ?_⟩, mT, mD, mW, Or.inr ⟨g1, ⟨n, ?_, hn⟩, ⟨w, hw1, hw2, hw⟩, ⟨j, ?_, hj⟩, ⟨l, hlX, hl⟩, i30, i31, i32, i33, ?_, ?_⟩, mS⟩, rfl, rfl, rfl, rfl, rfl, rfl, rfl, rfl⟩
      · show rEq (nn (g 99 28)) (S.1 8) (cp (g 34) (g 8) 10)
        rw [ej]
        exact c8.tr (cp_eq.le (by omega)).sy
      · show rEq (nn (g 99 28)) (S.1 9) (cp (g 35) (g 9) 10)
        rw [ej]
        exact c9.tr (cp_eq.le (by omega)).sy
      · show farR (nn (g 99 0)) (farX T (xbA n T (S.1 33) T (S.1 4)) _) (cp (bkR n (g 33) (g 5)) (g 5) 36)
        rw [eT]
        exact farR_new hT6 hroad hrI.1
      · show rEq (nn (g 99 28)) (S.1 8) (g 34)
        rw [ej]
        exact c8
      · show rEq (nn (g 99 28)) (S.1 9) (g 35)
        rw [ej]
        exact c9
      · show roadI (nn (g 99 0)) (cp (bkR n (g 33) (g 5)) (g 5) 36)
        rw [eT]
        exact hrI
      · show rIn (nn (g 99 28)) (cp (g 34) (g 8) 10) 0 99
        rw [ej]
        exact i34.eq (cp_eq.le (by omega))
      · show rIn (nn (g 99 28)) (cp (g 35) (g 9) 10) 0 6
        rw [ej]
        exact i35.eq (cp_eq.le (by omega))
      · show n ≤ nn (g 99 0)
        rw [eT]
        exact hnT
      · show j ≤ nn (g 99 28)
        rw [ej]
        exact Nat.le_refl _
      · show rIn (nn (g 99 28)) (g 34) 0 99
        rw [ej]
        exact i34
      · show rIn (nn (g 99 28)) (g 35) 0 6
        rw [ej]
        exact i35
end
