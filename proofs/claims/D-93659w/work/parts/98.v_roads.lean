/-! PLAIN LAYER: roads -/
set_option maxRecDepth 100000
theorem RZ_same {b o : Nat} {S S' : XS} (h : S'.2 = S.2) (hz : RZ b o S) : RZ b o S' := by
  unfold RZ
  rw [h]
  exact hz
theorem zX_same {S S' S2 : XS} (h : S'.2 = S.2) (hz : zX S' S2) : zX S S2 := by
  unfold zX at hz ⊢
  rw [h] at hz
  exact hz
section
variable {b o : Nat} {cs ad : Nat → Nat} {vs : Nat → Option Nat} {S : XS} {g : St}
theorem op_roads (hI : RI S.1 g) (hM : MI g) (hz : RZ b o S) (x1 x2 x3 x4 : Int32) : wX0_roads b cs ad vs o S x1 x2 x3 x4 (fun r S' => wX7_roads g x1 x2 x3 x4 (fun r' g' => r = r' ∧ OK3 S g S' g')) := by
  have hO := (OK1.rf hI hM).three hz
  have f3 : (3 : Int32).toInt = ((3 : Nat) : Int) := by decide
  have f2 : (2 : Int32).toInt = ((2 : Nat) : Int) := by decide
  have f13 : (13 : Int32).toInt = ((13 : Nat) : Int) := by decide
  have g2 : (2 : Int64).toInt = ((2 : Nat) : Int) := by decide
  have g13 : (13 : Int64).toInt = ((13 : Nat) : Int) := by decide
  have i3 : (3 : Int32).toInt = 3 := by decide
  unfold wX0_roads
  by_cases hx : isN x1 4
  · obtain ⟨s, hs, rfl⟩ := hx
    have hins : vp_in (Int32.ofNat s) 4 := n_in hs (by decide)
    refine pX0_isSheet_y hs (w1' ?_)
    by_cases hy : isN x2 3
    · obtain ⟨t, ht, rfl⟩ := hy
      refine pX0_in_y g2 (by decide) (by omega) (w1' ?_)
      by_cases hn : isN x4 14
      · obtain ⟨n, hn, rfl⟩ := hn
        refine pX0_in_y g13 (by decide) (by omega) (w1 ?_)
        have hsn := sort_neg hI hM hs
        obtain ⟨q0, q1, q2⟩ := RI_at hs hI
        -- the reference up to its loop
        have hmR : ∀ Q : Int32 → St → Prop, ¬ g 36 s = -1 → (g 36 s = Int32.ofNat t → ∃ k : Nat, wlX7_roads_64 Q k (Int32.ofNat s) x3 (Int32.ofNat n) 0 0 g) → (¬ g 36 s = Int32.ofNat t → Q (-13) g) → wX7_roads g (Int32.ofNat s) (Int32.ofNat t) x3 (Int32.ofNat n) Q := by
          intro Q hne h1 h2
          unfold wX7_roads
          refine pX7_in_y f3 (by decide) (by omega) (w1' (pX7_in_y f2 (by decide) (by omega) (w1' (pX7_in_y f13 (by decide) (by omega) (w1 ⟨hins, ?_⟩)))))
          rw [n_clamp (by omega)]
          exact ⟨fun _ => ⟨hins, h1, h2⟩, fun e => absurd e hne⟩
        by_cases h0 : 0 ≤ S.1 (60 + s) 0
        · have hne : ¬ g 36 s = -1 := fun e => (hsn.mpr e) h0
          refine p_there_y hs h0 ⟨hs, ?_⟩
          rw [q0]
          by_cases h2 : g 36 s = Int32.ofNat t
          · refine ⟨fun q => absurd h2 q, fun _ => ?_⟩
            unfold wbX0_roads_59
            refine p_need_y (by decide) ⟨S, rfl, ?_⟩
            -- loops of both, step by step
            refine ijX0_roads_67_7 n 0 (by omega) (by omega) (fun k y3 y4 y5 y6 f => y3 = x3 ∧ y4 = Int32.ofNat n ∧ y6 = s ∧ ∃ gk : St, OK1 S g f gk ∧ ∀ Q' : Int32 → St → Prop, (∃ N : Nat, wlX7_roads_64 Q' N (Int32.ofNat s) x3 (Int32.ofNat n) y5 (Int32.ofNat k) gk) → ∃ N : Nat, wlX7_roads_64 Q' N (Int32.ofNat s) x3 (Int32.ofNat n) 0 0 g) ?_ _ _ _ _ _ ⟨rfl, rfl, rfl, g, OK1.rf hI hM, fun Q' h => h⟩
            intro K k y3 y4 y5 y6 f _ hk hP hK
            obtain ⟨rfl, rfl, rfl, gk, hOK, hMR⟩ := hP
            have hIf := hOK.1
            have hMf := hOK.2.1
            have hzf := RZ_same hOK.2.2.1 hz
            obtain ⟨u0, u1, u2⟩ := RI_at hs hIf
            have h37k := hMf.2.2.2.2.2.2.2.2 y6 hs
            obtain ⟨m, hm, em⟩ := bN_of (m := 40) h37k.1 h37k.2 (by decide)
            unfold wbX0_roads_67
            refine w_upto (by omega) hk (fun q => ?_) (fun hlt => ?_)
            · subst q
              refine hmR _ hne (fun _ => hMR _ ⟨1, ?_⟩) (fun e => absurd h2 e)
              show wbX7_roads_64 _ _ (Int32.ofNat y6) y3 (Int32.ofNat k) y5 (Int32.ofNat k) gk
              unfold wbX7_roads_64
              exact ⟨fun _ => ⟨rfl, hOK.three hz⟩, fun q => absurd (Int32.le_refl _) q⟩
            -- where the row can't be read: both say so
            have hbad : (∀ Q' : Int32 → St → Prop, Q' (-12) gk → wbX7_roads_64 (wlX7_roads_64 Q' 0) Q' (Int32.ofNat y6) y3 (Int32.ofNat n) y5 (Int32.ofNat k) gk) → wbX0_roads_98 b cs ad vs o K (fun r S' => wX7_roads g (Int32.ofNat y6) (Int32.ofNat t) y3 (Int32.ofNat n) (fun r' g' => r = r' ∧ OK3 S g S' g')) y3 (Int32.ofNat n) y5 y6 (Int32.ofNat k) f := by
              intro h
              unfold wbX0_roads_98 wbX0_roads_99
              refine p_need_n hzf ⟨RZ_F hzf, _, _, _, _, _, _, _, sOd_at, ?_⟩
              refine hmR _ hne (fun _ => hMR _ ⟨1, h _ ⟨rfl, ?_⟩⟩) (fun e => absurd h2 e)
              exact ⟨hIf, hMf, zX_same hOK.2.2.1 (sOd_zX hzf), hOK.2.2.2⟩
            have hk3 : (3 : Int32) * Int32.ofNat k = Int32.ofNat (3 * k) := n_mul (a := 3)
            have hgt := fun (q : Int32.ofNat n ≤ Int32.ofNat k) => by have := (n_leI (by omega) (by omega)).mp q; omega
            have hle' : ¬ Int32.ofNat n ≤ Int32.ofNat k := fun q => by have := (n_leI (by omega) (by omega)).mp q; omega
            refine ⟨fun c => hbad (fun Q' hQ' => ?_), fun c => ⟨hs, ?_⟩⟩
            · unfold wbX7_roads_64
              exact ⟨fun q => absurd q hle', fun _ x7 e7 => ⟨fun _ => hQ', fun q => absurd c q⟩⟩
            have hc3 : 0 ≤ y3.toInt := by
              have : ¬ y3.toInt < (0 : Int32).toInt := fun q => c (i_lt.mpr q)
              rw [i0] at this
              omega
            have b3 : y3.toInt < 2147483648 := Int32.toInt_lt y3
            rw [u1, em, hk3]
            have sz : (Int32.ofNat m - Int32.ofNat (3 * k) - 3).toInt = (m : Int) - 3 * k - 3 := by
              have s1 : (Int32.ofNat m - Int32.ofNat (3 * k)).toInt = (m : Int) - 3 * k := by rw [i_sub (by rw [n_toInt (by omega), n_toInt (by omega)]; omega) (by rw [n_toInt (by omega), n_toInt (by omega)]; omega), n_toInt (by omega), n_toInt (by omega)]; omega
              rw [i_sub (by rw [s1, i3]; omega) (by rw [s1, i3]; omega), s1, i3]
            have sz2 : (Int32.ofNat m - 3).toInt = (m : Int) - 3 := by rw [i_sub (by rw [n_toInt (by omega), i3]; omega) (by rw [n_toInt (by omega), i3]; omega), n_toInt (by omega), i3]
            refine ⟨fun c2 => hbad (fun Q' hQ' => ?_), fun c2 => ?_⟩
            · have d2 := i_lt.mp c2
              rw [sz] at d2
              unfold wbX7_roads_64
              refine ⟨fun q => absurd q hle', fun _ x7 e7 => ⟨fun q => absurd q c, fun _ => ⟨fun _ => hQ', fun c3 => ⟨hins, fun c4 => ?_, fun _ => hQ'⟩⟩⟩⟩
              exfalso
              rw [n_clamp (n := y6) (by omega), em] at c4
              have d4 := i_le.mp c4
              rw [sz2] at d4
              have d3 : ¬ x7.toInt < y3.toInt := fun q => c3 (i_lt.mpr q)
              have e7' : x7.toInt = y3.toInt + 3 * k := by
                by_cases c5 : y3.toInt + 3 * k < 2147483648
                · rw [e7, hk3, i_add (by rw [n_toInt (by omega)]; omega) (by rw [n_toInt (by omega)]; omega), n_toInt (by omega)]
                  omega
                · exfalso
                  omega
              omega
            · have d2 : ¬ (Int32.ofNat m - Int32.ofNat (3 * k) - 3).toInt < y3.toInt := fun q => c2 (i_lt.mpr q)
              rw [sz] at d2
              obtain ⟨a, ha, rfl⟩ := bN_of (m := 40) (x := y3) hc3 (by omega) (by decide)
              rw [n_toInt (by omega)] at d2
              unfold wbX0_roads_99
              refine p_need_y (by decide) ⟨f, rfl, fun x8 e8 => ?_⟩
              rw [hk3, n_add] at e8
              subst e8
              have e81 : Int32.ofNat (a + 3 * k) + 1 = Int32.ofNat (a + 3 * k + 1) := n_suc
              have e82 : Int32.ofNat (a + 3 * k) + 2 = Int32.ofNat (a + 3 * k + 2) := n_add (b := 2)
              rw [e81, e82, n_clamp (n := a + 3 * k) (by omega), n_clamp (n := a + 3 * k + 1) (by omega), n_clamp (n := a + 3 * k + 2) (by omega), u2 _ (by omega), u2 _ (by omega), u2 _ (by omega)]
              refine ⟨hs, hs, n_in (by omega) (by decide), hs, hs, n_in (by omega) (by decide), hs, hs, n_in (by omega) (by decide), ?_⟩
              refine pX0_road hIf hMf _ _ _ _ (fun r S' g' hroad hOK' => ?_)
              -- the reference's step
              have hMstep : ∀ (y5' : Int32), (r < 0 → y5' = y5) → (¬ r < 0 → y5' = y5 + 1) → ∀ Q' : Int32 → St → Prop, (∃ N : Nat, wlX7_roads_64 Q' N (Int32.ofNat y6) (Int32.ofNat a) (Int32.ofNat n) y5' (Int32.ofNat (k + 1)) g') → ∃ N : Nat, wlX7_roads_64 Q' N (Int32.ofNat y6) (Int32.ofNat a) (Int32.ofNat n) 0 0 g := by
                intro y5' h51 h52 Q' hN
                obtain ⟨N, hN⟩ := hN
                refine hMR Q' ⟨N + 1, ?_⟩
                show wbX7_roads_64 (wlX7_roads_64 Q' N) Q' (Int32.ofNat y6) (Int32.ofNat a) (Int32.ofNat n) y5 (Int32.ofNat k) gk
                unfold wbX7_roads_64
                refine ⟨fun q => absurd q hle', fun _ x7 e7 => ⟨fun q => absurd q c, fun _ => ?_⟩⟩
                rw [hk3, n_add] at e7
                subst e7
                refine ⟨fun q => ?_, fun _ => ⟨hins, fun _ x8 e8 => ?_, fun q => ?_⟩⟩
                · have := (n_ltI (by omega) (by omega)).mp q
                  omega
                · have e8' : x8 = Int32.ofNat (40 * y6 + (a + 3 * k)) := by
                    rw [e8]
                    exact n_ix
                  subst e8'
                  have e81 : Int32.ofNat (40 * y6 + (a + 3 * k)) + 1 = Int32.ofNat (40 * y6 + (a + 3 * k + 1)) := n_suc
                  have e82 : Int32.ofNat (40 * y6 + (a + 3 * k)) + 2 = Int32.ofNat (40 * y6 + (a + 3 * k + 2)) := n_add (b := 2)
                  rw [e81, e82, n_clamp (n := 40 * y6 + (a + 3 * k)) (by omega), n_clamp (n := 40 * y6 + (a + 3 * k + 1)) (by omega), n_clamp (n := 40 * y6 + (a + 3 * k + 2)) (by omega)]
                  refine ⟨n_in (by omega) (by decide), n_in (by omega) (by decide), n_in (by omega) (by decide), hroad _ ⟨fun z x5 e5 x6 e6 => ?_, fun z x5 e5 x6 e6 => ?_⟩⟩
                  · rw [n_suc] at e6
                    subst e6
                    have : x5 = y5' := by rw [e5, h51 z, Int32.add_zero]
                    rw [this]
                    exact hN
                  · rw [n_suc] at e6
                    subst e6
                    have : x5 = y5' := by rw [e5, h52 z]
                    rw [this]
                    exact hN
                · exfalso
                  apply q
                  rw [n_clamp (n := y6) (by omega), em]
                  refine i_le.mpr ?_
                  rw [sz2, n_toInt (by omega)]
                  omega
              refine ⟨fun z x7 e7 => ?_, fun z x5 e5 x7 e7 => ?_⟩
              · rw [n_suc] at e7
                subst e7
                exact hK _ _ _ _ _ hlt ⟨rfl, rfl, rfl, g', hOK.tr hOK', hMstep y5 (fun _ => rfl) (fun q => absurd z q)⟩
              · rw [n_suc] at e7
                subst e7
                exact hK _ _ _ _ _ hlt ⟨rfl, rfl, rfl, g', hOK.tr hOK', hMstep x5 (fun q => absurd q z) (fun _ => e5)⟩
          · refine ⟨fun _ => ?_, fun q => absurd q h2⟩
            unfold wbX0_roads_59
            refine p_need_n hz ⟨RZ_F hz, _, _, _, _, _, _, _, sOd_at, ?_⟩
            exact hmR _ hne (fun e => absurd e h2) (fun _ => ⟨rfl, OK3_od hz hI hM⟩)
        · refine p_there_n hz hs h0 ⟨RZ_F hz, _, _, _, _, _, _, _, sOd_at, ?_⟩
          unfold wX7_roads
          refine pX7_in_y f3 (by decide) (by omega) (w1' (pX7_in_y f2 (by decide) (by omega) (w1' (pX7_in_y f13 (by decide) (by omega) (w1 ⟨hins, ?_⟩)))))
          rw [n_clamp (by omega)]
          exact ⟨fun e => absurd (hsn.mp h0) e, fun _ => ⟨rfl, OK3_od hz hI hM⟩⟩
      · refine pX0_in_n g13 (by decide) hn (w0 ?_)
        unfold wX7_roads
        exact pX7_in_y f3 (by decide) (by omega) (w1' (pX7_in_y f2 (by decide) (by omega) (w1' (pX7_in_n f13 (by decide) hn (w0 ⟨rfl, hO⟩)))))
    · refine pX0_in_n g2 (by decide) hy (w0' ?_)
      unfold wX7_roads
      exact pX7_in_y f3 (by decide) (by omega) (w1' (pX7_in_n f2 (by decide) hy (w0' ⟨rfl, hO⟩)))
  · refine pX0_isSheet_n hx (w0' ?_)
    unfold wX7_roads
    exact pX7_in_n f3 (by decide) hx (w0' ⟨rfl, hO⟩)
end
