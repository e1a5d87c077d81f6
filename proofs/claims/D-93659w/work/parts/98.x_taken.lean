/-! PLAIN LAYER: taken, both -/
set_option maxRecDepth 100000
section
variable {b o : Nat} {cs ad : Nat → Nat} {vs : Nat → Option Nat} {S : XS} {g : St}
theorem op_taken (hI : RI S.1 g) (hM : MI g) (hG : GL o cs ad S g) (hz : RZ b o S) (hr : S.2.2.2.1 + 6000 ≤ b + cB ∧ S.2.2.2.2 + 110000 ≤ sB) (x1 x2 : Int32) : wX0_taken b cs ad vs o S x1 x2 (fun r S' => wX7_taken g x1 x2 (fun r' g' => r = r' ∧ OK3 S g S' g')) := by
  have hO := (OK1.rf hI hM).three hz
  have hM0 := hM
  obtain ⟨G, hG12, eG, hL⟩ := hG
  obtain ⟨⟨⟨T, hT6, hT⟩, -⟩, ⟨hm1, -⟩, -⟩ := hM
  have hTX : S.1 99 6 = Int32.ofNat T := hI.1.1.trans hT
  have f6 : (6 : Int32).toInt = ((6 : Nat) : Int) := by decide
  have f17 : (17 : Int32).toInt = ((17 : Nat) : Int) := by decide
  have g6 : (6 : Int64).toInt = ((6 : Nat) : Int) := by decide
  have g17 : (17 : Int64).toInt = ((17 : Nat) : Int) := by decide
  unfold wX0_taken
  by_cases hy : isN x2 7
  · obtain ⟨x, hx, rfl⟩ := hy
    refine pX0_in_y g6 (by decide) (by omega) (w1 ?_)
    have ex6 : (Int32.ofNat x = 6) ↔ x = 6 := n_eqI (b := 6) (by omega) (by decide)
    have lx6 : ((6 : Int32) ≤ Int32.ofNat x) ↔ 6 ≤ x := n_leI (a := 6) (by decide) (by omega)
    by_cases hi : isN x1 18
    · obtain ⟨i, hi, rfl⟩ := hi
      refine pX0_in_y g17 (by decide) (by omega) (p_need_y (by decide) ⟨S, rfl, ?_⟩)
      have li6 : ((6 : Int32) ≤ Int32.ofNat i) ↔ 6 ≤ i := n_leI (a := 6) (by decide) (by omega)
      -- the reference behind its first tests
      have hmR : ∀ Q : Int32 → St → Prop, ((6 : Int32) ≤ Int32.ofNat i → (((Int32.ofNat i - (6 : Int32)) < (g 99 16) → (((6 : Int32) ≤ Int32.ofNat x → Q (-13 : Int32) g) ∧ (¬ (6 : Int32) ≤ Int32.ofNat x → (vp_in (Int32.ofNat i - (6 : Int32)) 12 ∧ (wX7_isUnder g (g 17 (Int32.toNatClampNeg (Int32.ofNat i - (6 : Int32)))) (Int32.ofNat x) (fun r_6 f_5 => ((r_6 = (0 : Int32) → Q (-13 : Int32) f_5) ∧ (¬ r_6 = (0 : Int32) → Q (Int32.ofNat i - (6 : Int32)) f_5)))))))) ∧ (¬ (Int32.ofNat i - (6 : Int32)) < (g 99 16) → Q (-11 : Int32) g))) → (¬ (6 : Int32) ≤ Int32.ofNat i → ((Int32.ofNat i < (g 99 0) → ((¬ Int32.ofNat x = (6 : Int32) → Q (-13 : Int32) g) ∧ (Int32.ofNat x = (6 : Int32) → (vp_in (Int32.ofNat i) 6 ∧ Q (g 1 (Int32.toNatClampNeg (Int32.ofNat i))) g)))) ∧ (¬ Int32.ofNat i < (g 99 0) → Q (-11 : Int32) g))) → wX7_taken g (Int32.ofNat i) (Int32.ofNat x) Q := by
        intro Q h1 h2
        unfold wX7_taken
        exact pX7_in_y f6 (by decide) (by omega) (w1 (pX7_in_y f17 (by decide) (by omega) (w1 ⟨h1, h2⟩)))
      have hz1 := fun t => RZ_Sl (t := t) hz hr
      refine ⟨fun c => ?_, fun c => ?_⟩
      · -- a giving
        have hi6 := li6.mp c
        obtain ⟨j, rfl⟩ : ∃ j, i = j + 6 := ⟨i - 6, by omega⟩
        have ej : Int32.ofNat (j + 6) - 6 = Int32.ofNat j := by
          have := n_sub (a := j + 6) (b := 6) (by omega)
          rw [show j + 6 - 6 = j by omega] at this
          exact this
        rw [ej] at hmR ⊢
        have hltG : (Int32.ofNat j < g 99 16) ↔ j < G := by rw [eG]; exact n_ltI (by omega) (by omega)
        by_cases hjG : j < G
        · refine pX0_isGiving_y hL hG12 hjG ?_
          unfold wbX0_taken_51
          refine p_need_y (by decide) ⟨S, rfl, RZ_bud hz (by decide), RZ_F hz, fun a29 f30 e29 e30 => ⟨fun _ => ?_, fun q => absurd c q⟩⟩
          subst e29
          subst e30
          have hL1 : GLn o cs ad (xNew S (.inr (15, vp_V [.null])) 1).2.2.1 g G := GLn_mono (fun a e q => by
            have := hz.1 a e q
            show updP _ _ _ a = _
            rw [updP_ne (by omega)]
            exact q) hL
          rw [ej]
          refine pJ2_get' hL1 hG12 hjG (fun a k n D hg => ⟨_, rfl, ?_⟩)
          unfold wbX0_taken_89
          refine p_slot hz ⟨sSl S a, rfl, ?_⟩
          -- the giving in the new state
          have hgS : gvAt o cs S.2.2.1 g j a k n D := by
            obtain ⟨mc, ⟨hG0, -⟩ | ⟨e, N, cc, q1, q2, q3, q4, q5, q6, q7, q8⟩⟩ := hL
            · omega
            · obtain ⟨a2, k2, n2, D2, hc2, hg2⟩ := q8 j hjG
              obtain ⟨g1, g2, g3, ⟨da, g4, g5, g6'⟩, g7⟩ := hg2
              obtain ⟨mc1, ⟨hG0, -⟩ | ⟨e1, N1, cc1, r1, r2, r3, r4, r5, r6, r7, r8⟩⟩ := hL1
              · omega
              · obtain ⟨h1, h2, h3, ⟨da', h4, h5, h6⟩, h7⟩ := hg
                have hne : ∀ q, q ≠ S.2.2.2.1 → (xNew S (.inr (15, vp_V [.null])) 1).2.2.1 q = S.2.2.1 q := fun q hq => updP_ne hq
                have hza : a ≠ S.2.2.2.1 := by
                  intro ea
                  rw [ea] at h5
                  have : (xNew S (.inr (15, vp_V [.null])) 1).2.2.1 S.2.2.2.1 = some (.inr (15, vp_V [.null])) := xNew_s
                  rw [this] at h5
                  have := congrArg Prod.fst (Sum.inr.inj (Option.some.inj h5))
                  simp at this
                  omega
                have hzd : da' ≠ S.2.2.2.1 := by
                  intro ea
                  rw [ea] at h6
                  have : (xNew S (.inr (15, vp_V [.null])) 1).2.2.1 S.2.2.2.1 = some (.inr (15, vp_V [.null])) := xNew_s
                  rw [this] at h6
                  cases h6
                exact ⟨h1, h2, h3, ⟨da', h4, (hne a hza) ▸ h5, (hne da' hzd) ▸ h6⟩, h7⟩
          have hg2 : gvAt o cs (sSl S a).2.2.1 g j a k n D := gvAt_mono (sSl_mono hz) hgS
          have hgo : gOk (3 + k) = true := by
            have hk := hg2.2.1
            have : k = 0 ∨ k = 1 ∨ k = 2 ∨ k = 3 ∨ k = 4 ∨ k = 5 := by omega
            rcases this with q | q | q | q | q | q <;> subst q <;> rfl
          have hF := RZ_F hz
          have hsl' : (wX o cs (sSl S a)).1 S.2.2.2.1 = some (.inr (15, vp_V [.ref a])) := (wX_at hF).trans sSl_at
          obtain ⟨hga, hgk, hgn, ⟨da, hgda, hgO, hgD⟩, h17, -⟩ := id hg2
          have hgO' := (wX_at (cs := cs) (S := sSl S a) hga).trans hgO
          refine ⟨fun c6 => ⟨hF, _, sSl_at, Or.inr ⟨_, hsl', a, rfl, _, _, hgO', hgo, fun q => absurd q (by decide), fun _ => ⟨a, rfl, _, _, hgO', hgo, sSl S a, rfl, ?_⟩⟩⟩, fun c6 => ⟨hF, _, sSl_at, Or.inr ⟨_, hsl', a, rfl, _, _, hgO', hgo, fun _ => ?_, fun q => absurd rfl q⟩⟩⟩
          · have hx6 : x < 6 := by
              have : ¬ x = 6 := fun z => c6 (ex6.mpr z)
              omega
            refine p_isUnder hg2 hx6 ⟨sSl S a, rfl, ?_⟩
            have hm3 : ∀ Q : Int32 → St → Prop, (unV k x = 0 → Q (-13) g) → (¬ unV k x = 0 → Q (Int32.ofNat j) g) → wX7_taken g (Int32.ofNat (j + 6)) (Int32.ofNat x) Q := by
              intro Q h1 h2
              refine hmR Q (fun _ => ⟨fun _ => ⟨fun q => ?_, fun _ => ⟨n_in (by omega) (by decide), ?_⟩⟩, fun q => absurd (hltG.mpr hjG) q⟩) (fun q => absurd c q)
              · have := lx6.mp q
                omega
              · rw [n_clamp (by omega), h17]
                exact m_isUnder hgk hx6 ⟨h1, h2⟩
            by_cases hu : unV k x = 0
            · rw [hu]
              refine p_need_n (hz1 a) ⟨RZ_F (hz1 a), _, _, _, _, _, _, _, sOd_at, hm3 _ (fun _ => ⟨rfl, ?_⟩) (fun q => absurd hu q)⟩
              exact ⟨hI, hM0, zX_SlOd hz hr, rfl, rfl, rfl, rfl, rfl, rfl, rfl⟩
            · refine p_need_y hu ⟨sSl S a, rfl, hga, _, _, _, _, hgO, hgo, hm3 _ (fun q => absurd q hu) (fun _ => ⟨rfl, ?_⟩)⟩
              exact ⟨hI, hM0, zX_Sl hz, rfl, rfl, rfl, rfl, rfl, rfl, rfl⟩
          · refine p_throw (X := fun a_86 f_85 => xF o a_86 ∧ ∃ (v1 v2 v3 v4 v5 : Value) (y y' : Int32), f_85.2.2.1 a_86 = some (.inr (14, vp_V [v1, v2, v3, v4, v5, .int y, .int y'])) ∧ wX7_taken g (Int32.ofNat (j + 6)) (Int32.ofNat x) (fun r' g' => y' = r' ∧ OK3 S g f_85 g')) (hz1 a) ⟨RZ_F (hz1 a), _, _, _, _, _, _, _, sOd_at, ?_⟩
            have hx6 := ex6.mp c6
            refine hmR _ (fun _ => ⟨fun _ => ⟨fun _ => ⟨rfl, ?_⟩, fun q => absurd (lx6.mpr (by omega)) q⟩, fun q => absurd (hltG.mpr hjG) q⟩) (fun q => absurd c q)
            exact ⟨hI, hM0, zX_SlOd hz hr, rfl, rfl, rfl, rfl, rfl, rfl, rfl⟩
        · refine pX0_isGiving_n hL hG12 (fun q => ?_) ?_
          · obtain ⟨j2, hj2, ej2⟩ := q
            have := (n_eqI (by omega) (by omega)).mp ej2
            omega
          · unfold wbX0_taken_51
            refine p_need_n hz ⟨RZ_F hz, _, _, _, _, _, _, _, sOd_at, hmR _ (fun _ => ⟨fun q => absurd (hltG.mp q) hjG, fun _ => ⟨rfl, OK3_od hz hI hM0⟩⟩) (fun q => absurd c q)⟩
      · -- a town
        have hi6 : i < 6 := by
          have : ¬ 6 ≤ i := fun z => c (li6.mpr z)
          omega
        have hltT : (Int32.ofNat i < g 99 0) ↔ i < T := by rw [hT]; exact n_ltI (by omega) (by omega)
        by_cases hiT : i < T
        · refine pX0_isTown_y hTX hT6 hiT ?_
          unfold wbX0_taken_51
          refine p_need_y (by decide) ⟨S, rfl, RZ_bud hz (by decide), RZ_F hz, fun a29 f30 e29 e30 => ⟨fun q => absurd q c, fun _ => ⟨n_in hi6 (by decide), ?_⟩⟩⟩
          subst e29
          subst e30
          have esz : (xNew S (.inr (15, vp_V [.null])) 1).1 0 (Int32.toNatClampNeg (Int32.ofNat i)) = g 1 i := by
            rw [n_clamp (by omega)]
            exact hI.2.1.1 i hi6
          rw [esz]
          obtain ⟨l1, u1⟩ := hm1 i hi6
          obtain ⟨v, hv, ev⟩ := bN_of (m := 99) l1 u1 (by decide)
          rw [ev]
          unfold wJ18_valueOf
          have e128 : Int32.ofNat v + 128 = Int32.ofNat (v + 128) := n_add (b := 128)
          rw [e128, n_clamp (by omega)]
          refine ⟨fun q => ?_, fun _ => ⟨fun q => ?_, fun _ => ⟨n_in (by omega) (by decide), _, rfl, ?_⟩⟩⟩
          · have := i_lt.mp q
            rw [n_toInt (by omega), show (-128 : Int32).toInt = -128 by decide] at this
            omega
          · have := i_lt.mp q
            rw [n_toInt (by omega), show (127 : Int32).toInt = 127 by decide] at this
            omega
          generalize hk : v + 128 = k
          have hk256 : k < 256 := by omega
          unfold wbX0_taken_89
          refine p_slot hz ⟨sSl S (ad (1000 + k)), rfl, ?_⟩
          have hF := RZ_F hz
          have hsl' : (wX o cs (sSl S (ad (1000 + k)))).1 S.2.2.2.1 = some (.inr (15, vp_V [.ref (ad (1000 + k))])) := (wX_at hF).trans sSl_at
          refine ⟨fun c6 => ⟨hF, _, sSl_at, Or.inl ⟨_, hsl', k, rfl, hk256, fun _ => ?_, fun q => absurd rfl q⟩⟩, fun c6 => ⟨hF, _, sSl_at, Or.inl ⟨_, hsl', k, rfl, hk256, fun q => absurd q (by decide), fun _ => ⟨k, rfl, hk256, hk256, hk256, sSl S (ad (1000 + k)), rfl, ?_⟩⟩⟩⟩
          · refine p_throw (X := fun a_86 f_85 => xF o a_86 ∧ ∃ (v1 v2 v3 v4 v5 : Value) (y y' : Int32), f_85.2.2.1 a_86 = some (.inr (14, vp_V [v1, v2, v3, v4, v5, .int y, .int y'])) ∧ wX7_taken g (Int32.ofNat i) (Int32.ofNat x) (fun r' g' => y' = r' ∧ OK3 S g f_85 g')) (hz1 _) ⟨RZ_F (hz1 _), _, _, _, _, _, _, _, sOd_at, ?_⟩
            refine hmR _ (fun q => absurd q c) (fun _ => ⟨fun _ => ⟨fun _ => ⟨rfl, ?_⟩, fun q => absurd q c6⟩, fun q => absurd (hltT.mpr hiT) q⟩)
            exact ⟨hI, hM0, zX_SlOd hz hr, rfl, rfl, rfl, rfl, rfl, rfl, rfl⟩
          · refine hmR _ (fun q => absurd q c) (fun _ => ⟨fun _ => ⟨fun q => absurd c6 q, fun _ => ⟨n_in hi6 (by decide), ?_, ?_⟩⟩, fun q => absurd (hltT.mpr hiT) q⟩)
            · rw [n_clamp (by omega), ev]
              unfold vb_c
              rw [← hk]
              have := n_sub (a := v + 128) (b := 128) (by omega)
              rw [show v + 128 - 128 = v by omega] at this
              exact this
            · exact ⟨hI, hM0, zX_Sl hz, rfl, rfl, rfl, rfl, rfl, rfl, rfl⟩
        · refine pX0_isTown_n hTX hT6 (fun q => ?_) ?_
          · obtain ⟨j2, hj2, ej2⟩ := q
            have := (n_eqI (by omega) (by omega)).mp ej2
            omega
          · unfold wbX0_taken_51
            refine p_need_n hz ⟨RZ_F hz, _, _, _, _, _, _, _, sOd_at, hmR _ (fun q => absurd q c) (fun _ => ⟨fun q => absurd (hltT.mp q) hiT, fun _ => ⟨rfl, OK3_od hz hI hM0⟩⟩)⟩
    · refine pX0_in_n g17 (by decide) hi (p_need_n hz ⟨RZ_F hz, _, _, _, _, _, _, _, sOd_at, ?_⟩)
      unfold wX7_taken
      exact pX7_in_y f6 (by decide) (by omega) (w1 (pX7_in_n f17 (by decide) hi (w0 ⟨rfl, OK3_od hz hI hM0⟩)))
  · refine pX0_in_n g6 (by decide) hy (w0 ?_)
    unfold wX7_taken
    exact pX7_in_n f6 (by decide) hy (w0 ⟨rfl, hO⟩)
end
