/-! PLAIN LAYER: judge, hurt -/
set_option maxRecDepth 100000
section
variable {b o : Nat} {cs ad : Nat → Nat} {vs : Nat → Option Nat} {S : XS} {g : St} {T w : Nat}
theorem m_lay {i wk F : Nat} {Q : St → Prop} {f : St} (hT : g 99 0 = Int32.ofNat T) (hT6 : T ≤ 6) (hw : g 99 6 = Int32.ofNat w) (hw2 : 2 ≤ w) (hw7 : w ≤ 7) (hF : g 99 7 = Int32.ofNat F) (hF10 : F ≤ 10) (hi : i < 12) (hr : mR g f) (h : ∀ g2, (∀ r, r ≠ 52 → g2 r = f r) → (∀ t, t < T → g2 52 t = HP g i wk t) → Q g2) : wX7_laysNow f (Int32.ofNat i) (Int32.ofNat wk) Q := by
  have e99 := mR_99 hr
  have hw0 : ¬ f 99 6 = 0 := by
    rw [e99, hw]
    intro q
    have := (n_eqI (a := w) (b := 0) (by omega) (by decide)).mp q
    omega
  refine pX7_laysNow (T := T) (F := F) (by rw [e99]; exact hT) hT6 hi hw0 (by rw [e99]; exact hF) hF10 (h _ (fun r hr => updR_n hr) (fun t ht => ?_))
  rw [updR_s]
  unfold nowV cp
  rw [if_pos ht]
  exact marketV_congr (hr 8 (by decide) (by decide) (by decide) (by decide) (by decide)) (hr 9 (by decide) (by decide) (by decide) (by decide) (by decide)) (hr 17 (by decide) (by decide) (by decide) (by decide) (by decide)) (hr 18 (by decide) (by decide) (by decide) (by decide) (by decide)) (hr 19 (by decide) (by decide) (by decide) (by decide) (by decide)) e99
theorem m_sl {i wk F : Nat} {Q : St → Prop} (hT : g 99 0 = Int32.ofNat T) (hT6 : T ≤ 6) (hw : g 99 6 = Int32.ofNat w) (hw2 : 2 ≤ w) (hw7 : w ≤ 7) (hF : g 99 7 = Int32.ofNat F) (hF10 : F ≤ 10) (hi : i < 12) (h : ∀ g2, mR g g2 → g2 39 = farF T (g 5) (g 39) → (∀ t, t < T → g2 52 t = HP g i wk t) → Q g2) : wX7_spreads g (fun f => wX7_laysNow f (Int32.ofNat i) (Int32.ofNat wk) Q) := by
  refine pX7_spreads hT hT6 ?_
  have hr : mR g (updR g 39 (farF T (g 5) (g 39))) := fun r h1 _ _ _ _ => updR_n h1
  refine m_lay hT hT6 hw hw2 hw7 hF hF10 hi hr (fun g2 h1 h2 => h g2 (fun r q1 q2 q3 q4 q5 => (h1 r q5).trans (hr r q1 q2 q3 q4 q5)) ?_ h2)
  rw [h1 39 (by decide), updR_s]
theorem x_lay {i a k n wk F : Nat} {D : Nat → Int32} {f : XS} {Q : XS → Prop} (hI : RI S.1 g) (hg : gvAt o cs S.2.2.1 g i a k n D) (hT : g 99 0 = Int32.ofNat T) (hT6 : T ≤ 6) (hw : g 99 6 = Int32.ofNat w) (hw2 : 2 ≤ w) (hw7 : w ≤ 7) (hF : g 99 7 = Int32.ofNat F) (hF10 : F ≤ 10) (hx : xS S f) (h : ∀ f', xS S f' → (∀ t, t < T → f'.1 14 t = HP g i wk t) → Q f') : wX0_looks b cs ad vs o f a (Int32.ofNat wk) Q := by
  have hIf := xS_RI hx hI
  have hgf : gvAt o cs f.2.2.1 g i a k n D := by rw [xS_2 hx]; exact hg
  refine pX0_looks hgf (RI_fs hIf) (hIf.1.1.trans hT) hT6 hw hw2 hw7 hF hF10 (h _ ?_ ?_)
  · exact xS_of (fun q h1 h2 => by
      show updR f.1 14 _ q = _
      rw [updR_n h2]
      exact xS_n hx h1 h2) (show f.2 = S.2 from xS_2 hx)
  · intro t ht
    show updR f.1 14 (cp (fun t => marketV g i t (Int32.ofNat wk)) (f.1 14) T) 14 t = _
    rw [updR_s]
    unfold cp
    rw [if_pos ht]
    rfl
theorem gv_kk {i a a' k k' n n' : Nat} {D D' : Nat → Int32} {Z : cP} (h : gvAt o cs Z g i a k n D) (h' : gvAt o cs Z g i a' k' n' D') : k = k' := by
  have e := h.2.2.2.2.1.symm.trans h'.2.2.2.2.1
  have h1 := h.2.1
  have h2 := h'.2.1
  exact (n_eqI (by omega) (by omega)).mp e
/-- worthAt behind looks -/
theorem x_wa {i a k n r t : Nat} {D H : Nat → Int32} {l : List Nat} {far : Nat → Int32} {f : XS} {Q : Int32 → XS → Prop} (hI : RI S.1 g) (hg : gvAt o cs S.2.2.1 g i a k n D) (hc : dxR o cs S g r l) (hT : g 99 0 = Int32.ofNat T) (hT6 : T ≤ 6) (hw : g 99 6 = Int32.ofNat w) (hw2 : 2 ≤ w) (hw7 : w ≤ 7) (ht : t < T) (hfar : ∀ a c, a < T → c < T → S.1 5 (6 * a + c) = far (6 * a + c)) (hx : xS S f) (hH : ∀ o, o < T → hd w (H o)) (h14 : ∀ t, t < T → f.1 14 t = H t) (h : ∀ f', xS S f' → (∀ t, t < T → f'.1 14 t = H t) → Q (waV g l far H T w k t) f') : wX0_worthAt b cs ad vs o f a (Int32.ofNat t) Q := by
  have hIf := xS_RI hx hI
  have hgf : gvAt o cs f.2.2.1 g i a k n D := by rw [xS_2 hx]; exact hg
  refine pX0_worthAt (far := far) hgf (dxR_S hx hc) (hIf.1.1.trans hT) hT6 hw hw2 hw7 ht (fun o ho => by rw [h14 o ho]; exact hH o ho) (fun a c h1 h2 => by rw [xS_n hx (show (5 : Nat) ≠ 12 by decide) (by decide)]; exact hfar a c h1 h2) (fun f' hx' h14' => ?_)
  rw [waV_congr ht (fun _ _ _ _ => rfl) h14]
  exact h f' (hx.tr hx') (fun t ht => by rw [h14']; exact h14 t ht)
theorem op_judge (hI : RI S.1 g) (hM : MI g) (hR : RT o cs S g) (hG : GL o cs ad S g) (x y z : Int32) : wX0_judge b cs ad vs o S x y z (fun r S' => wX7_judge g x y z (fun r' g' => r = r' ∧ OK1 S g S' g')) := by
  have hO := OK1.rf hI hM
  have hM0 := hM
  obtain ⟨r, l, hcx, hpl⟩ := dxr_of hI hM hR
  obtain ⟨G, hG12, eG, hL⟩ := hG
  obtain ⟨⟨⟨T, hT6, hT⟩, ⟨w, hw2, hw7, hw⟩, ⟨F, hF10, hF⟩, -⟩, -⟩ := hM
  have hTX : S.1 99 6 = Int32.ofNat T := hI.1.1.trans hT
  have hfar : ∀ a c, a < T → c < T → S.1 5 (6 * a + c) = farF T (g 5) (g 39) (6 * a + c) := fun a c h1 h2 => far_eq hI hM0 hT hT6 h1 h2
  have eT : ((Int32.ofNat T).toInt64 - 1).toInt = (T : Int) - 1 := by
    rw [Int64.toInt_sub, l_of, n_toInt (by omega), show (1 : Int64).toInt = 1 by decide]
    exact Int.bmod_eq_of_le (by omega) (by omega)
  unfold wX0_judge
  by_cases hx : isN x G
  · obtain ⟨i, hi, rfl⟩ := hx
    refine pX0_isGiving_y hL hG12 hi (w1' ?_)
    by_cases hy : isN y 100
    · obtain ⟨wk, hwk, rfl⟩ := hy
      refine pX0_isWeek_y hwk (w1' (pX0_in ?_))
      rw [hTX, eT, l_of, show (-1 : Int64).toInt = -1 by decide]
      have hin12 : vp_in (Int32.ofNat i) 12 := n_in (by omega) (by decide)
      -- the reference behind its tests
      have hm32 : ∀ k : Nat, g 17 i = Int32.ofNat k → k < 6 → ∀ S' : XS, xS S S' → ∀ v : Int64, (z = -1 ∧ v = (saN (waV g l (farF T (g 5) (g 39)) (HP g i wk) T w k) (-1) T).toInt64 ∨ ∃ t, t < T ∧ z = Int32.ofNat t ∧ v = (waV g l (farF T (g 5) (g 39)) (HP g i wk) T w k t).toInt64) → wbX7_judge_32 (fun r' g' => v = r' ∧ OK1 S g S' g') (Int32.ofNat i) (Int32.ofNat wk) z g := by
        intro k h17 hk S' hxS v hv
        unfold wbX7_judge_32
        refine m_sl hT hT6 hw hw2 hw7 hF hF10 (by omega) (fun g2 hr2 h39 h52 => ?_)
        have e17 : g2 17 i = Int32.ofNat k := by rw [hr2 17 (by decide) (by decide) (by decide) (by decide) (by decide)]; exact h17
        rw [n_clamp (by omega), e17]
        refine ⟨fun q => ?_, fun q => ?_⟩
        · obtain ⟨hz, -⟩ | ⟨t, ht, hz, hv⟩ := hv
          · exact absurd hz q
          · subst hz
            refine ⟨hin12, pX7_worthIn hk hr2 hpl hT hT6 hw hw2 hw7 ht (fun f hf => ⟨?_, OK1_S hI hM0 hxS (mR_S (mRQ hr2 hf))⟩)⟩
            rw [hv, h39, waV_congr ht (fun _ _ _ _ => rfl) h52]
        · obtain ⟨hz, hv⟩ | ⟨t, ht, hz, hv⟩ := hv
          · refine ⟨hin12, pX7_worthAll hk hr2 hpl hT hT6 hw hw2 hw7 (fun f hf => ⟨?_, OK1_S hI hM0 hxS (mR_S (mRQ hr2 hf))⟩)⟩
            rw [hv, h39, saN_congr (N := T) (fun n hn => waV_congr hn (fun _ _ _ _ => rfl) h52) T (Nat.le_refl _)]
          · rw [hz] at q
            have := congrArg Int32.toInt q
            rw [n_toInt (by omega), im1] at this
            omega
      by_cases hz1 : z = -1
      · rw [if_pos (by rw [hz1, im1]; omega)]
        refine w1 (pX_get hL hG12 hi (fun a k n D hg => ?_))
        have hH : ∀ o, o < T → hd w (HP g i wk o) := fun o ho => hd_market hg hM0 (by omega) hw hw2 hw7 (by omega)
        refine x_lay hI hg hT hT6 hw hw2 hw7 hF hF10 xS.rf (fun f hxf h14 => ⟨fun _ => ?_, fun q => absurd hz1 q⟩)
        refine ijX0_judge_83_6 T 0 (by omega) (by omega) (fun n x1 x4 f => x1 = Int32.ofNat i ∧ x4 = saL (waV g l (farF T (g 5) (g 39)) (HP g i wk) T w k) (-1) n ∧ xS S f ∧ ∀ t, t < T → f.1 14 t = HP g i wk t) ?_ _ _ _ ⟨rfl, rfl, hxf, h14⟩
        intro K j x1 x4 f2 _ hj hP hK
        obtain ⟨rfl, rfl, hx2, h142⟩ := hP
        unfold wbX0_judge_83
        rw [(xS_RI hx2 hI).1.1, hT]
        refine w_upto (by omega) hj (fun q => ?_) (fun hlt => ?_)
        · subst q
          unfold wX7_judge
          refine pX7_isGiving_y eG hG12 hi (w1' (pX7_isWeek_y hwk (w1' ⟨fun _ => hm32 k hg.2.2.2.2.1 hg.2.1 f2 hx2 _ (Or.inl ⟨hz1, ?_⟩), fun q => absurd hz1 q⟩)))
          exact (saN_L hT6 (fun n _ => waV_in hw7)).symm
        · have hL2 : GLn o cs ad f2.2.2.1 g G := by rw [xS_2 hx2]; exact hL
          refine pX_get hL2 hG12 hi (fun a' k' n' D' hg' => ?_)
          have hg'' : gvAt o cs S.2.2.1 g i a' k' n' D' := by rw [← xS_2 hx2]; exact hg'
          have ek := gv_kk hg hg''
          subst ek
          refine x_wa hI hg'' hcx hT hT6 hw hw2 hw7 hlt hfar hx2 hH h142 (fun f3 hx3 h143 x4 e4 x6 e6 => ?_)
          rw [n_suc] at e6
          subst e6
          refine hK _ _ _ hlt ⟨rfl, ?_, hx3, h143⟩
          have hne : ¬ Int32.ofNat j = -1 := by
            intro q
            have := congrArg Int32.toInt q
            rw [n_toInt (by omega), im1] at this
            omega
          show _ = if Int32.ofNat j = -1 then _ else _
          rw [if_neg hne, e4]
      · by_cases hz : isN z T
        · obtain ⟨t, ht, rfl⟩ := hz
          rw [if_pos (by rw [n_toInt (by omega)]; omega)]
          refine w1 (pX_get hL hG12 hi (fun a k n D hg => ?_))
          have hH : ∀ o, o < T → hd w (HP g i wk o) := fun o ho => hd_market hg hM0 (by omega) hw hw2 hw7 (by omega)
          refine x_lay hI hg hT hT6 hw hw2 hw7 hF hF10 xS.rf (fun f hxf h14 => ⟨fun q => absurd q hz1, fun _ => ?_⟩)
          have hL2 : GLn o cs ad f.2.2.1 g G := by rw [xS_2 hxf]; exact hL
          refine (pX_get hL2 hG12 hi (fun a' k' n' D' hg' => ?_)).2
          have hg'' : gvAt o cs S.2.2.1 g i a' k' n' D' := by rw [← xS_2 hxf]; exact hg'
          refine x_wa hI hg'' hcx hT hT6 hw hw2 hw7 ht hfar hxf hH h14 (fun f3 hx3 h143 => ?_)
          unfold wX7_judge
          exact pX7_isGiving_y eG hG12 hi (w1' (pX7_isWeek_y hwk (w1' ⟨fun q => absurd q hz1, fun _ => pX7_isTown_y hT hT6 ht (w1 (hm32 k' hg''.2.2.2.2.1 hg''.2.1 f3 hx3 _ (Or.inr ⟨t, ht, rfl, rfl⟩)))⟩)))
        · have hno : ¬ (-1 ≤ z.toInt ∧ z.toInt ≤ (T : Int) - 1) := by
            intro q
            have h0 : z.toInt ≠ -1 := fun e => hz1 (i_eq.mpr (by rw [e, im1]))
            exact hz ((isN_of (by omega)).mp (by omega))
          rw [if_neg hno]
          refine w0 ?_
          unfold wX7_judge
          exact pX7_isGiving_y eG hG12 hi (w1' (pX7_isWeek_y hwk (w1' ⟨fun q => absurd q hz1, fun _ => pX7_isTown_n hT hT6 hz (w0 ⟨rfl, hO⟩)⟩)))
    · refine pX0_isWeek_n hy (w0' ?_)
      unfold wX7_judge
      exact pX7_isGiving_y eG hG12 hi (w1' (pX7_isWeek_n hy (w0' ⟨rfl, hO⟩)))
  · refine pX0_isGiving_n hL hG12 hx (w0' ?_)
    unfold wX7_judge
    exact pX7_isGiving_n eG hG12 hx (w0' ⟨rfl, hO⟩)
end
