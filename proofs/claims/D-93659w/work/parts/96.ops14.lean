/-! PLAIN LAYER: hurt, room -/
set_option maxRecDepth 100000
theorem n_min {a c : Nat} (ha : a < 2147483648) (hc : c < 2147483648) : i_min (Int32.ofNat a) (Int32.ofNat c) = Int32.ofNat (min a c) := by
  rw [i_min_of]
  by_cases h : a ≤ c
  · rw [if_pos ((n_leI ha hc).mpr h), Nat.min_eq_left h]
  · rw [if_neg (fun q => h ((n_leI ha hc).mp q)), Nat.min_eq_right (by omega)]
theorem n_max {a c : Nat} (ha : a < 2147483648) (hc : c < 2147483648) : i_max (Int32.ofNat a) (Int32.ofNat c) = Int32.ofNat (max a c) := by
  have e : i_max (Int32.ofNat a) (Int32.ofNat c) = if Int32.ofNat a < Int32.ofNat c then Int32.ofNat c else Int32.ofNat a := rfl
  rw [e]
  by_cases h : a < c
  · rw [if_pos ((n_ltI ha hc).mpr h), Nat.max_eq_right (by omega)]
  · rw [if_neg (fun q => h ((n_ltI ha hc).mp q)), Nat.max_eq_left (by omega)]
section
variable {b o : Nat} {cs ad : Nat → Nat} {vs : Nat → Option Nat} {S : XS} {g : St} {T w : Nat}
theorem op_hurt (hI : RI S.1 g) (hM : MI g) (hR : RT o cs S g) (hG : GL o cs ad S g) (x y z : Int32) : wX0_hurt b cs ad vs o S x y z (fun r S' => wX7_hurt g x y z (fun r' g' => r = r' ∧ OK1 S g S' g')) := by
  have hO := OK1.rf hI hM
  have hM0 := hM
  obtain ⟨r, l, hcx, hpl⟩ := dxr_of hI hM hR
  obtain ⟨G, hG12, eG, hL⟩ := hG
  obtain ⟨⟨⟨T, hT6, hT⟩, ⟨w, hw2, hw7, hw⟩, ⟨F, hF10, hF⟩, -⟩, -⟩ := hM
  have hTX : S.1 99 6 = Int32.ofNat T := hI.1.1.trans hT
  have hfar : ∀ a c, a < T → c < T → S.1 5 (6 * a + c) = farF T (g 5) (g 39) (6 * a + c) := fun a c h1 h2 => far_eq hI hM0 hT hT6 h1 h2
  unfold wX0_hurt
  by_cases hx : isN x G
  · obtain ⟨i, hi, rfl⟩ := hx
    refine pX0_isGiving_y hL hG12 hi (w1' ?_)
    by_cases hy : isN y T
    · obtain ⟨t, ht, rfl⟩ := hy
      refine pX0_isTown_y hTX hT6 ht (w1' ?_)
      by_cases hz : isN z 100
      · obtain ⟨wk, hwk, rfl⟩ := hz
        refine pX0_isWeek_y hwk (w1 (pX_get hL hG12 hi (fun a k n D hg => ?_)))
        have hk6 := hg.2.1
        have h17 := hg.2.2.2.2.1
        have hin12 : vp_in (Int32.ofNat i) 12 := n_in (by omega) (by decide)
        have hint : vp_in (Int32.ofNat t) 6 := n_in (by omega) (by decide)
        generalize hH0 : HP g i wk = H
        have hH : ∀ o, o < T → hd w (H o) := fun o ho => by rw [← hH0]; exact hd_market hg hM0 (by omega) hw hw2 hw7 (by omega)
        generalize hH2 : (fun q => if q = t then (0 : Int32) else H q) = H2
        have hHd2 : ∀ o, o < T → hd w (H2 o) := by
          intro o ho
          rw [← hH2]
          show hd w (if o = t then 0 else H o)
          by_cases e : o = t
          · rw [if_pos e]; exact hd0
          · rw [if_neg e]; exact hH o ho
        generalize hFF : farF T (g 5) (g 39) = FF at hfar
        generalize hV : waV g l FF H T w k = V
        generalize hV2 : waV g l FF H2 T w k = V2
        have hVb : ∀ n, n < T → -8000 ≤ (V n).toInt ∧ (V n).toInt ≤ 8000 := fun n _ => by rw [← hV]; exact waV_in hw7
        have hVb2 : ∀ n, n < T → -8000 ≤ (V2 n).toInt ∧ (V2 n).toInt ≤ 8000 := fun n _ => by rw [← hV2]; exact waV_in hw7
        refine x_lay hI hg hT hT6 hw hw2 hw7 hF hF10 xS.rf (fun f hxf h14 => ?_)
        rw [hH0] at h14
        refine ijX0_hurt_54_7 T 0 (by omega) (by omega) (fun n x2 x4 x5 f => x2 = Int32.ofNat t ∧ a = x4 ∧ x5 = saL V (Int32.ofNat t) n ∧ xS S f ∧ ∀ t, t < T → f.1 14 t = H t) ?_ _ _ _ _ ⟨rfl, rfl, rfl, hxf, h14⟩
        intro K j x2 x4 x5 f2 _ hj hP hK
        obtain ⟨rfl, rfl, rfl, hx2, h142⟩ := hP
        unfold wbX0_hurt_54
        rw [(xS_RI hx2 hI).1.1, hT]
        refine w_upto (by omega) hj (fun q => ?_) (fun hlt => ⟨fun q => ?_, fun q => ?_⟩)
        · subst q
          refine ⟨hint, fun f23 e23 => ?_⟩
          rw [n_clamp (n := t) (by omega)] at e23
          have hx23 : xS S f23 := xS_of (fun q h1 h2 => by
            rw [e23]
            show upd2 f2.1 14 t 0 q = _
            rw [upd2_o h2]
            exact xS_n hx2 h1 h2) (by rw [e23]; show f2.2 = S.2; exact xS_2 hx2)
          have h1423 : ∀ q, q < j → f23.1 14 q = H2 q := by
            intro q hq
            rw [e23, ← hH2]
            show upd2 f2.1 14 t 0 14 q = if q = t then 0 else H q
            rw [upd2_at, h142 q hq]
          refine ijX0_hurt_102_9 j 0 (by omega) (by omega) (fun n x2 x4 x5 x7 f => x2 = Int32.ofNat t ∧ a = x4 ∧ x5 = saL V (Int32.ofNat t) j ∧ x7 = saL V2 (Int32.ofNat t) n ∧ xS S f ∧ ∀ t, t < j → f.1 14 t = H2 t) ?_ _ _ _ _ _ ⟨rfl, rfl, rfl, rfl, hx23, h1423⟩
          intro K2 j2 x2 x4 x5 x7 f3 _ hj2 hP hK2
          obtain ⟨rfl, rfl, rfl, rfl, hx3, h143⟩ := hP
          unfold wbX0_hurt_102
          rw [(xS_RI hx3 hI).1.1, hT]
          refine w_upto (by omega) hj2 (fun q => ?_) (fun hlt => ⟨fun q => ?_, fun q => ?_⟩)
          · subst q
            unfold wX7_hurt
            refine pX7_isGiving_y eG hG12 hi (w1' (pX7_isTown_y hT hT6 ht (w1' (pX7_isWeek_y hwk (w1 ?_)))))
            refine m_sl hT hT6 hw hw2 hw7 hF hF10 (by omega) (fun g2 hr2 h39 h52 => ?_)
            rw [hFF] at h39
            rw [hH0] at h52
            have e17 : g2 17 i = Int32.ofNat k := by rw [hr2 17 (by decide) (by decide) (by decide) (by decide) (by decide)]; exact h17
            rw [n_clamp (n := i) (by omega), e17]
            refine ⟨hin12, pX7_worthAll hk6 hr2 hpl hT hT6 hw hw2 hw7 (fun g3 hq3 => ⟨hint, fun g4 e4 => ?_⟩)⟩
            rw [n_clamp (n := t) (by omega)] at e4
            have hr3 := mRQ hr2 hq3
            have hr4 : mR g g4 := fun q a1 a2 a3 a4 a5 => by rw [e4, upd2_o a5]; exact hr3 q a1 a2 a3 a4 a5
            have e17' : g4 17 i = Int32.ofNat k := by rw [hr4 17 (by decide) (by decide) (by decide) (by decide) (by decide)]; exact h17
            have h394 : g4 39 = FF := by rw [e4, upd2_o (by decide), hq3 39 (by decide) (by decide)]; exact h39
            have h524 : ∀ q, q < j2 → g4 52 q = H2 q := by
              intro q hq
              rw [e4, upd2_at, hq3 52 (by decide) (by decide), h52 q hq, ← hH2]
            rw [e17']
            refine ⟨hin12, pX7_worthAll hk6 hr4 hpl hT hT6 hw hw2 hw7 (fun g5 hq5 => ⟨?_, OK1_S hI hM0 hx3 (mR_S (mRQ hr4 hq5))⟩)⟩
            rw [h39, h394, saN_congr (N := j2) (V := waV g l FF (g2 52) j2 w k) (V' := V) (fun n hn => by rw [← hV]; exact waV_congr hn (fun _ _ _ _ => rfl) h52) j2 (Nat.le_refl _), saN_congr (N := j2) (V := waV g l FF (g4 52) j2 w k) (V' := V2) (fun n hn => by rw [← hV2]; exact waV_congr hn (fun _ _ _ _ => rfl) h524) j2 (Nat.le_refl _)]
            apply Int64.toInt_inj.mp
            have b1 := saI_in (but := Int32.ofNat t) hVb j2 (Nat.le_refl _)
            have b2 := saI_in (but := Int32.ofNat t) hVb2 j2 (Nat.le_refl _)
            have c1 := saN_I (but := Int32.ofNat t) hT6 hVb j2 (Nat.le_refl _)
            have c2 := saN_I (but := Int32.ofNat t) hT6 hVb2 j2 (Nat.le_refl _)
            rw [l_of, i_sub (by omega) (by omega), c1, c2, Int64.toInt_sub, saL_I hT6 hVb j2 (Nat.le_refl _), saL_I hT6 hVb2 j2 (Nat.le_refl _)]
            exact Int.bmod_eq_of_le (by omega) (by omega)
          · intro x9 e9
            rw [n_suc] at e9
            subst e9
            refine hK2 _ _ _ _ _ hlt ⟨rfl, rfl, rfl, ?_, hx3, h143⟩
            show _ = if Int32.ofNat j2 = _ then _ else _
            rw [if_pos q]
          · refine x_wa hI hg hcx hT hT6 hw hw2 hw7 hlt hfar hx3 hHd2 h143 (fun f4 hx4 h144 x7 e7 => ?_)
            intro x9 e9
            rw [n_suc] at e9
            subst e9
            refine hK2 _ _ _ _ _ hlt ⟨rfl, rfl, rfl, ?_, hx4, h144⟩
            show _ = if Int32.ofNat j2 = _ then _ else _
            rw [if_neg q, e7, hV2]
        · intro x9 e9
          rw [n_suc] at e9
          subst e9
          refine hK _ _ _ _ hlt ⟨rfl, rfl, ?_, hx2, h142⟩
          show _ = if Int32.ofNat j = _ then _ else _
          rw [if_pos q]
        · refine x_wa hI hg hcx hT hT6 hw hw2 hw7 hlt hfar hx2 hH h142 (fun f4 hx4 h144 x7 e7 => ?_)
          intro x9 e9
          rw [n_suc] at e9
          subst e9
          refine hK _ _ _ _ hlt ⟨rfl, rfl, ?_, hx4, h144⟩
          show _ = if Int32.ofNat j = _ then _ else _
          rw [if_neg q, e7, hV]
      · refine pX0_isWeek_n hz (w0 ?_)
        unfold wX7_hurt
        exact pX7_isGiving_y eG hG12 hi (w1' (pX7_isTown_y hT hT6 ht (w1' (pX7_isWeek_n hz (w0 ⟨rfl, hO⟩)))))
    · refine pX0_isTown_n hTX hT6 hy (w0' ?_)
      unfold wX7_hurt
      exact pX7_isGiving_y eG hG12 hi (w1' (pX7_isTown_n hT hT6 hy (w0' ⟨rfl, hO⟩)))
  · refine pX0_isGiving_n hL hG12 hx (w0' ?_)
    unfold wX7_hurt
    exact pX7_isGiving_n eG hG12 hx (w0' ⟨rfl, hO⟩)
/-- whether none bars, of the first n -/
def flB (B : Nat → Int32) : Nat → Bool
  | 0 => true
  | n + 1 => flB B n && decide (B n = 0)
def fl1 (c : Bool) : Int32 := if c = true then 1 else 0
/-- the days that a town could have -/
def rmN (B : Nat → Nat → Int32) (T : Nat) : Nat → Int32
  | 0 => 0
  | d + 1 => rmN B T d ||| (if flB (B d) T = true then i_shl 1 (Int32.ofNat d) else 0)
theorem fl1_0 {c : Bool} : fl1 c = 0 ↔ c = false := by
  cases c
  · exact ⟨fun _ => rfl, fun _ => rfl⟩
  · exact ⟨fun q => absurd q (by decide), fun q => absurd q (by decide)⟩
theorem op_room (hI : RI S.1 g) (hM : MI g) (hR : RT o cs S g) (hG : GL o cs ad S g) (x y z : Int32) : wX0_room b cs ad vs o S x y z (fun r S' => wX7_room g x y z (fun r' g' => r = r' ∧ OK1 S g S' g')) := by
  have hO := OK1.rf hI hM
  have hM0 := hM
  obtain ⟨r, l, hcx, hpl⟩ := cxr_of hI hM hR
  obtain ⟨G, hG12, eG, hL⟩ := hG
  obtain ⟨⟨⟨T, hT6, hT⟩, ⟨w, hw2, hw7, hw⟩, ⟨F, hF10, hF⟩, -⟩, -⟩ := hM
  have hTX : S.1 99 6 = Int32.ofNat T := hI.1.1.trans hT
  have hfar : ∀ a c, a < T → c < T → S.1 5 (6 * a + c) = farF T (g 5) (g 39) (6 * a + c) := fun a c h1 h2 => far_eq hI hM0 hT hT6 h1 h2
  unfold wX0_room
  by_cases hx : isN x G
  · obtain ⟨i, hi, rfl⟩ := hx
    refine pX0_isGiving_y hL hG12 hi (w1' ?_)
    by_cases hy : isN y T
    · obtain ⟨t, ht, rfl⟩ := hy
      refine pX0_isTown_y hTX hT6 ht (w1' ?_)
      by_cases hz : isN z 100
      · obtain ⟨wk, hwk, rfl⟩ := hz
        refine pX0_isWeek_y hwk (w1 (pX_get hL hG12 hi (fun a k n D hg => ?_)))
        have hint : vp_in (Int32.ofNat t) 6 := n_in (by omega) (by decide)
        generalize hH0 : HP g i wk = H
        have hH : ∀ o, o < T → hd w (H o) := fun o ho => by rw [← hH0]; exact hd_market hg hM0 (by omega) hw hw2 hw7 (by omega)
        generalize hFF : farF T (g 5) (g 39) = FF at hfar
        generalize hHd : (fun (d q : Nat) => if q = t then i_shl 1 (Int32.ofNat d) else H q) = Hd
        have eHd : ∀ d q, Hd d q = if q = t then i_shl 1 (Int32.ofNat d) else H q := fun d q => by rw [← hHd]
        have hHhd : ∀ d, d < w → ∀ q, q < T → hd w (Hd d q) := by
          intro d hd' q hq
          rw [eHd]
          by_cases e : q = t
          · rw [if_pos e]; exact hd_shl hw7 hd'
          · rw [if_neg e]; exact hH q hq
        generalize hB : (fun (d q : Nat) => bA g l FF (Hd d) (min q t) (max q t)) = B
        have eB : ∀ d q, bA g l FF (Hd d) (min q t) (max q t) = B d q := fun d q => by rw [← hB]
        refine x_lay hI hg hT hT6 hw hw2 hw7 hF hF10 xS.rf (fun f hxf h14 => ?_)
        rw [hH0] at h14
        refine ijX0_room_49_5 w 0 (by omega) (by omega) (fun d x2 x4 f => x2 = Int32.ofNat t ∧ x4 = rmN B T d ∧ xS S f ∧ ∀ q, q < T → q ≠ t → f.1 14 q = H q) ?_ _ _ _ ⟨rfl, rfl, hxf, fun q hq _ => h14 q hq⟩
        intro K d x2 x4 f2 _ hd' hP hK
        obtain ⟨rfl, rfl, hx2, h142⟩ := hP
        unfold wbX0_room_49
        rw [(xS_RI hx2 hI).1.2.1, hw]
        refine w_upto (by omega) hd' (fun q => ?_) (fun hlt => ⟨hint, fun f3 e3 => ?_⟩)
        · subst q
          unfold wX7_room
          refine pX7_isGiving_y eG hG12 hi (w1' (pX7_isTown_y hT hT6 ht (w1' (pX7_isWeek_y hwk (w1 ?_)))))
          refine pX7_looks hT hT6 hpl (fun g1 hlk => ?_)
          have hr1 : mR g g1 := fun q a1 a2 a3 a4 _ => hlk.1 q a1 a2 a3 a4
          have h391 : g1 39 = FF := hlk.2.1.trans hFF
          refine m_lay hT hT6 hw hw2 hw7 hF hF10 (by omega) hr1 (fun g2 h2 h52 => ?_)
          rw [hH0] at h52
          refine ijX7_room_42_5 d 0 (by omega) (by omega) (fun d x2 x4 f => x2 = Int32.ofNat t ∧ x4 = rmN B T d ∧ (∀ q, q ≠ 52 → f q = g1 q) ∧ ∀ q, q < T → q ≠ t → f 52 q = H q) ?_ _ _ _ ⟨rfl, rfl, h2, fun q hq _ => h52 q hq⟩
          intro K2 e x2 x4 f4 _ he hP hK2
          obtain ⟨rfl, rfl, h4, h524⟩ := hP
          have e994 : f4 99 = g 99 := (h4 99 (by decide)).trans (mR_99 hr1)
          unfold wbX7_room_42
          rw [e994, hw]
          refine w_upto (by omega) he (fun q => ?_) (fun hlt => ⟨hint, fun f5 e5 => ?_⟩)
          · subst q
            exact ⟨rfl, OK1_S hI hM0 hx2 ((mR_S hr1).tr (fun q hq => h4 q (by omega)))⟩
          · rw [n_clamp (n := t) (by omega)] at e5
            have h5 : ∀ q, q ≠ 52 → f5 q = g1 q := fun q hq => by rw [e5, upd2_o hq]; exact h4 q hq
            have h525 : ∀ q, q < T → f5 52 q = Hd e q := by
              intro q hq
              rw [e5, upd2_at, eHd]
              by_cases c : q = t
              · rw [if_pos c, if_pos c]
              · rw [if_neg c, if_neg c]; exact h524 q hq c
            have e995 : f5 99 = g 99 := (h5 99 (by decide)).trans (mR_99 hr1)
            refine icX7_room_67_7 T 0 (by omega) (by omega) (fun _ => True) (fun _ => Int32.ofNat t) (fun _ => rmN B T e) (fun _ => Int32.ofNat e) (fun n => fl1 (flB (B e) n)) (fun _ => f5) trivial ?_
            intro K3 n2 _ hn2 _ hK3
            unfold wbX7_room_67
            rw [e995, hT]
            refine w_upto (by omega) hn2 (fun q => ?_) (fun hlt3 => ?_)
            · subst q
              have h52' : ∀ q, q < n2 → q ≠ t → f5 52 q = H q := fun q hq hne => by rw [h525 q hq, eHd, if_neg hne]
              refine ⟨fun z => ?_, fun z => ?_⟩
              · intro x4 e4 x5 e5'
                rw [n_suc] at e5'
                subst e5'
                refine hK2 _ _ _ hlt ⟨rfl, ?_, h5, h52'⟩
                show _ = _ ||| (if flB (B e) n2 = true then _ else 0)
                rw [e4, fl1_0.mp z, if_neg (by decide)]
              · intro x4 e4 x5 e5'
                rw [n_suc] at e5'
                subst e5'
                refine hK2 _ _ _ hlt ⟨rfl, ?_, h5, h52'⟩
                have zt : flB (B e) n2 = true := by
                  by_cases y : flB (B e) n2 = true
                  · exact y
                  · exact absurd (fl1_0.mpr (by simpa using y)) z
                show _ = _ ||| (if flB (B e) n2 = true then _ else 0)
                rw [e4, if_pos zt]
            · have hgo : ∀ v, v = fl1 (flB (B e) (n2 + 1)) → ∀ f6, f6 = f5 → ∀ K4, wbX7_room_96 K3 K4 (fun r' g' => rmN B T d = r' ∧ OK1 S g f2 g') (Int32.ofNat t) (rmN B T e) (Int32.ofNat e) (Int32.ofNat n2) v f6 := by
                intro v hv f6 ef K4 x7 e7
                rw [n_suc] at e7
                subst e7 ef
                rw [hv]
                exact hK3 hlt3 trivial
              refine ⟨fun z => ?_, fun z => pX7_doBar (by omega) (by omega) (by rw [e995]; exact hw) hw7 hw2 ?_⟩
              · unfold wbX7_room_95
                refine hgo _ ?_ _ rfl _
                show (0 : Int32) = fl1 (flB (B e) n2 && decide (B e n2 = 0))
                rw [fl1_0.mp z, Bool.false_and]
                rfl
              · have zt : flB (B e) n2 = true := by
                  by_cases y : flB (B e) n2 = true
                  · exact y
                  · exact absurd (fl1_0.mpr (by simpa using y)) z
                have ev : barV f5 d n2 t = B e n2 := by
                  rw [← eB]
                  by_cases c : n2 ≤ t
                  · rw [Nat.min_eq_left c, Nat.max_eq_right c, doBar_A hlk h5 hw hw7 c ht, h391]
                    exact bA_congr (fun _ _ _ _ => rfl) h525 c ht
                  · rw [Nat.min_eq_right (by omega), Nat.max_eq_left (by omega), doBar_A' hlk h5 hw hw7 (by omega) hlt3, h391]
                    exact bA_congr (fun _ _ _ _ => rfl) h525 (by omega) hlt3
                rw [ev]
                refine ⟨fun y => ?_, fun y => hgo _ ?_ _ rfl _⟩
                · unfold wbX7_room_95
                  refine hgo _ ?_ _ rfl _
                  show (0 : Int32) = fl1 (flB (B e) n2 && decide (B e n2 = 0))
                  rw [decide_eq_false y, Bool.and_false]
                  rfl
                · show (1 : Int32) = fl1 (flB (B e) n2 && decide (B e n2 = 0))
                  rw [decide_eq_true y, zt]
                  rfl
        · rw [n_clamp (n := t) (by omega)] at e3
          have hx3 : xS S f3 := xS_of (fun q h1 h2 => by
            rw [e3]
            show upd2 f2.1 14 t (i_shl 1 (Int32.ofNat d)) q = _
            rw [upd2_o h2]
            exact xS_n hx2 h1 h2) (by rw [e3]; show f2.2 = S.2; exact xS_2 hx2)
          have h143 : ∀ q, q < T → f3.1 14 q = Hd d q := by
            intro q hq
            rw [e3, eHd]
            show upd2 f2.1 14 t (i_shl 1 (Int32.ofNat d)) 14 q = _
            rw [upd2_at]
            by_cases c : q = t
            · rw [if_pos c, if_pos c]
            · rw [if_neg c, if_neg c]; exact h142 q hq c
          refine ijX0_room_74_7 T 0 (by omega) (by omega) (fun n x2 x4 x5 x6 f => x2 = Int32.ofNat t ∧ x4 = rmN B T d ∧ x5 = Int32.ofNat d ∧ x6 = fl1 (flB (B d) n) ∧ xS S f ∧ ∀ q, q < T → f.1 14 q = Hd d q) ?_ _ _ _ _ _ ⟨rfl, rfl, rfl, rfl, hx3, h143⟩
          intro K2 n2 x2 x4 x5 x6 f4 _ hn2 hP hK2
          obtain ⟨rfl, rfl, rfl, rfl, hx4, h144⟩ := hP
          unfold wbX0_room_74
          rw [(xS_RI hx4 hI).1.1, hT]
          refine w_upto (by omega) hn2 (fun q => ?_) (fun hlt2 => ?_)
          · subst q
            have h14' : ∀ q, q < n2 → q ≠ t → f4.1 14 q = H q := fun q hq hne => by rw [h144 q hq, eHd, if_neg hne]
            refine ⟨fun z => ?_, fun z x4 e4 => ?_⟩
            · intro x5 e5
              rw [n_suc] at e5
              subst e5
              refine hK _ _ _ hlt ⟨rfl, ?_, hx4, h14'⟩
              show _ = _ ||| (if flB (B d) n2 = true then _ else 0)
              rw [fl1_0.mp z, if_neg (by decide), Int32.or_zero]
            · intro x5 e5
              rw [n_suc] at e5
              subst e5
              refine hK _ _ _ hlt ⟨rfl, ?_, hx4, h14'⟩
              have zt : flB (B d) n2 = true := by
                by_cases y : flB (B d) n2 = true
                · exact y
                · exact absurd (fl1_0.mpr (by simpa using y)) z
              show _ = _ ||| (if flB (B d) n2 = true then _ else 0)
              rw [e4, if_pos zt]
          · rw [n_min (by omega) (by omega), n_max (by omega) (by omega)]
            have hmx : max n2 t < T := by
              rcases Nat.le_total n2 t with c | c
              · rw [Nat.max_eq_right c]; exact ht
              · rw [Nat.max_eq_left c]; exact hlt2
            have hmm : min n2 t ≤ max n2 t := Nat.le_trans (Nat.min_le_left _ _) (Nat.le_max_left _ _)
            refine pX0_bars (far := FF) (cxR_S hx4 hcx) hw hw2 hw7 hmm (by omega) ?_ (by rw [h144 _ (by omega)]; exact hHhd d hlt _ (by omega)) (by rw [h144 _ hmx]; exact hHhd d hlt _ hmx) (fun f5 hx5 h145 => ?_)
            · rw [xS_n hx4 (show (5 : Nat) ≠ 12 by decide) (by decide)]
              exact hfar _ _ (by omega) hmx
            · rw [bA_congr (T := T) (fun _ _ _ _ => rfl) h144 hmm hmx, eB]
              have h14'' : ∀ q, q < T → f5.1 14 q = Hd d q := fun q hq => by rw [h145]; exact h144 q hq
              refine ⟨fun y x7 e7 => ?_, fun y x7 e7 => ?_⟩
              · rw [n_suc] at e7
                subst e7
                refine hK2 _ _ _ _ _ hlt2 ⟨rfl, rfl, rfl, ?_, hx4.tr hx5, h14''⟩
                show _ = fl1 (flB (B d) n2 && decide (B d n2 = 0))
                rw [decide_eq_true y, Bool.and_true]
              · rw [n_suc] at e7
                subst e7
                refine hK2 _ _ _ _ _ hlt2 ⟨rfl, rfl, rfl, ?_, hx4.tr hx5, h14''⟩
                show _ = fl1 (flB (B d) n2 && decide (B d n2 = 0))
                rw [decide_eq_false y, Bool.and_false]
                rfl
      · refine pX0_isWeek_n hz (w0 ?_)
        unfold wX7_room
        exact pX7_isGiving_y eG hG12 hi (w1' (pX7_isTown_y hT hT6 ht (w1' (pX7_isWeek_n hz (w0 ⟨rfl, hO⟩)))))
    · refine pX0_isTown_n hTX hT6 hy (w0' ?_)
      unfold wX7_room
      exact pX7_isGiving_y eG hG12 hi (w1' (pX7_isTown_n hT hT6 hy (w0' ⟨rfl, hO⟩)))
  · refine pX0_isGiving_n hL hG12 hx (w0' ?_)
    unfold wX7_room
    exact pX7_isGiving_n eG hG12 hx (w0' ⟨rfl, hO⟩)
end
