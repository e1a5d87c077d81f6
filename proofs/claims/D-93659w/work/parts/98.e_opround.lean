/-! PLAIN LAYER: round, both -/
set_option maxRecDepth 100000
/-- hours from a town to itself: none -/
def dgF (T : Nat) (F : Nat → Int32) : Prop := (∀ a c, a < T → c < T → 0 ≤ (F (6 * a + c)).toInt ∧ (F (6 * a + c)).toInt ≤ 99) ∧ ∀ a, a < T → F (6 * a + a) = 0
theorem dg_S {T m a c : Nat} {F : Nat → Int32} (h : dgF T F) (hT : T ≤ 6) (hm : m < T) (ha : a < T) (hc : c < T) : dgF T (fwS m a c F) := by
  obtain ⟨h1, h2⟩ := h
  have b1 := h1 a c ha hc
  have b2 := h1 a m ha hm
  have b3 := h1 m c hm hc
  have es := i_add (x := F (6 * a + m)) (y := F (6 * m + c)) (by omega) (by omega)
  refine ⟨fun p q hp hq => ?_, fun p hp => ?_⟩
  · unfold fwS upd
    by_cases e : 6 * p + q = 6 * a + c
    · rw [if_pos e]
      by_cases c1 : F (6 * a + c) ≤ F (6 * a + m) + F (6 * m + c)
      · rw [if_pos c1]; exact b1
      · rw [if_neg c1]
        have : ¬ (F (6 * a + c)).toInt ≤ (F (6 * a + m) + F (6 * m + c)).toInt := fun z => c1 (i_le.mpr z)
        omega
    · rw [if_neg e]; exact h1 p q hp hq
  · unfold fwS upd
    by_cases e : 6 * p + p = 6 * a + c
    · rw [if_pos e]
      have e1 : p = a := by omega
      have e2 : p = c := by omega
      subst e1
      subst e2
      have z := h2 p hp
      rw [z, if_pos (i_le.mpr (by rw [es, i0]; omega))]
    · rw [if_neg e]; exact h2 p hp
theorem dg_B {T m a : Nat} {F : Nat → Int32} (h : dgF T F) (hT : T ≤ 6) (hm : m < T) (ha : a < T) : ∀ c, c ≤ T → dgF T (fwB m a c F)
  | 0, _ => h
  | c + 1, hc => dg_S (dg_B h hT hm ha c (by omega)) hT hm ha (by omega)
theorem dg_A {T m : Nat} {F : Nat → Int32} (h : dgF T F) (hT : T ≤ 6) (hm : m < T) : ∀ a, a ≤ T → dgF T (fwA m T a F)
  | 0, _ => h
  | a + 1, ha => dg_B (dg_A h hT hm a (by omega)) hT hm (by omega) T (Nat.le_refl _)
theorem dg_M {T : Nat} {F : Nat → Int32} (h : dgF T F) (hT : T ≤ 6) : ∀ m, m ≤ T → dgF T (fwM T m F)
  | 0, _ => h
  | m + 1, hm => dg_A (dg_M h hT m (by omega)) hT (by omega) T (Nat.le_refl _)
theorem farF_dg {T : Nat} {road old : Nat → Int32} (hT : T ≤ 6) (hr : rIn 36 road 0 50) : dgF T (farF T road old) := by
  refine dg_M ⟨fun a c ha hc => ?_, fun a ha => ?_⟩ hT T (Nat.le_refl _)
  · unfold farI far0
    rw [if_pos (show 6 * a + c < 36 by omega)]
    have := hr (6 * a + c) (by omega)
    by_cases h7 : (6 * a + c) % 7 = 0
    · rw [if_pos h7, i0]; omega
    · rw [if_neg h7]
      by_cases h0 : road (6 * a + c) ≤ 0
      · rw [if_pos h0, show (99 : Int32).toInt = 99 by decide]; omega
      · rw [if_neg h0]; omega
  · unfold farI far0
    rw [if_pos (show 6 * a + a < 36 by omega), if_pos (show (6 * a + a) % 7 = 0 by omega)]
section
variable {b o : Nat} {cs ad : Nat → Nat} {vs : Nat → Option Nat} {S : XS} {g : St} {T w : Nat}
theorem op_round (hI : RI S.1 g) (hM : MI g) (hG : GL o cs ad S g) (x1 x2 x3 x4 x5 : Int32) : wX0_round b cs ad vs o S x1 x2 x3 x4 x5 (fun r S' => wX7_round g x1 x2 x3 x4 x5 (fun r' g' => r = r' ∧ OK1 S g S' g')) := by
  have hO := OK1.rf hI hM
  have hM0 := hM
  obtain ⟨G, hG12, eG, hL⟩ := hG
  obtain ⟨⟨⟨T, hT6, hT⟩, ⟨w, hw2, hw7, hw⟩, ⟨F, hF10, hF⟩, -⟩, ⟨hm1, -, -, -, hroad⟩, -, -, -, h24, -⟩ := hM
  have hTX : S.1 99 6 = Int32.ofNat T := hI.1.1.trans hT
  have hfar : ∀ a c, a < T → c < T → S.1 5 (6 * a + c) = farF T (g 5) (g 39) (6 * a + c) := fun a c h1 h2 => far_eq hI hM0 hT hT6 h1 h2
  have e50 : (50 : Int64).toInt = ((50 : Nat) : Int) := by decide
  have e40 : (40 : Int64).toInt = ((40 : Nat) : Int) := by decide
  have f50 : (50 : Int32).toInt = ((50 : Nat) : Int) := by decide
  have f40 : (40 : Int32).toInt = ((40 : Nat) : Int) := by decide
  unfold wX0_round wX0_isRound
  by_cases hx : isN x1 G
  · obtain ⟨i, hi, rfl⟩ := hx
    refine pX0_isGiving_y hL hG12 hi (w1' ?_)
    by_cases hy : isN x2 100
    · obtain ⟨wk, hwk, rfl⟩ := hy
      refine pX0_isWeek_y hwk (w1' ?_)
      by_cases hz : isN x3 T
      · obtain ⟨home, hhome, rfl⟩ := hz
        refine pX0_isTown_y hTX hT6 hhome (w1' ?_)
        by_cases h4 : isN x4 51
        · obtain ⟨st, hst, rfl⟩ := h4
          refine pX0_in_y e50 (by decide) (by omega) (w1' ?_)
          by_cases h5 : isN x5 41
          · obtain ⟨pack, hpack, rfl⟩ := h5
            refine pX0_in_y e40 (by decide) (by omega) (w1' (w1 (pX_get hL hG12 hi (fun a k n D hg => ?_))))
            have hdg := farF_dg (T := T) (road := g 5) (old := g 39) hT6 hroad.1
            generalize hFF : farF T (g 5) (g 39) = FF at hfar hdg
            have hsz : ∀ q, q < T → 0 ≤ (g 1 q).toInt ∧ (g 1 q).toInt ≤ 99 := fun q hq => hm1 q (by omega)
            have hne0 : ¬ tb FF (g 1) (HP g i wk) (Int32.ofNat st) home T w w home pack = -1 := tb_home hhome (by
              rw [hdg.2 home hhome]
              exact i_le.mpr (by rw [i0, n_toInt (by omega)]; omega)) w pack (by omega)
            refine x_lay hI hg hT hT6 hw hw2 hw7 hF hF10 xS.rf (fun S1 hx1 h141 => ?_)
            have hI1 := xS_RI hx1 hI
            have hrx : rxR FF (g 1) (HP g i wk) T w S1 := ⟨hI1.1.1.trans hT, hI1.1.2.1.trans hw, fun q hq => hI1.2.1.1 q (by omega), h141, fun a c h1 h2 => by rw [xS_n hx1 (show (5 : Nat) ≠ 12 by decide) (by decide)]; exact hfar a c h1 h2⟩
            refine pX0_rounds hrx hT6 hw7 hsz (by omega) hhome (fun A hA f16 e16 => ?_)
            have ewX : ((updR S1.1 27 A, S1.2) : XS).1 99 7 = Int32.ofNat w := hrx.2.1
            rw [ewX] at e16
            subst e16
            have hrx2 : rxR FF (g 1) (HP g i wk) T w (upd2 (updR S1.1 27 A) 99 28 (Int32.ofNat w), S1.2) := hrx
            refine x_way (A := A) hrx2 rfl hT6 hw7 hsz (by omega) hhome hne0 hA (fun R B hRB => ?_)
            unfold wX7_round
            refine pX7_isGiving_y eG hG12 hi (w1' (pX7_isWeek_y hwk (w1' (pX7_isTown_y hT hT6 hhome (w1' (pX7_in_y f50 (by decide) (by omega) (w1' (pX7_in_y f40 (by decide) (by omega) (w1 ?_)))))))))
            refine m_sl hT hT6 hw hw2 hw7 hF hF10 (by omega) (fun g2 hr2 h39 h52 => ?_)
            intro x6 e6
            have ew2 : g2 99 6 = Int32.ofNat w := by rw [mR_99 hr2]; exact hw
            rw [ew2] at e6
            subst e6
            have hrm : rmR FF (g 1) (HP g i wk) T w g2 := ⟨by rw [mR_99 hr2]; exact hT, ew2, fun q hq => by rw [hr2 1 (by decide) (by decide) (by decide) (by decide) (by decide)], h52, fun a c _ _ => by rw [h39, hFF]⟩
            refine m_table (pack := pack) (home := home) (st := st) hrm hT6 hw7 (by omega) hsz (by omega) hhome (fun A' hA' f21 e21 => ?_)
            have ew3 : (updR g2 55 A') 99 6 = Int32.ofNat w := ew2
            rw [ew3] at e21
            subst e21
            have hrm2 : rmR FF (g 1) (HP g i wk) T w (upd2 (updR g2 55 A') 99 23 (Int32.ofNat w)) := hrm
            have h24' : rIn 7 ((upd2 (updR g2 55 A') 99 23 (Int32.ofNat w)) 24) 0 5 := by
              show rIn 7 (g2 24) 0 5
              rw [hr2 24 (by decide) (by decide) (by decide) (by decide) (by decide)]
              exact h24
            refine m_way (Q := fun r' g' => Int32.ofNat pack - Int32.ofNat (rdL (g 1) (HP g i wk) pack R w) = r' ∧ OK1 S g _ g') (A := A') (R := R) hrm2 rfl hT6 hw7 (by omega) hsz (by omega) hhome hA' (fun e he => (hRB e he).1) h24' (fun B' hB' hB'r => ⟨?_, ?_⟩)
            · have hs := rd_sum (pack := pack) (R := R) (by omega) hne0 (fun e he => (hRB e he).1) w (Nat.le_refl _)
              rw [Nat.sub_self] at hs
              rw [n_sub (rdL_le w)]
              exact hs.symm
            · obtain ⟨oI, oM, oZ, oG⟩ := OK1_S hI hM0 hx1 (mR_S hr2)
              obtain ⟨aI, aA, aB, aF, aT, aD, -, aG, aS, aY⟩ := oI
              obtain ⟨⟨m1, m2, m3, m4, m5, m6, m7, m8⟩, mA, mB, mT, mD, mW, mG⟩ := oM
              refine ⟨⟨aI, aA, aB, aF, aT, aD, ⟨rfl, fun e he => ?_⟩, aG, aS, aY⟩, ⟨⟨m1, m2, m3, m4, m5, m6, m7, ⟨w, hw7, rfl⟩⟩, mA, mB, mT, mD, hB'r, mG⟩, oZ, oG⟩
              have he' : e < w := by
                have e1 : nn (Int32.ofNat w) = w := nn_of (by omega)
                have he2 : e < nn (Int32.ofNat w) := he
                rw [e1] at he2
                exact he2
              show B e = B' e
              rw [(hRB e he').2, hB' e he']
          · refine pX0_in_n e40 (by decide) h5 (w0' (w0 ?_))
            unfold wX7_round
            exact pX7_isGiving_y eG hG12 hi (w1' (pX7_isWeek_y hwk (w1' (pX7_isTown_y hT hT6 hhome (w1' (pX7_in_y f50 (by decide) (by omega) (w1' (pX7_in_n f40 (by decide) h5 (w0 ⟨rfl, hO⟩)))))))))
        · refine pX0_in_n e50 (by decide) h4 (w0' (w0 ?_))
          unfold wX7_round
          exact pX7_isGiving_y eG hG12 hi (w1' (pX7_isWeek_y hwk (w1' (pX7_isTown_y hT hT6 hhome (w1' (pX7_in_n f50 (by decide) h4 (w0' ⟨rfl, hO⟩)))))))
      · refine pX0_isTown_n hTX hT6 hz (w0' (w0 ?_))
        unfold wX7_round
        exact pX7_isGiving_y eG hG12 hi (w1' (pX7_isWeek_y hwk (w1' (pX7_isTown_n hT hT6 hz (w0' ⟨rfl, hO⟩)))))
    · refine pX0_isWeek_n hy (w0' (w0 ?_))
      unfold wX7_round
      exact pX7_isGiving_y eG hG12 hi (w1' (pX7_isWeek_n hy (w0' ⟨rfl, hO⟩)))
  · refine pX0_isGiving_n hL hG12 hx (w0' (w0 ?_))
    unfold wX7_round
    exact pX7_isGiving_n eG hG12 hx (w0' ⟨rfl, hO⟩)
end
