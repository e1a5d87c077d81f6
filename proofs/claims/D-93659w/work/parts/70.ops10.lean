/-! PLAIN LAYER: sheet -/
set_option maxRecDepth 100000
def gS (g : St) (s : Nat) (a c : Int32) : St := updR (updR (updR g 36 (upd (g 36) s a)) 37 (upd (g 37) s c)) 38 (tp (40 * s) (fun _ => 0) (g 38) 40)
theorem upd_s {f : Nat → Int32} {i : Nat} {v : Int32} : upd f i v i = v := by simp [upd]
theorem upd_n {f : Nat → Int32} {i j : Nat} {v : Int32} (h : j ≠ i) : upd f i v j = f j := by simp [upd, h]
section
variable {b o : Nat} {cs ad : Nat → Nat} {vs : Nat → Option Nat} {S : XS} {g : St}
theorem pX7_sheet44 {Q : Int32 → St → Prop} {s : Nat} {y z : Int32} (hs : s < 4) (h : Q 1 (gS g s y (if y = -1 then 0 else z))) : wbX7_sheet_44 Q (Int32.ofNat s) y z g := by
  have hin : vp_in (Int32.ofNat s) 4 := n_in hs (by decide)
  unfold wbX7_sheet_44
  refine ⟨hin, fun f5 e5 => ?_⟩
  rw [n_clamp (by omega), upd2_updR] at e5
  have hgo : ∀ c, c = (if y = -1 then 0 else z) → wbX7_sheet_66 Q (Int32.ofNat s) c (Int32.ofNat s) f5 := by
    intro c hc
    unfold wbX7_sheet_66
    refine ⟨hin, fun f6 e6 => ?_⟩
    rw [n_clamp (by omega), upd2_updR, e5] at e6
    have e6' : f6 = updR (updR (updR g 36 (upd (g 36) s y)) 37 (upd (g 37) s c)) 38 (tp (40 * s) (fun _ => 0) (g 38) 0) := by
      rw [e6, tp_0, show g 38 = (updR (updR g 36 (upd (g 36) s y)) 37 (upd (g 37) s c)) 38 from rfl, updR_self]
      rfl
    rw [e6']
    refine icX7_sheet_70_4 40 0 (by decide) (by omega) (fun _ => True) (fun _ => Int32.ofNat s) (fun k => updR (updR (updR g 36 (upd (g 36) s y)) 37 (upd (g 37) s c)) 38 (tp (40 * s) (fun _ => 0) (g 38) k)) trivial ?_
    intro K k _ hk _ hK
    unfold wbX7_sheet_70
    refine w_upto (T := 40) (by decide) hk (fun q => ?_) (fun hlt => ?_)
    · subst q
      subst hc
      exact h
    · have e3 : (40 : Int32) * Int32.ofNat s + Int32.ofNat k = Int32.ofNat (40 * s + k) := n_ix
      rw [e3, n_clamp (by omega)]
      refine ⟨n_in (by omega) (by decide), fun f7 e7 x e => ?_⟩
      rw [n_suc] at e
      subst e
      have e7' : f7 = updR (updR (updR g 36 (upd (g 36) s y)) 37 (upd (g 37) s c)) 38 (tp (40 * s) (fun _ => 0) (g 38) (k + 1)) := by
        rw [e7, updR_upd2']
        show updR _ 38 (upd (tp (40 * s) (fun _ => 0) (g 38) k) (40 * s + k) ((fun _ => (0 : Int32)) k)) = _
        rw [tp_step]
      rw [e7']
      exact hK hlt trivial
  refine ⟨fun hne => hgo _ (by rw [if_neg hne]), fun he => hgo _ (by rw [if_pos he])⟩
theorem pX0_sheet45 {Q : Int32 → XS → Prop} {s : Nat} {y z : Int32} (hs : s < 4) (h : Q 1 (updR (updR S.1 (60 + s) (upd (upd (S.1 (60 + s)) 0 y) 1 (if 0 ≤ y then z else 0))) (70 + s) (cp (fun _ => 0) (S.1 (70 + s)) 40), S.2)) : wbX0_sheet_45 b cs ad vs o Q (Int32.ofNat s) y z S := by
  have hin : vp_in (Int32.ofNat s) 4 := n_in hs (by decide)
  unfold wbX0_sheet_45
  rw [n_clamp (by omega)]
  refine ⟨hin, hs, fun f5 e5 => ⟨hin, ?_⟩⟩
  have hgo : ∀ c, c = (if 0 ≤ y then z else 0) → wbX0_sheet_70 b cs ad vs o Q (Int32.ofNat s) c s f5 := by
    intro c hc
    unfold wbX0_sheet_70
    rw [n_clamp (by omega)]
    refine ⟨hs, fun f9 e9 => ⟨hin, hs, ?_⟩⟩
    have e9' : f9 = (updR S.1 (60 + s) (upd (upd (S.1 (60 + s)) 0 y) 1 c), S.2) := by
      rw [e9, e5]
      show (upd2 (upd2 S.1 (60 + s) 0 y) (60 + s) 1 c, S.2) = _
      rw [upd2_updR (f := S.1), updR_upd2']
    refine pJ11_fill (wX_cells hs) (by decide) ⟨(updR f9.1 (70 + s) (cp (fun _ => 0) (f9.1 (70 + s)) 40), f9.2), wX_rowC hs, ?_⟩
    rw [e9']
    show Q 1 (updR (updR S.1 (60 + s) _) (70 + s) (cp (fun _ => 0) ((updR S.1 (60 + s) (upd (upd (S.1 (60 + s)) 0 y) 1 c)) (70 + s)) 40), S.2)
    rw [updR_n (show 70 + s ≠ 60 + s by omega), hc]
    exact h
  exact ⟨fun hle => hgo _ (by rw [if_pos hle]), fun hle => hgo _ (by rw [if_neg hle])⟩
theorem op_sheet (hI : RI S.1 g) (hM : MI g) (x y z : Int32) : wX0_sheet b cs ad vs o S x y z (fun r S' => wX7_sheet g x y z (fun r' g' => r = r' ∧ OK1 S g S' g')) := by
  have hO := OK1.rf hI hM
  -- the reference's answers
  have m0 : ∀ Q : Int32 → St → Prop, ¬ (0 ≤ x.toInt ∧ x.toInt ≤ 3) → Q (-2) g → wX7_sheet g x y z Q := by
    intro Q hc h
    unfold wX7_sheet
    refine pX7_in ?_
    rw [i0, show (3 : Int32).toInt = 3 by decide, if_neg hc]
    exact w0' h
  have m1 : ∀ Q : Int32 → St → Prop, (0 ≤ x.toInt ∧ x.toInt ≤ 3) → ¬ (-1 ≤ y.toInt ∧ y.toInt ≤ 2) → Q (-2) g → wX7_sheet g x y z Q := by
    intro Q hc hd h
    unfold wX7_sheet
    refine pX7_in ?_
    rw [i0, show (3 : Int32).toInt = 3 by decide, if_pos hc]
    refine w1' (pX7_in ?_)
    rw [im1, show (2 : Int32).toInt = 2 by decide, if_neg hd]
    exact w0' h
  have m2 : ∀ Q : Int32 → St → Prop, (0 ≤ x.toInt ∧ x.toInt ≤ 3) → (-1 ≤ y.toInt ∧ y.toInt ≤ 2) → (y = -1 → wbX7_sheet_44 Q x y z g) → (¬ y = -1 → z ≤ 40 → 0 ≤ z → wbX7_sheet_44 Q x y z g) → (¬ y = -1 → z ≤ 40 → ¬ 0 ≤ z → Q (-14) g) → (¬ y = -1 → ¬ z ≤ 40 → Q (-2) g) → wX7_sheet g x y z Q := by
    intro Q hc hd h1 h2 h3 h4
    unfold wX7_sheet
    refine pX7_in ?_
    rw [i0, show (3 : Int32).toInt = 3 by decide, if_pos hc]
    refine w1' (pX7_in ?_)
    rw [im1, show (2 : Int32).toInt = 2 by decide, if_pos hd]
    refine w1' ⟨fun hy => ?_, fun hy => ⟨fun hz => ?_, fun hz => h4 hy hz⟩⟩
    · unfold wbX7_sheet_32
      exact ⟨fun _ => h1 hy, fun q => absurd hy q⟩
    · unfold wbX7_sheet_32
      exact ⟨fun q => absurd q hy, fun _ => ⟨fun q => h2 hy hz q, fun q => h3 hy hz q⟩⟩
  unfold wX0_sheet wX0_isSheet
  refine pX0_in ?_
  rw [l0, l_of, show (3 : Int64).toInt = 3 by decide]
  by_cases hc : 0 ≤ x.toInt ∧ x.toInt ≤ 3
  · rw [if_pos hc]
    refine ⟨vz1, w1' (pX0_in ?_)⟩
    rw [l_of, show (-1 : Int64).toInt = -1 by decide, show (2 : Int64).toInt = 2 by decide]
    by_cases hd : -1 ≤ y.toInt ∧ y.toInt ≤ 2
    · rw [if_pos hd]
      refine w1' ?_
      have hy : y < 0 ↔ y = -1 := by
        rw [i_lt, i_eq, i0, im1]
        omega
      have hy0 : 0 ≤ y ↔ ¬ y = -1 := by
        rw [i_le, i_eq, i0, im1]
        omega
      have hset : (y = -1 ∨ (z ≤ 40 ∧ 0 ≤ z)) → ∀ Q : Int32 → XS → Prop, (∀ S', wX7_sheet g x y z (fun r' g' => (1 : Int32) = r' ∧ OK1 S g S' g') → Q 1 S') → wbX0_sheet_45 b cs ad vs o Q x y z S := by
        intro hyz Q hQ
        obtain ⟨s, hs, rfl⟩ := bN_of (m := 3) (x := x) hc.1 hc.2 (by decide)
        refine pX0_sheet45 (by omega) (hQ _ ?_)
        have hk : wbX7_sheet_44 (fun r' g' => (1 : Int32) = r' ∧ OK1 S g (updR (updR S.1 (60 + s) (upd (upd (S.1 (60 + s)) 0 y) 1 (if 0 ≤ y then z else 0))) (70 + s) (cp (fun _ => 0) (S.1 (70 + s)) 40), S.2) g') (Int32.ofNat s) y z g := by
          refine pX7_sheet44 (by omega) ⟨rfl, ?_, ?_, rfl, rfl, rfl, rfl, rfl, rfl, rfl, rfl⟩
          · refine RI_sh (by omega) hI ⟨?_, ?_, fun i hi => ?_⟩ (fun t ht hts X Y h => ⟨?_, ?_, fun i hi => ?_⟩)
            · rw [upd_n (by decide), upd_s, upd_s]
            · rw [upd_s, upd_s]
              by_cases q : y = -1
              · rw [if_neg (fun q2 => (hy0.mp q2) q), if_pos q]
              · rw [if_pos (hy0.mpr q), if_neg q]
            · rw [cp_eq i hi]
              unfold tp
              rw [if_pos (by omega)]
            · rw [upd_n hts]; exact h.1
            · rw [upd_n hts]; exact h.2.1
            · unfold tp
              rw [if_neg (by omega)]
              exact h.2.2 i hi
          · obtain ⟨mI, mA, mB, mT, mD, mW, mG, mS1, mS2⟩ := hM
            refine MI_sh ⟨mI, mA, mB, mT, mD, mW, mG, mS1, mS2⟩ (rIn_upd mS1 hd.1 hd.2) ?_
            by_cases q : y = -1
            · rw [if_pos q]
              exact rIn_upd mS2 (by decide) (by decide)
            · rw [if_neg q]
              rcases hyz with h | ⟨h1, h2⟩
              · exact absurd h q
              · have h1' := i_le.mp h1
                have h2' := i_le.mp h2
                rw [i0] at h2'
                rw [show (40 : Int32).toInt = 40 by decide] at h1'
                exact rIn_upd mS2 h2' h1'
        exact m2 _ hc hd (fun _ => hk) (fun _ _ _ => hk) (fun q h1 h2 => by
          rcases hyz with h | ⟨h3, h4⟩
          · exact absurd h q
          · exact absurd h4 h2) (fun q h1 => by
          rcases hyz with h | ⟨h3, h4⟩
          · exact absurd h q
          · exact absurd h3 h1)
      refine ⟨fun h => ?_, fun h => ⟨fun hz => ?_, fun hz => ?_⟩⟩
      · unfold wbX0_sheet_34
        exact ⟨fun _ => hset (Or.inl (hy.mp h)) _ (fun S' h => h), fun q => absurd h q⟩
      · have hyn : ¬ y = -1 := fun q => h (hy.mpr q)
        unfold wbX0_sheet_34
        refine ⟨fun q => absurd q h, fun _ => ⟨fun h0 => hset (Or.inr ⟨hz, h0⟩) _ (fun S' h => h), fun h0 => ?_⟩⟩
        exact m2 _ hc hd (fun q => absurd q hyn) (fun _ _ q => absurd q h0) (fun _ _ _ => ⟨rfl, hO⟩) (fun _ q => absurd hz q)
      · have hyn : ¬ y = -1 := fun q => h (hy.mpr q)
        exact m2 _ hc hd (fun q => absurd q hyn) (fun _ q => absurd q hz) (fun _ q => absurd q hz) (fun _ _ => ⟨rfl, hO⟩)
    · rw [if_neg hd]
      exact w0' (m1 _ hc hd ⟨rfl, hO⟩)
  · rw [if_neg hc]
    exact ⟨vz0, w0' (m0 _ hc ⟨rfl, hO⟩)⟩
end
