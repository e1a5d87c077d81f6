/-! PLAIN LAYER: worth of a day by the reference; what the class's clamp makes of it -/
set_option maxRecDepth 100000
def clp (v : Int32) : Int32 := if v ≤ 999 then (if -999 ≤ v then v else -999) else 999
theorem clp_x {v : Int32} : i_max (-999) (i_min 999 v) = clp v := by
  have e1 : (999 : Int32).toInt = 999 := by decide
  have e2 : (-999 : Int32).toInt = -999 := by decide
  unfold i_max i_min clp
  by_cases h : v ≤ 999
  · have h' := i_le.mp h
    rw [if_pos h]
    by_cases h1 : v < 999
    · rw [if_pos h1]
      by_cases h2 : (-999 : Int32) ≤ v
      · have h2' := i_le.mp h2
        rw [if_pos h2]
        by_cases h3 : (-999 : Int32) < v
        · rw [if_pos h3]
        · rw [if_neg h3]
          have : ¬ (-999 : Int32).toInt < v.toInt := fun q => h3 (i_lt.mpr q)
          exact i_eq.mpr (by omega)
      · rw [if_neg h2, if_neg (fun q => h2 (i_le.mpr (by have := i_lt.mp q; omega)))]
    · have h1' : ¬ v.toInt < (999 : Int32).toInt := fun q => h1 (i_lt.mpr q)
      have : v = 999 := i_eq.mpr (by omega)
      subst this
      decide
  · have h' : ¬ v.toInt ≤ (999 : Int32).toInt := fun q => h (i_le.mpr q)
    rw [if_neg h, if_neg (show ¬ v < 999 from fun q => by have := i_lt.mp q; omega)]
    decide
theorem clp_in {v : Int32} : -999 ≤ (clp v).toInt ∧ (clp v).toInt ≤ 999 := by
  have e1 : (999 : Int32).toInt = 999 := by decide
  have e2 : (-999 : Int32).toInt = -999 := by decide
  unfold clp
  by_cases h : v ≤ 999
  · rw [if_pos h]
    have := i_le.mp h
    by_cases h2 : (-999 : Int32) ≤ v
    · rw [if_pos h2]
      have := i_le.mp h2
      omega
    · rw [if_neg h2]
      omega
  · rw [if_neg h]
    omega
/-- what the rule says a day d is worth to town t -/
def worthV (g : St) (l : List Nat) (t : Nat) (d hours others : Int32) : Int32 := clp (nV (nm6 (fun _ => 0) hours (g 1 t) others d (b3 (g 3 t = d)) (g 99 6)) l)
theorem pX7_worthBy {g : St} {Q : Int32 → St → Prop} {t : Nat} {d hours others : Int32} {l : List Nat} (ht : t < 6) (hl : partL g 1 l) (h : ∀ F G, Q (worthV g l t d hours others) (updR (updR g 50 G) 49 F)) : wX7_worthBy g (Int32.ofNat t) d hours others Q := by
  unfold wX7_worthBy
  have hin : vp_in (Int32.ofNat t) 6 := n_in ht (by decide)
  rw [n_clamp (n := t) (by omega)]
  have hgo : ∀ v, v = b3 (g 3 t = d) → wbX7_worthBy_26 Q v d others (g 1 t) hours g := by
    intro v hv
    unfold wbX7_worthBy_26
    refine pX7_names (pX7_part (p := 1) (by decide) hl (fun F => ?_))
    have e : nV (nm6 (g 50) hours (g 1 t) others d v (g 99 6)) l = nV (nm6 (fun _ => 0) hours (g 1 t) others d (b3 (g 3 t = d)) (g 99 6)) l := by
      obtain ⟨_, _, _, _, _, _, _, _, h7⟩ := hl
      rw [hv]
      exact nV_congr nm6_eq h7
    have hF := h F (nm6 (g 50) hours (g 1 t) others d v (g 99 6))
    unfold worthV clp at hF
    rw [← e] at hF
    rw [updR_s]
    refine ⟨fun q => ⟨fun q2 => ?_, fun q2 => ?_⟩, fun q => ?_⟩
    · rw [if_pos q, if_pos q2] at hF
      exact hF
    · rw [if_pos q, if_neg q2] at hF
      exact hF
    · rw [if_neg q] at hF
      exact hF
  refine ⟨hin, hin, fun q => hgo _ (by unfold b3; rw [if_neg q]), fun q => hgo _ (by unfold b3; rw [if_pos q])⟩
