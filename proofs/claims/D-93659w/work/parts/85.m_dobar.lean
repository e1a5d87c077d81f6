/-! PLAIN LAYER: doBar -/
set_option maxRecDepth 100000
def barV (g : St) (w a c : Nat) : Int32 :=
  if a = c then (if (g 52 a) &&& ((g 2 a) ^^^ (-1)) = 0 then 0 else 1)
  else if ¬ (g 52 a &&& g 52 c = 0) ∧ ¬ g 51 (6 * a + c) = 0 then 1
  else if (¬ g 52 a = 0 ∧ ¬ g 52 c = 0) ∧ ((g 4 a = Int32.ofNat c ∧ folN (g 99 6) (g 52 a) (g 52 c) w = false) ∨ (g 4 c = Int32.ofNat a ∧ folN (g 99 6) (g 52 c) (g 52 a) w = false)) then 1 else 0
section
variable {g : St} {Q : Int32 → St → Prop} {a c w : Nat}
theorem pX7_doBar (ha : a < 6) (hc : c < 6) (hw : g 99 6 = Int32.ofNat w) (hw7 : w ≤ 7) (hw2 : 2 ≤ w) (h : Q (barV g w a c) g) : wX7_doBar g (Int32.ofNat a) (Int32.ofNat c) Q := by
  have hina : vp_in (Int32.ofNat a) 6 := n_in ha (by decide)
  have hinc : vp_in (Int32.ofNat c) 6 := n_in hc (by decide)
  have e1 : (6 : Int32) * Int32.ofNat a + Int32.ofNat c = Int32.ofNat (6 * a + c) := n_ix
  have eq : (Int32.ofNat a = Int32.ofNat c) ↔ a = c := n_eqI (by omega) (by omega)
  unfold wX7_doBar
  rw [e1, n_clamp (n := a) (by omega), n_clamp (n := c) (by omega), n_clamp (n := 6 * a + c) (by omega)]
  unfold barV at h
  refine ⟨fun hne => ⟨hina, hinc, ?_⟩, fun he => ⟨hina, hina, ?_⟩⟩
  · have hne' : ¬ a = c := fun q => hne (eq.mpr q)
    rw [if_neg hne'] at h
    -- behind the first test
    have hrest : ¬ (¬ (g 52 a &&& g 52 c = 0) ∧ ¬ g 51 (6 * a + c) = 0) → wbX7_doBar_61 Q (Int32.ofNat a) (Int32.ofNat c) g := by
      intro hno
      rw [if_neg hno] at h
      unfold wbX7_doBar_61 wbX7_doBar_83
      rw [n_clamp (n := a) (by omega), n_clamp (n := c) (by omega)]
      refine ⟨hina, fun z => ?_, fun z => ⟨hinc, fun z2 => ?_, fun z2 => ?_⟩⟩
      · rw [if_neg (fun q => q.1.1 z)] at h
        unfold wbX7_doBar_84
        exact w0' h
      · rw [if_neg (fun q => q.1.2 z2)] at h
        unfold wbX7_doBar_84
        exact w0' h
      · have h108 : ¬ (g 4 a = Int32.ofNat c ∧ folN (g 99 6) (g 52 a) (g 52 c) w = false) → wbX7_doBar_108 Q (Int32.ofNat a) (Int32.ofNat c) g := by
          intro h1
          unfold wbX7_doBar_108 wbX7_doBar_127
          rw [n_clamp (n := c) (by omega)]
          refine ⟨hinc, fun q => ?_, fun q => pX7_follows hc ha hw hw7 hw2 ?_⟩
          · rw [if_neg (fun z => z.2.elim h1 (fun z3 => q z3.1))] at h
            exact h
          · by_cases hf : folN (g 99 6) (g 52 c) (g 52 a) w = true
            · rw [if_pos hf]
              rw [if_neg (fun z => z.2.elim h1 (fun z3 => by rw [hf] at z3; exact absurd z3.2 (by decide)))] at h
              exact w1 h
            · rw [if_neg hf]
              rw [if_pos ⟨⟨z, z2⟩, Or.inr ⟨q, by simpa using hf⟩⟩] at h
              exact w0 h
        unfold wbX7_doBar_84
        rw [n_clamp (n := a) (by omega)]
        refine w1' ⟨hina, fun q => h108 (fun z3 => q z3.1), fun q => pX7_follows ha hc hw hw7 hw2 ?_⟩
        by_cases hf : folN (g 99 6) (g 52 a) (g 52 c) w = true
        · rw [if_pos hf]
          exact w1' (h108 (fun z3 => by rw [hf] at z3; exact absurd z3.2 (by decide)))
        · rw [if_neg hf]
          rw [if_pos ⟨⟨z, z2⟩, Or.inl ⟨q, by simpa using hf⟩⟩] at h
          unfold wbX7_doBar_127
          exact w0' h
    refine ⟨fun q => hrest (fun z => z.1 q), fun q => ⟨n_in (by omega) (by decide), fun q2 => hrest (fun z => z.2 q2), fun q2 => ?_⟩⟩
    rw [if_pos ⟨q, q2⟩] at h
    exact h
  · rw [if_pos (eq.mp he)] at h
    refine ⟨fun q => ?_, fun q => ?_⟩
    · rw [if_pos q] at h
      exact h
    · rw [if_neg q] at h
      exact h
end
