/-! PLAIN LAYER: bars in the class; looks of both; bar, lawful -/
set_option maxRecDepth 100000
section
variable {b o : Nat} {cs ad : Nat → Nat} {vs : Nat → Option Nat} {S : XS} {g : St} {T w : Nat}
/-- what bars and near need of the class's state: numbers of towns, the rule's text -/
def cxR (o : Nat) (cs : Nat → Nat) (S : XS) (g : St) (r : Nat) (l : List Nat) : Prop := rEq 6 (S.1 0) (g 1) ∧ rEq 6 (S.1 1) (g 2) ∧ rEq 6 (S.1 3) (g 4) ∧ S.1 99 7 = g 99 6 ∧ S.1 99 13 = Int32.ofNat r ∧ r < 6 ∧ txR o cs S r 0 l ∧ okL l 0 1
theorem cxR_S {S' : XS} {r : Nat} {l : List Nat} (hx : xS S S') (h : cxR o cs S g r l) : cxR o cs S' g r l := by
  obtain ⟨h1, h2, h3, h4, h5, h6, h7, h8⟩ := h
  unfold cxR
  rw [xS_n hx (show (0 : Nat) ≠ 12 by decide) (by decide), xS_n hx (show (1 : Nat) ≠ 12 by decide) (by decide), xS_n hx (show (3 : Nat) ≠ 12 by decide) (by decide), xS_n hx (show (99 : Nat) ≠ 12 by decide) (by decide)]
  exact ⟨h1, h2, h3, h4, h5, h6, wX_Z (xS_2 hx) h7, h8⟩
theorem x12 {S : XS} {N : Nat → Int32} : (updR S.1 12 N, S.2) = (updR (updR S.1 12 N) 14 (S.1 14), S.2) := by
  have : updR (updR S.1 12 N) 14 (S.1 14) = updR S.1 12 N := by
    funext r
    by_cases h : r = 14
    · subst h
      rw [updR_s, updR_n (by decide)]
    · rw [updR_n h]
  rw [this]
theorem pX0_bars {r : Nat} {l : List Nat} {far : Nat → Int32} {Q : Int32 → XS → Prop} {a c : Nat} (hc : cxR o cs S g r l) (hw : g 99 6 = Int32.ofNat w) (hw2 : 2 ≤ w) (hw7 : w ≤ 7) (hac : a ≤ c) (hc6 : c < 6) (hfar : S.1 5 (6 * a + c) = far (6 * a + c)) (hHa : hd w (S.1 14 a)) (hHc : hd w (S.1 14 c)) (h : ∀ S' : XS, xS S S' → S'.1 14 = S.1 14 → Q (bA g l far (S.1 14) a c) S') : wX0_bars b cs ad vs o S (Int32.ofNat a) (Int32.ofNat c) Q := by
  obtain ⟨h1, h2, h3, h4, h5, h6, h7, h8⟩ := hc
  have ha6 : a < 6 := by omega
  have hina : vp_in (Int32.ofNat a) 6 := n_in ha6 (by decide)
  have hinc : vp_in (Int32.ofNat c) 6 := n_in hc6 (by decide)
  have eq : (Int32.ofNat a = Int32.ofNat c) ↔ a = c := n_eqI (by omega) (by omega)
  have ewn : nn (g 99 6) = w := by rw [hw]; exact nn_of (by omega)
  unfold wX0_bars
  rw [n_clamp (n := a) (by omega), n_clamp (n := c) (by omega)]
  unfold bA barA at h
  rw [ewn] at h
  refine ⟨fun hne => ⟨hina, hinc, ?_⟩, fun he => ⟨hina, hina, ?_⟩⟩
  · have hne' : ¬ a = c := fun q => hne (eq.mpr q)
    rw [if_neg hne'] at h
    -- behind the test of near
    have key : ¬ (¬ (S.1 14 a &&& S.1 14 c = 0) ∧ ¬ nA g l far a c = 0) → ∀ S' : XS, xS S S' → S'.1 14 = S.1 14 → wbX0_bars_56 b cs ad vs o Q (Int32.ofNat a) (Int32.ofNat c) S' := by
      intro hno S' hx h14
      have hq0 := h S' hx h14
      rw [if_neg hno] at hq0
      have hq : ∀ v : Int32, (if (¬ S.1 14 a = 0 ∧ ¬ S.1 14 c = 0) ∧ ((g 4 a = Int32.ofNat c ∧ folN (g 99 6) (S.1 14 a) (S.1 14 c) w = false) ∨ (g 4 c = Int32.ofNat a ∧ folN (g 99 6) (S.1 14 c) (S.1 14 a) w = false)) then (1 : Int32) else 0) = v → Q v S' := fun v hv => hv ▸ hq0
      have e3 : S'.1 3 = S.1 3 := xS_n hx (by decide) (by decide)
      have e7 : S'.1 99 7 = Int32.ofNat w := by rw [xS_n hx (show (99 : Nat) ≠ 12 by decide) (by decide), h4, hw]
      have h106 : ¬ (S.1 14 a ≠ 0 ∧ S.1 14 c ≠ 0 ∧ g 4 a = Int32.ofNat c ∧ folN (g 99 6) (S.1 14 a) (S.1 14 c) w = false) → wbX0_bars_106 b cs ad vs o Q (Int32.ofNat a) (Int32.ofNat c) S' := by
        intro hn1
        unfold wbX0_bars_106 wX0_nextDay
        rw [n_clamp (n := a) (by omega), n_clamp (n := c) (by omega), e3, h14, h3 c hc6, e7]
        refine ⟨hinc, fun q => hq _ ?_, fun q => ⟨hina, fun z => hq _ ?_, fun z => ⟨hinc, fun z2 => hq _ ?_, fun z2 => ⟨hinc, hina, fun x2 e2 => ?_⟩⟩⟩⟩
        · rw [if_neg (fun y => y.2.elim (fun y3 => hn1 ⟨y.1.1, y.1.2, y3.1, y3.2⟩) (fun y3 => q y3.1))]
        · rw [if_neg (fun y => y.1.1 z)]
        · rw [if_neg (fun y => y.1.2 z2)]
        · subst e2
          have hf := next_fol hw2 hw7 hHc hHa
          unfold ndI at hf
          rw [← hw] at hf ⊢
          refine ⟨fun z3 => hq _ ?_, fun z3 => hq _ ?_⟩
          · rw [if_neg (fun y => y.2.elim (fun y3 => hn1 ⟨y.1.1, y.1.2, y3.1, y3.2⟩) (fun y3 => z3 (hf.mpr y3.2)))]
          · rw [if_pos ⟨⟨z, z2⟩, Or.inr ⟨q, hf.mp z3⟩⟩]
      unfold wbX0_bars_56 wX0_nextDay
      rw [n_clamp (n := a) (by omega), n_clamp (n := c) (by omega), e3, h14, h3 a ha6, e7]
      refine ⟨hina, fun q => h106 (fun y => q y.2.2.1), fun q => ⟨hina, fun z => h106 (fun y => y.1 z), fun z => ⟨hinc, fun z2 => h106 (fun y => y.2.1 z2), fun z2 => ⟨hina, hinc, fun x2 e2 => ?_⟩⟩⟩⟩
      subst e2
      have hf := next_fol hw2 hw7 hHa hHc
      unfold ndI at hf
      rw [← hw] at hf ⊢
      refine ⟨fun z3 => h106 (fun y => z3 (hf.mpr y.2.2.2)), fun z3 => hq _ ?_⟩
      rw [if_pos ⟨⟨z, z2⟩, Or.inl ⟨q, hf.mp z3⟩⟩]
    refine ⟨fun q => key (fun y => y.1 q) S xS.rf rfl, fun q => pX0_near ha6 hc6 h5 h6 h7 h8 ?_⟩
    have en : nV (nm6 (fun _ => 0) (S.1 5 (6 * a + c)) (S.1 0 a) (S.1 0 c) 0 0 (S.1 99 7)) l = nA g l far a c := by
      unfold nA nearV
      rw [hfar, h1 a ha6, h1 c hc6, h4]
    rw [en]
    have hx : xS S (updR S.1 12 (nm6 (S.1 12) (S.1 5 (6 * a + c)) (S.1 0 a) (S.1 0 c) 0 0 (S.1 99 7)), S.2) := ⟨_, _, x12⟩
    refine ⟨fun z => key (fun y => y.2 z) _ hx ?_, fun z => ?_⟩
    · rfl
    · have := h _ hx rfl
      rw [if_pos ⟨q, z⟩] at this
      exact this
  · have hac' := eq.mp he
    rw [if_pos hac', ← h2 a ha6] at h
    refine ⟨fun q => ?_, fun q => ?_⟩
    · rw [if_pos q] at h
      exact h S xS.rf rfl
    · rw [if_neg q] at h
      exact h S xS.rf rfl
end
