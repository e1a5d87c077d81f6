/-! PLAIN LAYER: what every operation leaves: the relation, the texts, the givings (in that part of the world that is not the reference's) -/
set_option maxRecDepth 100000
def cutP (p : Nat → Bool) (Z : cP) : cP := fun a => if p a = true then Z a else none
abbrev cutS (p : Nat → Bool) (S : XS) : XS := (S.1, S.2.1, cutP p S.2.2.1, S.2.2.2)
theorem cutP_le {p : Nat → Bool} {Z : cP} {a : Nat} {e : cE} (h : cutP p Z a = some e) : Z a = some e := by
  unfold cutP at h
  by_cases c : p a = true
  · rw [if_pos c] at h
    exact h
  · rw [if_neg c] at h
    cases h
theorem cutP_p {p : Nat → Bool} {Z : cP} {a : Nat} {e : cE} (h : cutP p Z a = some e) : p a = true := by
  unfold cutP at h
  by_cases c : p a = true
  · exact c
  · rw [if_neg c] at h
    cases h
theorem cutP_at {p : Nat → Bool} {Z : cP} {a : Nat} (c : p a = true) : cutP p Z a = Z a := by
  unfold cutP
  rw [if_pos c]
def isRA (o : Nat) (Z : cP) (a : Nat) : Prop := a = o + 9 ∨ a = o + 22 ∨ ∃ (cl N : Nat) (c : Nat → Option Nat), (N = 10 ∨ N = 15) ∧ Z a = some (.inl (cl, N, .inr (.inr (.inr (.inr c)))))
def zM (o : Nat) (S S' : XS) : Prop := (∀ a, a < S.2.2.2.1 → ¬ isRA o S.2.2.1 a → S'.2.2.1 a = S.2.2.1 a) ∧ (∀ a e, S'.2.2.1 a = some e → a < S'.2.2.2.1) ∧ S.2.2.2.1 ≤ S'.2.2.2.1 ∧ S'.2.2.2.1 ≤ S.2.2.2.1 + 5000 ∧ S'.2.2.2.2 ≤ S.2.2.2.2 + 100000
def OKf (o : Nat) (cs ad : Nat → Nat) (p : Nat → Bool) (S S' : XS) (g' : St) : Prop := RI S'.1 g' ∧ MI g' ∧ RT o cs (cutS p S') g' ∧ GL o cs ad (cutS p S') g' ∧ zM o S S'
section
variable {b o : Nat} {cs ad : Nat → Nat} {vs : Nat → Option Nat} {S S' : XS} {g g' : St} {p : Nat → Bool}
theorem zX.m (h : zX S S') : zM o S S' := ⟨fun a ha _ => h.1 a ha, h.2.1, h.2.2.1, h.2.2.2.1, h.2.2.2.2⟩
theorem txR_mono {r q : Nat} {l : List Nat} (hZ : ∀ a e, S.2.2.1 a = some e → S'.2.2.1 a = some e) (ht : txR o cs S r q l) : txR o cs S' r q l := by
  obtain ⟨c, a, d, x, dn, h1, h2, h3, h4, h5, h6, h7⟩ := ht
  exact ⟨c, a, d, x, dn, hZ _ _ h1, h2, h3, hZ _ _ h4, h5, h6, nRep_X hZ h7⟩
theorem RT_mono (hZ : ∀ a e, S.2.2.1 a = some e → S'.2.2.1 a = some e) (ht : RT o cs S g) : RT o cs S' g := by
  intro r hr q hq
  obtain ⟨l, h1, h2⟩ := ht r hr q hq
  exact ⟨l, txR_mono hZ h1, h2⟩
theorem GL_mono (hZ : ∀ a e, S.2.2.1 a = some e → S'.2.2.1 a = some e) (ht : GL o cs ad S g) : GL o cs ad S' g := by
  obtain ⟨G, h1, h2, h3⟩ := ht
  exact ⟨G, h1, h2, GLn_mono hZ h3⟩
theorem RT_cut (h : RT o cs (cutS p S) g) : RT o cs S g := RT_mono (fun _ _ q => cutP_le q) h
theorem GL_cut (h : GL o cs ad (cutS p S) g) : GL o cs ad S g := GL_mono (fun _ _ q => cutP_le q) h
theorem RT_g (h12 : g' 12 = g 12) (h13 : g' 13 = g 13) (h14 : g' 99 14 = g 99 14) (h : RT o cs S g) : RT o cs S g' := by
  intro r hr q hq
  rw [h14] at hr
  obtain ⟨l, h1, h2⟩ := h r hr q hq
  refine ⟨l, h1, ?_⟩
  unfold tpart at h2 ⊢
  rw [h12, h13]
  exact h2
theorem GLn_g {G : Nat} {Z : cP} (h17 : ∀ i, i < G → g' 17 i = g 17 i) (h18 : ∀ i, i < G → g' 18 i = g 18 i) (h19 : ∀ i, i < 6 * G → g' 19 i = g 19 i) (h : GLn o cs ad Z g G) : GLn o cs ad Z g' G := by
  obtain ⟨mc, h | ⟨e, N, c, q1, q2, q3, q4, q5, q6, q7, q8⟩⟩ := h
  · exact ⟨mc, Or.inl h⟩
  · refine ⟨mc, Or.inr ⟨e, N, c, q1, q2, q3, q4, q5, q6, q7, fun i hi => ?_⟩⟩
    obtain ⟨a, k, n, D, r1, r2, r3, r4, r5, r6, r7, r8⟩ := q8 i hi
    refine ⟨a, k, n, D, r1, r2, r3, r4, r5, (h17 i hi).trans r6, (h18 i hi).trans r7, fun t ht => ?_⟩
    obtain ⟨s1, s2⟩ := r8 t ht
    exact ⟨s1.trans (h19 _ (by omega)).symm, s2⟩
theorem GL_g (h : GL o cs ad S g) (hs : sameG g g') : GL o cs ad S g' := by
  obtain ⟨G, h1, h2, h3⟩ := h
  obtain ⟨-, -, s17, s18, s19, -, s16⟩ := hs
  exact ⟨G, h1, s16.trans h2, GLn_g (fun i _ => by rw [s17]) (fun i _ => by rw [s18]) (fun i _ => by rw [s19]) h3⟩
theorem cut_keep (hz : RZ b o S) (h : zX S S') : ∀ a e, (cutS p S).2.2.1 a = some e → (cutS p S').2.2.1 a = some e := by
  intro a e q
  have q1 : cutP p S.2.2.1 a = some e := q
  show cutP p S'.2.2.1 a = some e
  rw [cutP_at (cutP_p q1), h.1 a (hz.1 a e (cutP_le q1))]
  exact cutP_le q1
theorem OK3.f (h : OK3 S g S' g') (hz : RZ b o S) (hR : RT o cs (cutS p S) g) (hG : GL o cs ad (cutS p S) g) : OKf o cs ad p S S' g' :=
  ⟨h.1, h.2.1, RT_mono (cut_keep hz h.2.2.1) (RT_g h.2.2.2.1 h.2.2.2.2.1 h.2.2.2.2.2.2.2.2.1 hR), GL_mono (cut_keep hz h.2.2.1) (GL_g hG h.2.2.2), h.2.2.1.m⟩
end
