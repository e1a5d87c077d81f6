/-! PLAIN LAYER: near, in the class -/
set_option maxRecDepth 100000
/-- part p of text r stands for the codes l -/
def txR (o : Nat) (cs : Nat → Nat) (S : XS) (r p : Nat) (l : List Nat) : Prop := ∃ (c : Nat → Option Nat) (a : Nat) (d : Nat → Option Nat) (x dn : Nat), S.2.2.1 (o + 22) = some (.inl (cs 6, 6, .inr (.inr (.inr (.inr c))))) ∧ c r = some a ∧ xF o a ∧ S.2.2.1 a = some (.inl (cs 5, 2, .inr (.inr (.inr (.inr d))))) ∧ d p = some x ∧ dn ≤ 200 ∧ nRep (wX o cs S).1 dn x l
theorem xF22 {o : Nat} : xF o (o + 22) := Or.inr (Or.inl rfl)
section
variable {b o : Nat} {cs ad : Nat → Nat} {vs : Nat → Option Nat} {S : XS}
theorem pX0_near {Q : Int32 → XS → Prop} {a c r : Nat} {l : List Nat} (ha : a < 6) (hc : c < 6) (hr : S.1 99 13 = Int32.ofNat r) (hr6 : r < 6) (ht : txR o cs S r 0 l) (hO : okL l 0 1) (h : Q (nV (nm6 (fun _ => 0) (S.1 5 (6 * a + c)) (S.1 0 a) (S.1 0 c) 0 0 (S.1 99 7)) l) (updR S.1 12 (nm6 (S.1 12) (S.1 5 (6 * a + c)) (S.1 0 a) (S.1 0 c) 0 0 (S.1 99 7)), S.2)) : wX0_near b cs ad vs o S (Int32.ofNat a) (Int32.ofNat c) Q := by
  unfold wX0_near
  have hin : ∀ k : Nat, k < 6 → vp_in (Int32.ofNat k) 6 := fun k hk => n_in hk (by decide)
  have e1 : (6 : Int32) * Int32.ofNat a + Int32.ofNat c = Int32.ofNat (6 * a + c) := n_ix
  rw [e1, n_clamp (n := 6 * a + c) (by omega), n_clamp (n := a) (by omega), n_clamp (n := c) (by omega)]
  refine ⟨n_in (by omega) (by decide), hin 0 (by decide), fun f1 q1 => ⟨hin a ha, hin 1 (by decide), fun f2 q2 => ⟨hin c hc, hin 2 (by decide), fun f3 q3 => ⟨hin 3 (by decide), fun f4 q4 => ⟨hin 4 (by decide), fun f5 q5 => ⟨hin 5 (by decide), fun f6 q6 => ?_⟩⟩⟩⟩⟩⟩
  have e6 : f6 = (updR S.1 12 (nm6 (S.1 12) (S.1 5 (6 * a + c)) (S.1 0 a) (S.1 0 c) 0 0 (S.1 99 7)), S.2) := by
    subst q1 q2 q3 q4 q5
    rw [q6]
    show (upd2 (upd2 (upd2 (upd2 (upd2 (upd2 S.1 12 0 (S.1 5 (6 * a + c))) 12 1 (S.1 0 a)) 12 2 (S.1 0 c)) 12 3 0) 12 4 0) 12 5 (S.1 99 7), S.2) = _
    rw [upd2_updR (f := S.1), updR_upd2', updR_upd2', updR_upd2', updR_upd2', updR_upd2']
    rfl
  obtain ⟨c0, a0, d0, x, dn, h1, h2, h3, h4, h5, h6, h7⟩ := ht
  have er : f6.1 99 13 = Int32.ofNat r := by rw [e6]; exact hr
  have ez : f6.2 = S.2 := by rw [e6]
  rw [er, n_clamp (n := r) (by omega), ez]
  refine ⟨xF22, 6, c0, h1, hin r hr6, a0, h2, h3, 2, d0, h4, n_in (n := 0) (by decide) (by decide), x, h5, dn, h6, ?_⟩
  have hrep : nRep (wX o cs f6).1 dn x l := nRep_X (fun a e q => by rw [ez]; exact q) h7
  have hnm : (wX o cs f6).1 (o + 10) = some (.inl (cs 0, 6, .inl (f6.1 12))) := wX_arr (k := 12) (d := 1) (j := 10) (n := 6) rfl rfl rfl rfl (by decide)
  refine nodeW_of hnm hrep ⟨f6, rfl, ?_⟩
  have ev1 : nV (f6.1 12) l = nV (nm6 (fun _ => 0) (S.1 5 (6 * a + c)) (S.1 0 a) (S.1 0 c) 0 0 (S.1 99 7)) l := by
    refine nV_congr ?_ hO
    rw [e6]
    show rEq 6 ((updR S.1 12 _) 12) _
    rw [updR_s]
    exact nm6_eq
  rw [ev1, e6]
  exact h
end
