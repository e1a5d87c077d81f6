/-! PLAIN LAYER: what a day is worth, in the class -/
set_option maxRecDepth 100000
section
variable {b o : Nat} {cs ad : Nat → Nat} {vs : Nat → Option Nat} {S : XS}
theorem pX0_saysWorth {Q : Int32 → XS → Prop} {t r : Nat} {d hours others : Int32} {l : List Nat} (ht6 : t < 6) (hr : S.1 99 13 = Int32.ofNat r) (hr6 : r < 6) (ht : txR o cs S r 1 l) (hO : okL l 0 1) (h : Q (clp (nV (nm6 (fun _ => 0) hours (S.1 0 t) others d (b3 (S.1 2 t = d)) (S.1 99 7)) l)) (updR S.1 12 (nm6 (S.1 12) hours (S.1 0 t) others d (b3 (S.1 2 t = d)) (S.1 99 7)), S.2)) : wX0_saysWorth b cs ad vs o S (Int32.ofNat t) d hours others Q := by
  unfold wX0_saysWorth
  have hin : ∀ k : Nat, k < 6 → vp_in (Int32.ofNat k) 6 := fun k hk => n_in hk (by decide)
  rw [n_clamp (n := t) (by omega)]
  refine ⟨hin 0 (by decide), fun f1 q1 => ⟨hin t ht6, hin 1 (by decide), fun f2 q2 => ⟨hin 2 (by decide), fun f3 q3 => ⟨hin 3 (by decide), fun f4 q4 => ⟨hin t ht6, ?_⟩⟩⟩⟩⟩
  have e2 : f4.1 2 = S.1 2 := by rw [q4, q3, q2, q1]; rfl
  rw [e2]
  have hgo : ∀ v, v = b3 (S.1 2 t = d) → wbX0_saysWorth_54 b cs ad vs o Q v (4 : Int32) f4 := by
    intro v hv
    unfold wbX0_saysWorth_54
    refine ⟨hin 4 (by decide), fun f5 q5 => ⟨hin 5 (by decide), fun f6 q6 => ?_⟩⟩
    have e6 : f6 = (updR S.1 12 (nm6 (S.1 12) hours (S.1 0 t) others d v (S.1 99 7)), S.2) := by
      subst q1 q2 q3 q4 q5
      rw [q6]
      show (upd2 (upd2 (upd2 (upd2 (upd2 (upd2 S.1 12 0 hours) 12 1 (S.1 0 t)) 12 2 others) 12 3 d) 12 4 v) 12 5 (S.1 99 7), S.2) = _
      rw [upd2_updR (f := S.1), updR_upd2', updR_upd2', updR_upd2', updR_upd2', updR_upd2']
      rfl
    obtain ⟨c0, a0, d0, x, dn, h1, h2, h3, h4, h5, h6, h7⟩ := ht
    have er : f6.1 99 13 = Int32.ofNat r := by rw [e6]; exact hr
    have ez : f6.2 = S.2 := by rw [e6]
    rw [er, n_clamp (n := r) (by omega), ez]
    refine ⟨xF22, 6, c0, h1, hin r hr6, a0, h2, h3, 2, d0, h4, n_in (n := 1) (by decide) (by decide), x, h5, dn, h6, ?_⟩
    have hrep : nRep (wX o cs f6).1 dn x l := nRep_X (fun a e q => by rw [ez]; exact q) h7
    have hnm : (wX o cs f6).1 (o + 10) = some (.inl (cs 0, 6, .inl (f6.1 12))) := wX_arr (k := 12) (d := 1) (j := 10) (n := 6) rfl rfl rfl rfl (by decide)
    refine nodeW_of hnm hrep ⟨f6, rfl, ?_⟩
    have ev1 : nV (f6.1 12) l = nV (nm6 (fun _ => 0) hours (S.1 0 t) others d (b3 (S.1 2 t = d)) (S.1 99 7)) l := by
      refine nV_congr ?_ hO
      rw [e6]
      show rEq 6 ((updR S.1 12 _) 12) _
      rw [updR_s, hv]
      exact nm6_eq
    rw [ev1, clp_x, e6, hv]
    exact h
  exact ⟨fun q => hgo _ (by unfold b3; rw [if_neg q]), fun q => hgo _ (by unfold b3; rw [if_pos q])⟩
end
