/-! PLAIN LAYER: find, both -/
set_option maxRecDepth 100000
/-- the class's state but for what find leaves -/
def xN (S f : XS) : Prop := (∀ r, r ≠ 12 → r ≠ 14 → r ≠ 19 → r ≠ 20 → r ≠ 23 → r ≠ 26 → r ≠ 99 → f.1 r = S.1 r) ∧ (∀ k, k ≠ 15 → k ≠ 16 → k ≠ 17 → k ≠ 21 → k ≠ 24 → k ≠ 25 → f.1 99 k = S.1 99 k) ∧ f.2.2 = S.2.2 ∧ byR (f.1 19) ∧ byR (f.1 20) ∧ byR (f.1 26)
theorem RI_find {S f' : XS} {g f : St} (hI : RI S.1 g) (hx : xN S f') (hm : ∀ r, r ≠ 22 → (r < 39 ∨ 55 < r) → r ≠ 99 → f r = g r) (hm99 : ∀ k, k ≠ 20 → k ≠ 21 → f 99 k = g 99 k) (hF : foundR (f'.1 99 24) (f'.1 99 25) (f'.1 26) (f 99 20) (f 99 21) (f 22)) : RI f'.1 f := by
  obtain ⟨k1, k2, -, k5, k6, k7⟩ := hx
  obtain ⟨aI, aA, aB, aF, aT, aD, aW, aG, aS, aY⟩ := hI
  have hr : ∀ r, r ≠ 12 → r ≠ 14 → r ≠ 19 → r ≠ 20 → r ≠ 23 → r ≠ 26 → r ≠ 99 → f'.1 r = S.1 r := k1
  refine ⟨?_, ?_, ?_, ?_, ?_, hF, ?_, ?_, ?_, k5, k6, k7⟩
  · rw [k2 6 (by decide) (by decide) (by decide) (by decide) (by decide) (by decide), k2 7 (by decide) (by decide) (by decide) (by decide) (by decide) (by decide), k2 10 (by decide) (by decide) (by decide) (by decide) (by decide) (by decide), k2 13 (by decide) (by decide) (by decide) (by decide) (by decide) (by decide), k2 39 (by decide) (by decide) (by decide) (by decide) (by decide) (by decide), k2 41 (by decide) (by decide) (by decide) (by decide) (by decide) (by decide), hm99 0 (by decide) (by decide), hm99 6 (by decide) (by decide), hm99 7 (by decide) (by decide), hm99 15 (by decide) (by decide), hm99 14 (by decide) (by decide), hm99 11 (by decide) (by decide)]
    exact aI
  · rw [hr 0 (by decide) (by decide) (by decide) (by decide) (by decide) (by decide) (by decide), hr 1 (by decide) (by decide) (by decide) (by decide) (by decide) (by decide) (by decide), hr 2 (by decide) (by decide) (by decide) (by decide) (by decide) (by decide) (by decide), hr 3 (by decide) (by decide) (by decide) (by decide) (by decide) (by decide) (by decide), hr 4 (by decide) (by decide) (by decide) (by decide) (by decide) (by decide) (by decide), hm 1 (by decide) (by decide) (by decide), hm 2 (by decide) (by decide) (by decide), hm 3 (by decide) (by decide) (by decide), hm 4 (by decide) (by decide) (by decide), hm 5 (by decide) (by decide) (by decide)]
    exact aA
  · rw [hr 8 (by decide) (by decide) (by decide) (by decide) (by decide) (by decide) (by decide), hr 9 (by decide) (by decide) (by decide) (by decide) (by decide) (by decide) (by decide), hm 8 (by decide) (by decide) (by decide), hm 9 (by decide) (by decide) (by decide), hm99 7 (by decide) (by decide)]
    exact aB
  · rw [hr 5 (by decide) (by decide) (by decide) (by decide) (by decide) (by decide) (by decide), hm 5 (by decide) (by decide) (by decide), hm99 0 (by decide) (by decide)]
    exact aF
  · rw [hr 40 (by decide) (by decide) (by decide) (by decide) (by decide) (by decide) (by decide), hm 10 (by decide) (by decide) (by decide), hm99 11 (by decide) (by decide)]
    exact aT
  · rw [k2 28 (by decide) (by decide) (by decide) (by decide) (by decide) (by decide), hr 29 (by decide) (by decide) (by decide) (by decide) (by decide) (by decide) (by decide), hm 24 (by decide) (by decide) (by decide), hm99 23 (by decide) (by decide)]
    exact aW
  · rw [k2 34 (by decide) (by decide) (by decide) (by decide) (by decide) (by decide), k2 35 (by decide) (by decide) (by decide) (by decide) (by decide) (by decide), k2 36 (by decide) (by decide) (by decide) (by decide) (by decide) (by decide), k2 37 (by decide) (by decide) (by decide) (by decide) (by decide) (by decide), hr 30 (by decide) (by decide) (by decide) (by decide) (by decide) (by decide) (by decide), hr 31 (by decide) (by decide) (by decide) (by decide) (by decide) (by decide) (by decide), hr 32 (by decide) (by decide) (by decide) (by decide) (by decide) (by decide) (by decide), hr 33 (by decide) (by decide) (by decide) (by decide) (by decide) (by decide) (by decide), hr 8 (by decide) (by decide) (by decide) (by decide) (by decide) (by decide) (by decide), hr 9 (by decide) (by decide) (by decide) (by decide) (by decide) (by decide) (by decide), hm99 25 (by decide) (by decide), hm99 26 (by decide) (by decide), hm99 27 (by decide) (by decide), hm99 28 (by decide) (by decide), hm99 29 (by decide) (by decide), hm 30 (by decide) (by decide) (by decide), hm 31 (by decide) (by decide) (by decide), hm 32 (by decide) (by decide) (by decide), hm 33 (by decide) (by decide) (by decide), hm 34 (by decide) (by decide) (by decide), hm 35 (by decide) (by decide) (by decide)]
    exact aG
  · rw [hr 60 (by decide) (by decide) (by decide) (by decide) (by decide) (by decide) (by decide), hr 61 (by decide) (by decide) (by decide) (by decide) (by decide) (by decide) (by decide), hr 62 (by decide) (by decide) (by decide) (by decide) (by decide) (by decide) (by decide), hr 63 (by decide) (by decide) (by decide) (by decide) (by decide) (by decide) (by decide), hr 70 (by decide) (by decide) (by decide) (by decide) (by decide) (by decide) (by decide), hr 71 (by decide) (by decide) (by decide) (by decide) (by decide) (by decide) (by decide), hr 72 (by decide) (by decide) (by decide) (by decide) (by decide) (by decide) (by decide), hr 73 (by decide) (by decide) (by decide) (by decide) (by decide) (by decide) (by decide), hm 36 (by decide) (by decide) (by decide), hm 37 (by decide) (by decide) (by decide), hm 38 (by decide) (by decide) (by decide)]
    exact aS
theorem MI_find {g f : St} (hM : MI g) (hm : ∀ r, r ≠ 22 → (r < 39 ∨ 55 < r) → r ≠ 99 → f r = g r) (hm99 : ∀ k, k ≠ 20 → k ≠ 21 → f 99 k = g 99 k) (h20 : f 99 20 = 0 ∨ f 99 20 = 1) (h21 : bN (f 99 21) 6) (h22 : rIn 6 (f 22) 0 6) : MI f := by
  obtain ⟨m1, m2, m3, m4, m5, m6, m7, m8⟩ := hM
  unfold MI
  rw [hm99 0 (by decide) (by decide), hm99 6 (by decide) (by decide), hm99 7 (by decide) (by decide), hm99 11 (by decide) (by decide), hm99 14 (by decide) (by decide), hm99 15 (by decide) (by decide), hm99 16 (by decide) (by decide), hm99 23 (by decide) (by decide), hm99 25 (by decide) (by decide), hm99 26 (by decide) (by decide), hm99 27 (by decide) (by decide), hm99 28 (by decide) (by decide), hm99 29 (by decide) (by decide)]
  rw [hm 1 (by decide) (by decide) (by decide), hm 2 (by decide) (by decide) (by decide), hm 3 (by decide) (by decide) (by decide), hm 4 (by decide) (by decide) (by decide), hm 5 (by decide) (by decide) (by decide), hm 8 (by decide) (by decide) (by decide), hm 9 (by decide) (by decide) (by decide), hm 10 (by decide) (by decide) (by decide), hm 24 (by decide) (by decide) (by decide), hm 30 (by decide) (by decide) (by decide), hm 31 (by decide) (by decide) (by decide), hm 32 (by decide) (by decide) (by decide), hm 33 (by decide) (by decide) (by decide), hm 34 (by decide) (by decide) (by decide), hm 35 (by decide) (by decide) (by decide), hm 36 (by decide) (by decide) (by decide), hm 37 (by decide) (by decide) (by decide)]
  exact ⟨m1, m2, m3, m4, ⟨h20, h21, h22⟩, m6, m7, m8⟩
section
variable {b o : Nat} {cs ad : Nat → Nat} {vs : Nat → Option Nat} {S Sb : XS} {g : St} {T w : Nat}
/-- what find answers, in the class -/
def xfR (aim : Nat) (n : Nat) : Option (Int64 × List Nat) → Int64
  | none => -4611686018427387903
  | some q => if aim = 1 then (Int32.ofNat n).toInt64 else if aim = 2 then q.1 else -q.1
theorem xfR_s {aim n : Nat} {v : Int64} {P : List Nat} : xfR aim n (some (v, P)) = if aim = 1 then (Int32.ofNat n).toInt64 else if aim = 2 then v else -v := rfl
/-- find behind its tests, in the class: from the search on -/
theorem x_find58 {r aim : Nat} {l : List Nat} {far : Nat → Int32} {vl : List Nat → Int64} {Q : Int64 → XS → Prop} (hIb : RI Sb.1 g) (hc : cxR o cs Sb g r l) (hT : g 99 0 = Int32.ofNat T) (hT6 : T ≤ 6) (hw : g 99 6 = Int32.ofNat w) (hw2 : 2 ≤ w) (hw7 : w ≤ 7) (ha1 : 1 ≤ aim) (ha3 : aim ≤ 3) (hfar : ∀ a c, a < T → c < T → Sb.1 5 (6 * a + c) = far (6 * a + c)) (hMt : mtOk b o cs ad vs (sS Sb (i_shl 1 (Int32.ofNat T) - 1) aim) T w (i_shl 1 (Int32.ofNat T) - 1) aim vl)
    (h : ∀ f', xN Sb f' → f'.1 99 25 = Int32.ofNat T → (((fdA aim vl (wA (bA g l far) T w (i_shl 1 (Int32.ofNat T) - 1)) (0, none)).2.2 = none ∧ f'.1 99 24 = 0) ∨ ∃ v P, (fdA aim vl (wA (bA g l far) T w (i_shl 1 (Int32.ofNat T) - 1)) (0, none)).2.2 = some (v, P) ∧ f'.1 99 24 = 1 ∧ ∀ i, i < T → f'.1 26 i = Int32.ofNat (dyO P i)) → Q (xfR aim (fdA aim vl (wA (bA g l far) T w (i_shl 1 (Int32.ofNat T) - 1)) (0, none)).2.1 (fdA aim vl (wA (bA g l far) T w (i_shl 1 (Int32.ofNat T) - 1)) (0, none)).2.2) f') : wbX0_find_58 b cs ad vs o Q (Int32.ofNat aim) Sb := by
  have hTX : Sb.1 99 6 = Int32.ofNat T := hIb.1.1.trans hT
  unfold wbX0_find_58 wX0_all
  rw [hTX]
  generalize hset : i_shl 1 (Int32.ofNat T) - 1 = set at *
  refine x_search (sxC_of hc hTX hw hfar) hMt hT6 hw2 hw7 hIb.2.2.2.2.2.2.2.2.2.2.1 (fun f hb => ?_)
  generalize hA : (fdA aim vl (wA (bA g l far) T w set) (0, none)).2 = A at *
  have hxT := xT_sx hb
  have hk := hb.2.2.2.2.2.2.2
  have hby26 : byR (f.1 26) := by
    rw [hxT.1 26 (by decide) (by decide) (by decide) (by decide) (by decide)]
    exact hIb.2.2.2.2.2.2.2.2.2.2.2
  have h81 : ∀ t0 : Int32, vz t0 → f.1 99 17 = t0 → wbX0_find_81 b cs ad vs o Q (Int32.ofNat aim) t0 f := by
    intro t0 hvz h17
    unfold wbX0_find_81
    refine ⟨hvz, fun f5 e5 => ⟨by decide, by decide, by decide, by decide, by decide, fun i hi => ?_, fun f12 e12 f14 e14 => ?_⟩⟩
    · rw [e5, show (0 : Int32).toNatClampNeg + i = i by show 0 + i = i; omega]
      exact hxT.2.2.2.2.2 i hi
    · have e12' : f12 = (updR (upd2 f.1 99 24 t0) 26 (cp (f.1 20) (f.1 26) 6), f.2) := by
        rw [e12, e5]
        show (updR (upd2 f.1 99 24 t0) 26 (va_cpy (f.1 20) (f.1 26) 0 0 6), f.2) = _
        rw [cpy_cp]
      have e6 : f12.1 99 6 = Int32.ofNat T := by
        rw [e12']
        show f.1 99 6 = _
        rw [hxT.2.1 6 (by decide) (by decide) (by decide) (by decide)]
        exact hTX
      rw [e6, e12'] at e14
      subst e14
      have hxN : xN Sb (upd2 (updR (upd2 f.1 99 24 t0) 26 (cp (f.1 20) (f.1 26) 6)) 99 25 (Int32.ofNat T), f.2) := by
        refine ⟨fun q a1 a2 a3 a4 a5 a6 a7 => ?_, fun j a1 a2 a3 a4 a5 a6 => ?_, hxT.2.2.2.1, hxT.2.2.2.2.1, hxT.2.2.2.2.2, fun i hi => ?_⟩
        · show upd2 (updR (upd2 f.1 99 24 t0) 26 _) 99 25 _ q = _
          rw [upd2_o a7, updR_n a6, upd2_o a7]
          exact hxT.1 q a1 a2 a3 a4 a7
        · show upd2 (updR (upd2 f.1 99 24 t0) 26 _) 99 25 _ 99 j = _
          rw [upd2_at, if_neg a6, updR_n (by decide), upd2_at, if_neg a5]
          exact hxT.2.1 j a1 a2 a3 a4
        · show fits .byte (.int (cp (f.1 20) (f.1 26) 6 i)) = true
          unfold cp
          rw [if_pos hi]
          exact hxT.2.2.2.2.2 i hi
      have e17 : ((upd2 (updR (upd2 f.1 99 24 t0) 26 (cp (f.1 20) (f.1 26) 6)) 99 25 (Int32.ofNat T), f.2) : XS).1 99 17 = t0 := h17
      have e16 : ((upd2 (updR (upd2 f.1 99 24 t0) 26 (cp (f.1 20) (f.1 26) 6)) 99 25 (Int32.ofNat T), f.2) : XS).1 99 16 = Int32.ofNat A.1 := hb.2.2.2.2.2.2.1
      rw [e17, e16]
      rcases hk with ⟨hk, hk17⟩ | ⟨v, P, hk, hk17, hkv, hk20⟩
      · have ht0 : t0 = 0 := h17.symm.trans hk17
        subst ht0
        have h' := h _ hxN rfl (Or.inl ⟨hk, rfl⟩)
        rw [hk] at h'
        exact w0 h'
      · have ht0 : t0 = 1 := h17.symm.trans hk17
        subst ht0
        have h' := h _ hxN rfl (Or.inr ⟨v, P, hk, rfl, fun i hi => by
          show cp (f.1 20) (f.1 26) 6 i = _
          unfold cp
          rw [if_pos (by omega)]
          exact hk20 i hi⟩)
        rw [hk] at h'
        refine w1 ?_
        have ea1 : (Int32.ofNat aim = 1) ↔ aim = 1 := n_eqI (b := 1) (by omega) (by decide)
        have ea2 : (Int32.ofNat aim = 2) ↔ aim = 2 := n_eqI (b := 2) (by omega) (by decide)
        have ekv : ((upd2 (updR (upd2 f.1 99 24 1) 26 (cp (f.1 20) (f.1 26) 6)) 99 25 (Int32.ofNat T), f.2) : XS).2.1.1 = v := hkv
        rw [ekv]
        rw [xfR_s] at h'
        refine ⟨fun q => ⟨fun q2 => ?_, fun q2 => ?_⟩, fun q => ?_⟩
        · rw [if_neg (fun z => q (ea1.mpr z)), if_neg (fun z => q2 (ea2.mpr z))] at h'; exact h'
        · rw [if_neg (fun z => q (ea1.mpr z)), if_pos (ea2.mp q2)] at h'; exact h'
        · rw [if_pos (ea1.mp q)] at h'; exact h'
  rcases hk with ⟨hk, hk17⟩ | ⟨v, P, hk, hk17, hkv, hk20⟩
  · exact ⟨fun _ => h81 0 vz0 hk17, fun q => absurd (hk17.symm.trans q) (by decide)⟩
  · exact ⟨fun q => absurd hk17 q, fun _ => h81 1 vz1 hk17⟩
end
