/-! PLAIN LAYER: find -/
set_option maxRecDepth 100000
theorem i_neg {c : Nat} (h : c ≤ 1000) : (-(Int32.ofNat c)).toInt = -(c : Int) := by
  rw [Int32.toInt_neg, n_toInt (by omega)]
  exact Int.bmod_eq_of_le (by omega) (by omega)
theorem l_neg {c : Nat} (h : c ≤ 1000) : -((-(Int32.ofNat c)).toInt64) = (Int32.ofNat c).toInt64 := by
  apply Int64.toInt_inj.mp
  rw [Int64.toInt_neg, l_of, l_of, i_neg h, n_toInt (by omega), Int.neg_neg]
  exact Int.bmod_eq_of_le (by omega) (by omega)
section
variable {b o : Nat} {cs ad : Nat → Nat} {vs : Nat → Option Nat} {S Sb : XS} {g : St} {T w : Nat}
theorem lyR_RI (h : lyR S Sb) (hI : RI S.1 g) : RI Sb.1 g := by
  have e : Sb.1 = updR (updR (updR S.1 12 (Sb.1 12)) 14 (Sb.1 14)) 23 (Sb.1 23) := by
    funext r
    by_cases c1 : r = 23
    · subst c1; rw [updR_s]
    · rw [updR_n c1]
      by_cases c2 : r = 14
      · subst c2; rw [updR_s]
      · rw [updR_n c2]
        by_cases c3 : r = 12
        · subst c3; rw [updR_s]
        · rw [updR_n c3]; exact h.1 r c3 c2 c1
  rw [e]
  exact hI
theorem cxR_I {r : Nat} {l : List Nat} (hI : RI S.1 g) (hIb : RI Sb.1 g) (hz : Sb.2.2.1 = S.2.2.1) (hc : cxR o cs S g r l) : cxR o cs Sb g r l := by
  obtain ⟨c1, c2, c3, c4, c5, c6, c7, c8⟩ := hc
  refine ⟨hIb.2.1.1, hIb.2.1.2.1, hIb.2.1.2.2.2.1, hIb.1.2.1, ?_, c6, txR_Z hz c7, c8⟩
  rw [hIb.1.2.2.2.1, ← hI.1.2.2.2.1]
  exact c5
/-- find of both behind the tests -/
theorem find_both {aim : Nat} {x2 : Int32} {r : Nat} {l : List Nat} {vl : List Nat → Int64} {vI : List Nat → Int32} {MEM : St → Prop} (hI : RI S.1 g) (hM : MI g) (hIb : RI Sb.1 g) (hz : Sb.2.2 = S.2.2) (hxb : ∀ f', xN Sb f' → xN S f') (hc : cxR o cs S g r l) (hpl : partL g 0 l) (hT : g 99 0 = Int32.ofNat T) (hT6 : T ≤ 6) (hw : g 99 6 = Int32.ofNat w) (hw2 : 2 ≤ w) (hw7 : w ≤ 7) (ha1 : 1 ≤ aim) (ha3 : aim ≤ 3)
    (hMt : mtOk b o cs ad vs (sS Sb (i_shl 1 (Int32.ofNat T) - 1) aim) T w (i_shl 1 (Int32.ofNat T) - 1) aim vl) (hMm : ∀ f f' : St, f' 53 = f 53 → f' 54 = f 54 → MEM f → MEM f') (hM0 : ∀ f : St, (∀ j, j < 29400 → aim = 2 → f 54 j = 0) → MEM f) (hev : ∀ g1, lkM g l T g1 → evM aim x2 vI MEM T w g1) (hcv : cmpV aim vl vI) (hI1 : aim = 1 → ∀ P, vl P = 1) (hres : ∀ n P, (aim = 1 → n = 1) → xfR aim n (some (vl P, P)) = (vI P).toInt64) (hm26 : ∀ (Q : Int64 → St → Prop), wbX7_find_26 Q (Int32.ofNat aim) x2 g → wX7_find g (Int32.ofNat aim) x2 Q) : wbX0_find_58 b cs ad vs o (fun r S' => wX7_find g (Int32.ofNat aim) x2 (fun r' g' => r = r' ∧ OK2 S g S' g')) (Int32.ofNat aim) Sb := by
  have hfar : ∀ a c, a < T → c < T → Sb.1 5 (6 * a + c) = farF T (g 5) (g 39) (6 * a + c) := fun a c h1 h2 => far_eq hIb hM hT hT6 h1 h2
  generalize hFF : farF T (g 5) (g 39) = FF at hfar
  refine x_find58 hIb (cxR_I hI hIb (by rw [hz]) hc) hT hT6 hw hw2 hw7 ha1 ha3 hfar hMt (fun fX hxX h25 hkX => ?_)
  have hxS := hxb fX hxX
  refine hm26 _ ?_
  unfold wbX7_find_26
  refine pX7_looks hT hT6 hpl (fun g1 hlk => ?_)
  have h39 : g1 39 = FF := hlk.2.1.trans hFF
  intro f4 e4
  have hfn4 : fnM g1 f4 := ⟨fun q _ _ _ _ _ _ a7 => by rw [e4, upd2_o a7], fun j a1 _ => by rw [e4, upd2_at, if_neg a1]⟩
  have h204 : f4 99 20 = 0 := by rw [e4]; rfl
  have hD := hM.2.2.2.2.1
  have h214 : bN (f4 99 21) 6 := by
    rw [e4]
    show bN (g1 99 21) 6
    rw [hlk.1 99 (by decide) (by decide) (by decide) (by decide)]
    exact hD.2.1
  have h224 : rIn 6 (f4 22) 0 6 := by
    rw [e4]
    show rIn 6 (g1 22) 0 6
    rw [hlk.1 22 (by decide) (by decide) (by decide) (by decide)]
    exact hD.2.2
  have hfin : ∀ f5 : St, (∀ q, q ≠ 54 → f5 q = f4 q) → (∀ j, j < 29400 → aim = 2 → f5 54 j = 0) → wbX7_find_62 (fun r' g' => xfR aim (fdA aim vl (wA (bA g l FF) T w (i_shl 1 (Int32.ofNat T) - 1)) (0, none)).2.1 (fdA aim vl (wA (bA g l FF) T w (i_shl 1 (Int32.ofNat T) - 1)) (0, none)).2.2 = r' ∧ OK2 S g fX g') (Int32.ofNat aim) x2 f5 := by
    intro f5 hf5 h545
    have e599 : f5 99 = f4 99 := hf5 99 (by decide)
    have e522 : f5 22 = f4 22 := hf5 22 (by decide)
    have hfn5 : fnM g1 f5 := fnM_tr hfn4 ⟨fun q _ _ _ _ _ a6 _ => hf5 q a6, fun j _ _ => by rw [e599]⟩
    refine m_find hlk hT hT6 hw hw2 hw7 ha1 ha3 hMm (hev g1 hlk) hcv hI1 hfn5 (hM0 f5 h545) (by rw [e599]; exact h204) (by rw [e599]; exact h214) (by rw [e522]; exact h224) (fun f' x3 hfn hkm h21 h22 => ?_)
    rw [h39] at hkm
    have hm : ∀ q, q ≠ 22 → (q < 39 ∨ 55 < q) → q ≠ 99 → f' q = g q := fun q a1 a2 a3 => (hfn.1 q a1 (by omega) (by omega) (by omega) (by omega) (by omega) a3).trans (hlk.1 q (by omega) (by omega) (by omega) (by omega))
    have hm99 : ∀ j, j ≠ 20 → j ≠ 21 → f' 99 j = g 99 j := fun j a1 a2 => (hfn.2 j a1 a2).trans (by rw [hlk.1 99 (by decide) (by decide) (by decide) (by decide)])
    have hsG : sameG g f' := ⟨hm 12 (by decide) (by decide) (by decide), hm 13 (by decide) (by decide) (by decide), hm 17 (by decide) (by decide) (by decide), hm 18 (by decide) (by decide) (by decide), hm 19 (by decide) (by decide) (by decide), hm99 14 (by decide) (by decide), hm99 16 (by decide) (by decide)⟩
    rcases hkm with ⟨hk, hk20⟩ | ⟨P, hk, hk20, hk21, hk22, hk3⟩
    · refine ⟨fun _ => ⟨?_, ?_⟩, fun q => absurd hk20 q⟩
      · rw [hk]; rfl
      · rcases hkX with ⟨-, h24⟩ | ⟨v, P, hkX, -⟩
        · refine ⟨RI_find hI hxS hm hm99 ⟨h24.trans hk20.symm, fun q => ?_⟩, MI_find hM hm hm99 (Or.inl hk20) h21 h22, hxS.2.2.1, hsG⟩
          rw [hk20] at q
          exact absurd q (by decide)
        · rw [hk] at hkX
          exact absurd hkX (by simp)
    · refine ⟨fun q => ?_, fun _ => ⟨?_, ?_⟩⟩
      · rw [hk20] at q
        exact absurd q (by decide)
      · rw [hk, hk3]
        refine hres _ P (fun ha => ?_)
        subst ha
        -- the first one: one is counted
        cases hL : wA (bA g l FF) T w (i_shl 1 (Int32.ofNat T) - 1) with
        | nil =>
          rw [hL] at hk
          exact absurd hk (by simp [fdA])
        | cons P0 L => rfl
      · rcases hkX with ⟨hkX, -⟩ | ⟨v, P2, hkX, h24, h26⟩
        · rw [hk] at hkX
          exact absurd hkX (by simp)
        · rw [hk] at hkX
          have hP2 : P2 = P := by
            have := congrArg (fun z => z.map Prod.snd) hkX
            simp at this
            exact this.symm
          subst hP2
          refine ⟨RI_find hI hxS hm hm99 ⟨h24.trans hk20.symm, fun _ => ⟨h25.trans hk21.symm, fun i hi => ?_⟩⟩, MI_find hM hm hm99 (Or.inr hk20) h21 h22, hxS.2.2.1, hsG⟩
          rw [hk21, nn_of (by omega)] at hi
          rw [h26 i hi, hk22 i hi]
  have ea2 : (Int32.ofNat aim = 2) ↔ aim = 2 := n_eqI (b := 2) (by omega) (by decide)
  refine ijX7_find_37_3 29400 0 (by decide) (by decide) (fun k y1 y2 f => y1 = Int32.ofNat aim ∧ y2 = x2 ∧ (∀ q, q ≠ 54 → f q = f4 q) ∧ ∀ j, j < k → f 54 j = 0) ?_ _ _ _ ⟨rfl, rfl, fun _ _ => rfl, fun j hj => absurd hj (Nat.not_lt_zero _)⟩
  intro K k y1 y2 f _ hk hP hK
  obtain ⟨rfl, rfl, hf, h54⟩ := hP
  unfold wbX7_find_37
  refine w_upto (T := 29400) (by decide) hk (fun q => ?_) (fun hlt => ⟨fun q => ?_, fun q => ?_⟩)
  · subst q
    exact hfin f hf (fun j hj _ => h54 j hj)
  · exact hfin f hf (fun j _ ha => absurd (ea2.mpr ha) q)
  · rw [n_clamp (by omega)]
    refine ⟨n_in hlt (by decide), fun f5 e5 x3 e3 => ?_⟩
    rw [n_suc] at e3
    subst e3
    refine hK _ _ _ hlt ⟨rfl, rfl, fun q hq => by rw [e5, upd2_o hq]; exact hf q hq, fun j hj => ?_⟩
    rw [e5, upd2_at]
    by_cases c : j = k
    · rw [if_pos c]
    · rw [if_neg c]; exact h54 j (by omega)
theorem op_find (hI : RI S.1 g) (hM : MI g) (hR : RT o cs S g) (hG : GL o cs ad S g) (x1 x2 : Int32) : wX0_find b cs ad vs o S x1 x2 (fun r S' => wX7_find g x1 x2 (fun r' g' => r = r' ∧ OK2 S g S' g')) := by
  have hO := (OK1.rf hI hM).two
  have hM0 := hM
  obtain ⟨r, l, hcx, hpl⟩ := cxr_of hI hM hR
  obtain ⟨r1, l1, hdx, hpl1⟩ := dxr_of hI hM hR
  obtain ⟨G, hG12, eG, hL⟩ := hG
  obtain ⟨⟨⟨T, hT6, hT⟩, ⟨w, hw2, hw7, hw⟩, -⟩, ⟨-, -, -, -, hroad⟩, -⟩ := hM
  have hTX : S.1 99 6 = Int32.ofNat T := hI.1.1.trans hT
  have hwX : S.1 99 7 = Int32.ofNat w := hI.1.2.1.trans hw
  have i1 : (1 : Int32).toInt = 1 := by decide
  have i3 : (3 : Int32).toInt = 3 := by decide
  unfold wX0_find
  refine pX0_in ?_
  rw [l_of, show (1 : Int64).toInt = 1 by decide, show (3 : Int64).toInt = 3 by decide]
  by_cases hx : 1 ≤ x1.toInt ∧ x1.toInt ≤ 3
  · rw [if_pos hx]
    refine w1' ?_
    obtain ⟨aim, ha3, rfl⟩ := bN_of (m := 3) (x := x1) (by omega) (by omega) (by decide)
    rw [n_toInt (by omega)] at hx
    have hcase : aim = 1 ∨ aim = 2 ∨ aim = 3 := by omega
    -- the reference's tests
    have hin : ∀ Q : Int32 → St → Prop, Q 1 g → wX7_in g (Int32.ofNat aim) 1 3 Q := by
      intro Q h
      refine pX7_in ?_
      rw [i1, i3, n_toInt (by omega), if_pos (by omega)]
      exact h
    have hm26 : ¬ aim = 3 → ∀ (Q : Int64 → St → Prop), wbX7_find_26 Q (Int32.ofNat aim) x2 g → wX7_find g (Int32.ofNat aim) x2 Q := by
      intro hne Q h
      unfold wX7_find
      refine hin _ (w1' ⟨fun _ => h, fun q => absurd ((n_eqI (b := 3) (by omega) (by decide)).mp q) hne⟩)
    rcases hcase with e | e | e <;> subst e
    · -- the first one
      refine ⟨fun _ => ?_, fun q => absurd q (by decide)⟩
      unfold wbX0_find_29 wbX0_find_49
      refine ⟨fun _ => ⟨fun _ => ?_, fun q => absurd q (by decide)⟩, fun q => absurd q (by decide)⟩
      refine find_both (vl := fun _ => 1) (vI := fun _ => 1) (MEM := fun _ => True) hI hM0 hI rfl (fun _ h => h) hcx hpl hT hT6 hw hw2 hw7 (by decide) (by decide) (mt_1 hT6 rfl) (fun _ _ _ _ _ => trivial) (fun _ _ => trivial) ?_ ⟨fun q => absurd q (by decide), fun q => absurd q (by decide)⟩ (fun _ _ => rfl) ?_ (hm26 (by decide))
      · intro g1 _ f P K hf _ hPl hPw h52 hK
        exact ⟨fun q => absurd rfl q, fun _ => hK f (fun _ _ _ _ _ => rfl) trivial⟩
      · intro n P hn
        rw [xfR_s, if_pos rfl, hn rfl]
        rfl
    · -- the best one
      refine ⟨fun _ => ?_, fun q => absurd q (by decide)⟩
      unfold wbX0_find_29 wbX0_find_49
      refine ⟨fun _ => ⟨fun q => absurd rfl q, fun _ => ?_⟩, fun q => absurd q (by decide)⟩
      have hfar : ∀ a c, a < T → c < T → S.1 5 (6 * a + c) = farF T (g 5) (g 39) (6 * a + c) := fun a c h1 h2 => far_eq hI hM0 hT hT6 h1 h2
      have hdg := farF_dg (T := T) (road := g 5) (old := g 39) hT6 hroad.1
      generalize hFF : farF T (g 5) (g 39) = FF at hfar hdg
      refine pX0_lays hdx hTX hT6 hw hw7 hfar (fun Sb hly h23 => ?_)
      have hIb := lyR_RI hly hI
      refine find_both (vl := fun P => wwL g l1 FF T w (dyO P) T) (vI := fun P => wwI g l1 FF T w (dyO P) T) (MEM := memR g l1 T w) hI hM0 hIb (by rw [hly.2]) (fun f' h => ⟨fun q a1 a2 a3 a4 a5 a6 a7 => (h.1 q a1 a2 a3 a4 a5 a6 a7).trans (hly.1 q a1 a2 a5), fun k a1 a2 a3 a4 a5 a6 => (h.2.1 k a1 a2 a3 a4 a5 a6).trans (by rw [hly.1 99 (by decide) (by decide) (by decide)]), h.2.2.1.trans (by rw [hly.2]), h.2.2.2⟩) hcx hpl hT hT6 hw hw2 hw7 (by decide) (by decide) (mt_2 (g := g) (l := l1) (far := FF) hT6 hw2 hw7 rfl (hIb.1.1.trans hT) (hIb.1.2.1.trans hw) (fun a c ha hc => by show Sb.1 5 _ = _; rw [hly.1 5 (by decide) (by decide) (by decide)]; exact hfar a c ha hc) h23) ?_ ?_ ?_ ⟨fun _ P P' => ?_, fun q => absurd q (by decide)⟩ (fun q => absurd q (by decide)) ?_ (hm26 (by decide))
      · intro f f' e53 e54 hm t d k n b1 b2 b3 b4 b5
        rw [e53]
        rw [e54] at b5
        exact hm t d k n b1 b2 b3 b4 b5
      · intro f h54 t d k n b1 b2 b3 b4 b5
        exact absurd (h54 _ (by omega) rfl) b5
      · intro g1 hlk f P K hf hmem hPl hPw h52 hK
        refine ⟨fun _ => ⟨fun q => absurd rfl q, fun _ => ?_⟩, fun q => absurd q (by decide)⟩
        have e1 : f 1 = g 1 := by rw [hf.1 1 (by decide) (by decide) (by decide) (by decide) (by decide) (by decide) (by decide)]; exact hlk.1 1 (by decide) (by decide) (by decide) (by decide)
        have e3 : f 3 = g 3 := by rw [hf.1 3 (by decide) (by decide) (by decide) (by decide) (by decide) (by decide) (by decide)]; exact hlk.1 3 (by decide) (by decide) (by decide) (by decide)
        have e99 : ∀ j, j ≠ 20 → j ≠ 21 → f 99 j = g 99 j := fun j a1 a2 => by rw [hf.2 j a1 a2, hlk.1 99 (by decide) (by decide) (by decide) (by decide)]
        have hpl' : partL f 1 l1 := by
          unfold partL at hpl1 ⊢
          rw [e99 15 (by decide) (by decide), hf.1 12 (by decide) (by decide) (by decide) (by decide) (by decide) (by decide) (by decide), hlk.1 12 (by decide) (by decide) (by decide) (by decide), hf.1 13 (by decide) (by decide) (by decide) (by decide) (by decide) (by decide) (by decide), hlk.1 13 (by decide) (by decide) (by decide) (by decide)]
          exact hpl1
        refine pX7_worthWay (g := g) (D := dyO P) (far := FF) e1 e3 hw (e99 6 (by decide) (by decide)) hpl' ((e99 0 (by decide) (by decide)).trans hT) hT6 hw2 hw7 hdg.1 ?_ (fun t ht => dyO_lt hPw (by omega)) h52 hmem hK
        rw [hf.1 39 (by decide) (by decide) (by decide) (by decide) (by decide) (by decide) (by decide), hlk.2.1]
        exact hFF
      · show wwL g l1 FF T w (dyO P) T < wwL g l1 FF T w (dyO P') T ↔ wwI g l1 FF T w (dyO P) T < wwI g l1 FF T w (dyO P') T
        rw [wwL_I hT6, wwL_I hT6, Int64.lt_iff_toInt_lt, l_of, l_of, i_lt]
      · intro n P _
        rw [xfR_s, if_neg (by decide), if_pos rfl]
        exact wwL_I hT6
    · -- the nearest one
      refine ⟨fun q => absurd rfl q, fun _ => ?_⟩
      by_cases hy : isN x2 G
      · obtain ⟨i, hi, rfl⟩ := hy
        refine pX0_isGiving_y hL hG12 hi (w1 ?_)
        unfold wbX0_find_29
        refine ⟨fun q => absurd rfl q, fun _ => pX_get hL hG12 hi (fun a k n D hg f27 e27 => ?_)⟩
        unfold wbX0_find_49
        refine ⟨fun _ => ?_, fun q => absurd q (by decide)⟩
        subst e27
        have hgo := hg
        obtain ⟨-, -, hn6, -, -, h18, hDD⟩ := hgo
        refine find_both (Sb := (S.1, (S.2.1.1, some a), S.2.2)) (vl := fun P => (-(Int32.ofNat (mvN n D (dyO P) T))).toInt64) (vI := fun P => Int32.ofNat (mvN n D (dyO P) T)) (MEM := fun _ => True) hI hM0 hI rfl (fun _ h => h) hcx hpl hT hT6 hw hw2 hw7 (by decide) (by decide) (mt_3 (g := g) (i := i) (a := a) (k := k) (n := n) (G := D) hT6 rfl hTX rfl hg) (fun _ _ _ _ _ => trivial) (fun _ _ => trivial) ?_ ⟨fun q => absurd q (by decide), fun _ P P' => ?_⟩ (fun q => absurd q (by decide)) ?_ ?_
        · intro g1 hlk f P K hf _ hPl hPw h52 hK
          refine ⟨fun _ => ⟨fun _ => ?_, fun q => absurd q (by decide)⟩, fun q => absurd q (by decide)⟩
          have e18 : f 18 = g 18 := by rw [hf.1 18 (by decide) (by decide) (by decide) (by decide) (by decide) (by decide) (by decide)]; exact hlk.1 18 (by decide) (by decide) (by decide) (by decide)
          have e19 : f 19 = g 19 := by rw [hf.1 19 (by decide) (by decide) (by decide) (by decide) (by decide) (by decide) (by decide)]; exact hlk.1 19 (by decide) (by decide) (by decide) (by decide)
          refine pX7_others (n := n) (G := D) (D := dyO P) (T := T) ?_ hT6 (by omega) hn6 (by rw [e18]; exact h18) (fun t ht => by rw [e19]; exact (hDD t ht).1) (fun t ht => Nat.lt_of_lt_of_le (dyO_lt hPw (by omega)) hw7) h52 (hK f (fun _ _ _ _ _ => rfl) trivial)
          rw [hf.2 0 (by decide) (by decide), hlk.1 99 (by decide) (by decide) (by decide) (by decide)]
          exact hT
        · have h1 := mvN_le (nt := n) (G := D) (D := dyO P) T
          have h2 := mvN_le (nt := n) (G := D) (D := dyO P') T
          show (-(Int32.ofNat (mvN n D (dyO P) T))).toInt64 < (-(Int32.ofNat (mvN n D (dyO P') T))).toInt64 ↔ ¬ Int32.ofNat (mvN n D (dyO P) T) ≤ Int32.ofNat (mvN n D (dyO P') T)
          rw [Int64.lt_iff_toInt_lt, l_of, l_of, i_neg (by omega), i_neg (by omega), n_leI (by omega) (by omega)]
          omega
        · intro m P _
          rw [xfR_s, if_neg (by decide), if_neg (by decide)]
          exact l_neg (by have := mvN_le (nt := n) (G := D) (D := dyO P) T; omega)
        · intro Q h
          unfold wX7_find
          exact hin _ (w1' ⟨fun q => absurd rfl q, fun _ => pX7_isGiving_y eG hG12 hi (w1 h)⟩)
      · refine pX0_isGiving_n hL hG12 hy (w0 ?_)
        unfold wX7_find
        exact hin _ (w1' ⟨fun q => absurd rfl q, fun _ => pX7_isGiving_n eG hG12 hy (w0 ⟨rfl, hO⟩)⟩)
  · rw [if_neg hx]
    refine w0' ?_
    unfold wX7_find
    refine pX7_in ?_
    rw [i1, i3, if_neg hx]
    exact w0' ⟨rfl, hO⟩
end
