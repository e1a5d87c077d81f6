/-! PLAIN LAYER: walks, search of the class -/
set_option maxRecDepth 100000
theorem fdA_lt {aim : Nat} {vl : List Nat → Int64} : ∀ (l : List (List Nat)) (A : sA), (aim = 0 → A.1 < 100000) → (fdA aim vl l A).1 = false → (aim = 0 → (fdA aim vl l A).2.1 < 100000)
  | [], A, h, _ => h
  | P :: l, A, h, q => by
    have e : fdA aim vl (P :: l) A = if stA aim (mtA aim vl A P) = true then (true, mtA aim vl A P) else fdA aim vl l (mtA aim vl A P) := rfl
    by_cases c : stA aim (mtA aim vl A P) = true
    · rw [e, if_pos c] at q
      exact absurd q Bool.noConfusion
    · rw [e, if_neg c] at q ⊢
      refine fdA_lt l _ (fun h0 => ?_) q
      have := h h0
      have hs : (mtA aim vl A P).1 = A.1 + 1 := rfl
      rw [hs]
      by_cases c2 : A.1 + 1 = 100000
      · exfalso
        apply c
        unfold stA
        rw [hs, decide_eq_true h0, decide_eq_true c2]
        rfl
      · omega
section
variable {b o : Nat} {cs ad : Nat → Nat} {vs : Nat → Option Nat} {S0 : XS} {g : St} {T w : Nat}
theorem x_walks {r aim : Nat} {l : List Nat} {far : Nat → Int32} {set : Int32} {vl : List Nat → Int64} (hC : sxC o cs S0 g T w r l far set aim) (hMt : mtOk b o cs ad vs S0 T w set aim vl) (hT6 : T ≤ 6) (hw2 : 2 ≤ w) (hw7 : w ≤ 7) : ∀ (n N : Nat) (P : List Nat) (A : sA) (f : XS) (Q : Int32 → XS → Prop), P.length + n = T → n < N → (∀ d ∈ P, d < w) → (aim = 0 → A.1 < 100000) → sxB S0 T A f → sxP (iS set) T P f → (∀ f', sxB S0 T (fdA aim vl (wy (frP (bA g l far) (iS set)) (iS set) w n P) A).2 f' → ((fdA aim vl (wy (frP (bA g l far) (iS set)) (iS set) w n P) A).1 = false → sxP (iS set) T P f') → Q (fl1 (fdA aim vl (wy (frP (bA g l far) (iS set)) (iS set) w n P) A).1) f') → wX0_walksN b cs ad vs o N f (Int32.ofNat P.length) Q
  | 0, N, P, A, f, Q, hl, hN, hPw, hA, hb, hp, h => by
    obtain ⟨N, rfl⟩ : ∃ M, N = M + 1 := ⟨N - 1, by omega⟩
    show w1X0_walks b cs ad vs o (wX0_walksN b cs ad vs o N) f (Int32.ofNat P.length) Q
    have hlT : P.length = T := by omega
    have e6 : f.1 99 6 = Int32.ofNat T := by rw [hb.2.1 6 (by decide) (by decide)]; exact hC.2.1
    unfold w1X0_walks
    rw [e6, hlT]
    refine ⟨fun q => absurd rfl q, fun _ => hMt P A f _ hlT hPw hA hb hp (fun f' hb' hp' => ⟨fl1_vz, ?_⟩)⟩
    have e : fdA aim vl (wy (frP (bA g l far) (iS set)) (iS set) w 0 P) A = (stA aim (mtA aim vl A P), mtA aim vl A P) := by
      show (if stA aim (mtA aim vl A P) = true then (true, mtA aim vl A P) else (false, mtA aim vl A P)) = _
      by_cases c : stA aim (mtA aim vl A P) = true
      · rw [if_pos c, c]
      · rw [if_neg c, Bool.eq_false_iff.mpr c]
    have h' := h f'
    rw [e] at h'
    exact h' hb' (fun _ => hp')
  | n + 1, N, P, A, f, Q, hl, hN, hPw, hA, hb, hp, h => by
    obtain ⟨N, rfl⟩ : ∃ M, N = M + 1 := ⟨N - 1, by omega⟩
    show w1X0_walks b cs ad vs o (wX0_walksN b cs ad vs o N) f (Int32.ofNat P.length) Q
    have e6 : ∀ (A : sA) (f : XS), sxB S0 T A f → f.1 99 6 = Int32.ofNat T := fun A f hb => by rw [hb.2.1 6 (by decide) (by decide)]; exact hC.2.1
    have e7 : ∀ (A : sA) (f : XS), sxB S0 T A f → f.1 99 7 = Int32.ofNat w := fun A f hb => by rw [hb.2.1 7 (by decide) (by decide), hC.1.2.2.2.1]; exact hC.2.2.1
    have e15 : f.1 99 15 = set := by rw [hb.2.1 15 (by decide) (by decide)]; exact hC.2.2.2.2.1
    have htT : P.length < T := by omega
    have hin : vp_in (Int32.ofNat P.length) 6 := n_in (by omega) (by decide)
    have ec : (Int32.ofNat P.length).toNatClampNeg = P.length := n_clamp (by omega)
    have e1 : Int32.ofNat P.length + 1 = Int32.ofNat (P.length + 1) := n_suc
    unfold w1X0_walks
    rw [e6 A f hb, e15, e1]
    refine ⟨fun _ => ⟨fun z => ?_, fun z => ?_⟩, fun q => ?_⟩
    · have hs : iS set P.length = true := decide_eq_true (and1_ne.mp z)
      generalize hF : (fun d => if frP (bA g l far) (iS set) (d :: P) = true then wy (frP (bA g l far) (iS set)) (iS set) w n (d :: P) else []) = F
      have eF : ∀ d, F d = if frP (bA g l far) (iS set) (d :: P) = true then wy (frP (bA g l far) (iS set)) (iS set) w n (d :: P) else [] := fun d => by rw [← hF]
      have ew : wy (frP (bA g l far) (iS set)) (iS set) w (n + 1) P = wdF F 0 w := by rw [wy_s, if_pos hs, hF]
      rw [ew] at h
      generalize hR : fdA aim vl (wdF F 0 w) A = R at h
      refine ijX0_walks_34_2 w 0 (by omega) (by omega) (fun d x1 f => x1 = Int32.ofNat P.length ∧ ∃ Ad : sA, (aim = 0 → Ad.1 < 100000) ∧ sxB S0 T Ad f ∧ (∀ i, i < T → i ≠ P.length → f.1 14 i = hO (iS set) P i) ∧ (∀ i, i < P.length → f.1 19 i = Int32.ofNat (dyO P i)) ∧ (∀ i, i < T → ¬ iS set i = true → f.1 19 i = 0) ∧ fdA aim vl (wdF F d (w - d)) Ad = R) ?_ _ _ ⟨rfl, A, hA, hb, fun i hi _ => hp.1 i hi, hp.2.1, hp.2.2, by rw [Nat.sub_zero]; exact hR⟩
      intro K d x1 f _ hd' hP hK
      obtain ⟨rfl, Ad, hAd, hbd, h14, h19, h19s, hfd⟩ := hP
      unfold wbX0_walks_34
      rw [e7 Ad f hbd]
      refine w_upto (by omega) hd' (fun q => ?_) (fun hlt => ?_)
      · subst q
        rw [Nat.sub_self] at hfd
        refine ⟨hin, fun f8 e8 => ?_⟩
        rw [ec] at e8
        have hRe : R = (false, Ad) := hfd.symm
        have h' := h f8
        rw [hRe] at h'
        have h148 : ∀ i, i < T → f8.1 14 i = hO (iS set) P i := by
          intro i hi
          rw [e8]
          show upd2 f.1 14 P.length 0 14 i = _
          rw [upd2_at]
          by_cases c : i = P.length
          · rw [if_pos c, hO_up (by omega)]
          · rw [if_neg c]; exact h14 i hi c
        refine h' ?_ (fun _ => ⟨h148, fun i hi => ?_, fun i hi hn => by rw [e8]; exact h19s i hi hn⟩)
        · refine sxB_12 hbd (xS_of (fun r a1 a2 => ?_) (by rw [e8]))
          rw [e8]
          exact upd2_o a2
        · rw [e8]
          exact h19 i hi
      · refine ⟨hin, fun f1 q1 => ⟨hin, fun f2 q2 => ?_⟩⟩
        rw [ec] at q1 q2
        rw [nar_tab (by omega)] at q2
        have hx1 : xS f f1 := xS_of (fun r a1 a2 => by rw [q1]; exact upd2_o a2) (by rw [q1])
        have hb1 := sxB_12 hbd hx1
        have h19f : ∀ i, f2.1 19 i = if i = P.length then Int32.ofNat d else f.1 19 i := by
          intro i
          rw [q2, q1]
          show upd2 (upd2 f.1 14 P.length (i_shl 1 (Int32.ofNat d))) 19 P.length (Int32.ofNat d) 19 i = _
          rw [upd2_at]
          rfl
        have h14f : ∀ i, f2.1 14 i = if i = P.length then i_shl 1 (Int32.ofNat d) else f.1 14 i := by
          intro i
          rw [q2, q1]
          show upd2 f.1 14 P.length (i_shl 1 (Int32.ofNat d)) 14 i = _
          rw [upd2_at]
        have hb2 : sxB S0 T Ad f2 := by
          obtain ⟨k1, k2, k3, k4, k5, k6, k7, k8⟩ := hb1
          refine ⟨fun r a1 a2 a3 a4 a5 => by rw [q2]; show upd2 f1.1 19 P.length (Int32.ofNat d) r = _; rw [upd2_o a3]; exact k1 r a1 a2 a3 a4 a5, fun k a1 a2 => by rw [q2]; exact k2 k a1 a2, by rw [q2]; exact k3, by rw [q2]; exact k4, fun i hi => ?_, by rw [q2]; exact k6, by rw [q2]; exact k7, by rw [q2]; exact k8⟩
          rw [h19f]
          by_cases c : i = P.length
          · rw [if_pos c]; exact fit_tab d (by omega)
          · rw [if_neg c]; exact hbd.2.2.2.2.1 i hi
        have hlen : (d :: P).length = P.length + 1 := List.length_cons
        have hPw' : ∀ e ∈ (d :: P), e < w := fun e he => by
          rcases List.mem_cons.mp he with q | q
          · rw [q]; exact hlt
          · exact hPw e q
        have h142 : ∀ i, i < T → f2.1 14 i = hO (iS set) (d :: P) i := by
          intro i hi
          rw [h14f]
          by_cases c : i = P.length
          · rw [if_pos c, c, hO_top hs]
          · rw [if_neg c, hO_low c]; exact h14 i hi c
        refine pX0_barsAhead (P := d :: P) hC hT6 hw2 hw7 hlen htT hPw' hb2 h142 (fun f3 hx3 h143 => ?_)
        have hb3 := sxB_12 hb2 hx3
        have e193 : f3.1 19 = f2.1 19 := xS_n hx3 (by decide) (by decide)
        have hp3 : sxP (iS set) T (d :: P) f3 := by
          refine ⟨fun i hi => by rw [h143]; exact h142 i hi, fun i hi => ?_, fun i hi hn => ?_⟩
          · rw [e193, h19f]
            by_cases c : i = P.length
            · rw [if_pos c, c, dyO_top]
            · rw [hlen] at hi
              rw [if_neg c, dyO_low (by omega)]; exact h19 i (by omega)
          · rw [e193, h19f, if_neg (fun c => hn (by rw [c]; exact hs))]; exact h19s i hi hn
        rw [show w - d = (w - (d + 1)) + 1 by omega, wdF_s, fdA_app, eF] at hfd
        have hgo : ∀ (f4 : XS) (A4 : sA), (aim = 0 → A4.1 < 100000) → sxB S0 T A4 f4 → sxP (iS set) T (d :: P) f4 → fdA aim vl (wdF F (d + 1) (w - (d + 1))) A4 = R → ∀ K3, wbX0_walks_79 b cs ad vs o (wX0_walksN b cs ad vs o N) K K3 Q (Int32.ofNat P.length) (Int32.ofNat d) f4 := by
          intro f4 A4 hA4 hb4 hp4 hf4 K3 x2 e2
          rw [n_suc] at e2
          subst e2
          refine hK _ _ hlt ⟨rfl, A4, hA4, hb4, fun i hi c => ?_, fun i hi => ?_, hp4.2.2, hf4⟩
          · rw [hp4.1 i hi, hO_low c]
          · rw [hp4.2.1 i (by rw [hlen]; omega), dyO_low hi]
        by_cases hfr : frP (bA g l far) (iS set) (d :: P) = true
        · rw [hfr]
          rw [if_pos hfr] at hfd
          refine w0 ?_
          rw [e1]
          have hW := x_walks hC hMt hT6 hw2 hw7 n N (d :: P) Ad f3
          rw [hlen] at hW
          refine hW _ (by omega) (by omega) hPw' hAd hb3 hp3 (fun f4 hb4 hp4 => ?_)
          by_cases c : (fdA aim vl (wy (frP (bA g l far) (iS set)) (iS set) w n (d :: P)) Ad).1 = true
          · rw [c]
            rw [if_pos c] at hfd
            refine w1' ?_
            have h' := h f4
            rw [← hfd, c] at h'
            exact h' hb4 (fun q => absurd q (by decide))
          · have c' := Bool.eq_false_iff.mpr c
            rw [c']
            rw [if_neg c] at hfd
            exact w0' (hgo f4 _ (fdA_lt _ _ hAd c') hb4 (hp4 c') hfd _)
        · rw [Bool.eq_false_iff.mpr hfr]
          rw [if_neg hfr] at hfd
          exact w1 (hgo f3 Ad hAd hb3 hp3 hfd _)
    · have hs : ¬ iS set P.length = true := fun y => and1_ne.mpr (of_decide_eq_true y) z
      have ew : wy (frP (bA g l far) (iS set)) (iS set) w (n + 1) P = wy (frP (bA g l far) (iS set)) (iS set) w n (0 :: P) := by rw [wy_s, if_neg hs]
      rw [ew] at h
      have hlen : (0 :: P).length = P.length + 1 := List.length_cons
      have hW := x_walks hC hMt hT6 hw2 hw7 n N (0 :: P) A f
      rw [hlen] at hW
      refine hW _ (by omega) (by omega) (fun e he => ?_) hA hb ⟨fun i hi => ?_, fun i hi => ?_, hp.2.2⟩ (fun f4 hb4 hp4 => ⟨fl1_vz, h f4 hb4 (fun q => ?_)⟩)
      · rcases List.mem_cons.mp he with q | q
        · rw [q]; omega
        · exact hPw e q
      · by_cases c : i = P.length
        · rw [c, hO_out hs, hp.1 _ htT, hO_up (Nat.le_refl _)]
        · rw [hO_low c]; exact hp.1 i hi
      · rw [hlen] at hi
        by_cases c : i = P.length
        · rw [c, dyO_top]; exact hp.2.2 _ htT hs
        · rw [dyO_low (by omega)]; exact hp.2.1 i (by omega)
      · obtain ⟨p1, p2, p3⟩ := hp4 q
        refine ⟨fun i hi => ?_, fun i hi => ?_, p3⟩
        · by_cases c : i = P.length
          · rw [p1 i hi, c, hO_out hs, hO_up (Nat.le_refl _)]
          · rw [p1 i hi, hO_low c]
        · rw [p2 i (by rw [hlen]; omega), dyO_low hi]
    · have := (n_eqI (by omega) (by omega)).mp q
      omega
end
