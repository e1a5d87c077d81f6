/-! PLAIN LAYER: giving -/
set_option maxRecDepth 100000
/-- a cell that adding a giving leaves alone -/
def nL (e : cE) : Prop := (∀ V, e ≠ .inr (16, V)) ∧ ∀ (cl N : Nat) (c : Nat → Option Nat), N = 10 ∨ N = 15 → e ≠ .inl (cl, N, .inr (.inr (.inr (.inr c))))
theorem nL_obj {ci : Nat} {V : Nat → Value} (h : ci ≠ 16) : nL (.inr (ci, V)) := by
  refine ⟨fun V' q => ?_, fun cl N c _ q => by cases q⟩
  have := congrArg Prod.fst (Sum.inr.inj q)
  exact h this
theorem nL_byt {cl N : Nat} {D : Nat → Int32} : nL (.inl (cl, N, .inl D)) := by
  refine ⟨fun V' q => (by cases q), fun cl' N' c _ q => ?_⟩
  have := congrArg (fun x => x.2.2) (Sum.inl.inj q)
  cases this
theorem nL_ref {cl N : Nat} {c : Nat → Option Nat} (h10 : N ≠ 10) (h15 : N ≠ 15) : nL (.inl (cl, N, .inr (.inr (.inr (.inr c))))) := by
  refine ⟨fun V' q => (by cases q), fun cl' N' c' h q => ?_⟩
  have : N = N' := congrArg (fun x => x.2.1) (Sum.inl.inj q)
  omega
section
variable {o : Nat} {cs : Nat → Nat} {S S' : XS} {g g' : St}
theorem RT_keep (hZ : ∀ a e, S.2.2.1 a = some e → nL e → S'.2.2.1 a = some e) (h : RT o cs S g) : RT o cs S' g := by
  intro r hr q hq
  obtain ⟨l, ⟨c, a, d, x, dn, h1, h2, h3, h4, h5, h6, h7⟩, h8⟩ := h r hr q hq
  refine ⟨l, ⟨c, a, d, x, dn, hZ _ _ h1 (nL_ref (by decide) (by decide)), h2, h3, hZ _ _ h4 (nL_ref (by decide) (by decide)), h5, h6, nRep_keep (fun y ci V hc hV => ?_) h7⟩, h8⟩
  obtain ⟨q1, q2⟩ := wX_obj hV (by omega) (by omega)
  rw [q2 S']
  exact hZ _ _ q1 (nL_obj (by omega))
theorem gvAt_keep {Z Z' : cP} {i a k n : Nat} {D : Nat → Int32} (hZ : ∀ a e, Z a = some e → nL e → Z' a = some e) (h17 : g' 17 i = g 17 i) (h18 : g' 18 i = g 18 i) (h19 : ∀ t, t < 6 → g' 19 (6 * i + t) = g 19 (6 * i + t)) (h : gvAt o cs Z g i a k n D) : gvAt o cs Z' g' i a k n D := by
  obtain ⟨h1, h2, h3, ⟨da, h4, h5, h6⟩, h7, h8, h9⟩ := h
  refine ⟨h1, h2, h3, ⟨da, h4, hZ _ _ h5 (nL_obj (by omega)), hZ _ _ h6 nL_byt⟩, h17.trans h7, h18.trans h8, fun t ht => ?_⟩
  rw [h19 t (by omega)]
  exact h9 t ht
end
section
variable {b o : Nat} {cs ad : Nat → Nat} {vs : Nat → Option Nat} {S : XS} {g : St} {p : Nat → Bool}
/-- the class with the days and the object laid -/
def gvS (cs : Nat → Nat) (S : XS) (T k G : Nat) (D : Nat → Int32) : XS := (S.1, S.2.1, updP (updP (updP S.2.2.1 S.2.2.2.1 (.inl (cs 1, T, .inl (fun _ => 0)))) (S.2.2.2.1 + 1) (.inr (3 + k, vp_V [.int (Int32.ofNat G), .int (Int32.ofNat T), .ref S.2.2.2.1]))) S.2.2.2.1 (.inl (cs 1, T, .inl D)), S.2.2.2.1 + 1 + 1, S.2.2.2.2 + T + 3)
theorem gvS_lo {T k G : Nat} {D : Nat → Int32} {a : Nat} (h : a < S.2.2.2.1) : (gvS cs S T k G D).2.2.1 a = S.2.2.1 a := by
  show updP (updP (updP _ _ _) _ _) _ _ a = _
  rw [updP_ne (by omega), updP_ne (by omega), updP_ne (by omega)]
theorem gvS_hi {T k G : Nat} {D : Nat → Int32} (hz : RZ b o S) {a : Nat} {e : cE} (h : (gvS cs S T k G D).2.2.1 a = some e) : a < S.2.2.2.1 + 1 + 1 := by
  by_cases c : a < S.2.2.2.1
  · omega
  · by_cases c1 : a = S.2.2.2.1
    · omega
    · by_cases c2 : a = S.2.2.2.1 + 1
      · omega
      · have q : updP (updP (updP S.2.2.1 S.2.2.2.1 (.inl (cs 1, T, .inl (fun _ => 0)))) (S.2.2.2.1 + 1) (.inr (3 + k, vp_V [.int (Int32.ofNat G), .int (Int32.ofNat T), .ref S.2.2.2.1]))) S.2.2.2.1 (.inl (cs 1, T, .inl D)) a = some e := h
        rw [updP_ne c1, updP_ne c2, updP_ne c1] at q
        have := hz.1 a e q
        omega
theorem gvS_zX {T k G : Nat} {D : Nat → Int32} (hz : RZ b o S) (hT : T ≤ 6) : zX S (gvS cs S T k G D) :=
  ⟨fun a ha => gvS_lo ha, fun a e q => gvS_hi hz q, by show _ ≤ _ + 1 + 1; omega, by show _ + 1 + 1 ≤ _; omega, by show _ + T + 3 ≤ _; omega⟩
theorem op_giving (hI : RI S.1 g) (hM : MI g) (hz : RZ b o S) (hR : RT o cs (cutS p S) g) (hG : GL o cs ad (cutS p S) g) (hp : ∀ a, S.2.2.2.1 ≤ a → p a = true) (x1 x2 : Int32) : wX0_giving b cs ad vs o S x1 x2 (fun r S' => wX7_giving g x1 x2 (fun r' g' => r = r' ∧ OKf o cs ad p S S' g')) := by
  have hO : OKf o cs ad p S S g := ((OK1.rf hI hM).three hz).f hz hR hG
  obtain ⟨⟨i6, i7, -⟩, -⟩ := id hI
  obtain ⟨⟨⟨T, hT, eT⟩, ⟨w, hw2, hw7, eW⟩, -⟩, -⟩ := id hM
  obtain ⟨G, hG12, eG, hGL⟩ := id hG
  obtain ⟨hGF, hGA, hGB⟩ := id hz.2
  unfold wX0_giving
  by_cases hx : isN x1 6
  · obtain ⟨k, hk, rfl⟩ := hx
    refine pX0_in_y (m := 5) (by decide) (by decide) (by omega) (w1' ?_)
    by_cases hy : isN x2 4
    · obtain ⟨s, hs, rfl⟩ := hy
      have hins : vp_in (Int32.ofNat s) 4 := n_in hs (by decide)
      have hsn := sort_neg hI hM hs
      obtain ⟨q0, q1, q2⟩ := RI_at hs hI
      refine pX0_isSheet_y hs (w1 ⟨hins, ?_⟩)
      rw [n_clamp (by omega)]
      -- the reference, behind its two looks
      have mm : ∀ {Q : Int32 → St → Prop}, ((¬ (g 36 s) = (-1 : Int32) → ((¬ (g 37 s) = (g 99 0) → wbX7_giving_52 Q (Int32.ofNat k) (Int32.ofNat s) (0 : Int32) g) ∧ ((g 37 s) = (g 99 0) → wbX7_giving_52 Q (Int32.ofNat k) (Int32.ofNat s) (1 : Int32) g))) ∧ ((g 36 s) = (-1 : Int32) → Q (-11 : Int32) g)) → wX7_giving g (Int32.ofNat k) (Int32.ofNat s) Q := by
        intro Q h
        unfold wX7_giving
        refine pX7_in_y (m := 5) (by decide) (by decide) (by omega) (w1' ?_)
        refine pX7_in_y (m := 3) (by decide) (by decide) (by omega) (w1 ⟨hins, ?_⟩)
        rw [n_clamp (by omega)]
        exact ⟨fun q => ⟨hins, h.1 q⟩, h.2⟩
      refine ⟨hs, fun h0 => ⟨hs, fun hr => ?_, fun hr => ?_⟩, fun h0 => mm ⟨fun q => absurd (hsn.mp h0) q, fun _ => ⟨rfl, hO⟩⟩⟩
      · have hne : ¬ g 36 s = -1 := fun e => (hsn.mpr e) h0
        have hr' : g 37 s = g 99 0 := by rw [← q1, hr, i6]
        have eT6 : S.1 99 6 = Int32.ofNat T := i6.trans eT
        have eW7 : S.1 99 7 = Int32.ofNat w := i7.trans eW
        have hcell : ∀ j, j < 6 → S.1 (70 + s) j = g 38 (40 * s + j) := fun j hj => q2 j (by omega)
        have hmst : mst k (S.1 99 7) = mst k (g 99 6) := by rw [i7]
        have mm2 : ∀ {Q : Int32 → St → Prop}, wbX7_giving_52 Q (Int32.ofNat k) (Int32.ofNat s) (1 : Int32) g → wX7_giving g (Int32.ofNat k) (Int32.ofNat s) Q := fun h => mm ⟨fun _ => ⟨fun q => absurd hr' q, fun _ => h⟩, fun q => absurd q hne⟩
        rw [eT6, n_clamp (by omega)]
        refine ⟨fun q => absurd q (n_nn (by omega)), ?_, RZ_bud hz (by omega), RZ_F hz, fun a6 f7 e6 e7 => ?_⟩
        · have : T * componentBytes .byte ≤ 6 * componentBytes .byte := Nat.mul_le_mul_right _ hT
          exact Nat.le_trans this (by decide)
        subst e6
        subst e7
        have hZ1 : ∀ a e, S.2.2.1 a = some e → (xNew S (.inl (cs 1, T, .inl (fun _ => 0))) T).2.2.1 a = some e := by
          intro a e q
          show updP _ _ _ a = _
          have := hz.1 a e q
          rw [updP_ne (by omega)]
          exact q
        have hL0 : GLn o cs ad S.2.2.1 g G := GLn_mono (fun _ _ q => cutP_le q) hGL
        have hF1 : xF o (S.2.2.2.1 + 1) := Or.inr (Or.inr (Or.inr (by omega)))
        refine pX_size (S := xNew S (.inl (cs 1, T, .inl (fun _ => 0))) T) (g := g) (G := G) (GLn_mono hZ1 hL0) ⟨_, rfl, ?_⟩
        refine p_made (S := xNew S (.inl (cs 1, T, .inl (fun _ => 0))) T) hk hF1 ?_ (RZ_F hz) (by show S.2.2.2.1 ≠ S.2.2.2.1 + 1; omega) xNew_s ⟨_, rfl, ?_⟩
        · unfold bud
          exact ⟨by show S.2.2.2.1 + 1 + 1 ≤ _; omega, by show S.2.2.2.2 + T + 3 ≤ _; omega⟩
        refine x_look (S := xNew (xNew S (.inl (cs 1, T, .inl (fun _ => 0))) T) (.inr (3 + k, vp_V [.int (Int32.ofNat G), .int (Int32.ofNat T), .ref S.2.2.2.1])) 3) (w := w) hk hs hT eT6 eW7 hw2 hw7 hF1 (RZ_F hz) (by show S.2.2.2.1 + 1 ≠ S.2.2.2.1; omega) xNew_s ?_ ?_ ?_
        · -- all numbers will do
          intro hall
          have hall' : ∀ j, j < T → 0 ≤ (g 38 (40 * s + j)).toInt ∧ (g 38 (40 * s + j)).toInt ≤ (mst k (g 99 6)).toInt := by
            intro j hj
            have := hall j hj
            rw [show (xNew (xNew S (.inl (cs 1, T, .inl (fun _ => 0))) T) (.inr (3 + k, vp_V [.int (Int32.ofNat G), .int (Int32.ofNat T), .ref S.2.2.2.1])) 3).1 = S.1 from rfl, hcell j (by omega), hmst] at this
            exact this
          have mm3 : ∀ {Q : Int32 → St → Prop}, wbX7_giving_93 Q (Int32.ofNat k) (Int32.ofNat s) 1 g → wbX7_giving_52 Q (Int32.ofNat k) (Int32.ofNat s) (1 : Int32) g := by
            intro Q h
            unfold wbX7_giving_52
            refine m_look hk hs hT eT ?_
            rw [if_pos hall']
            exact h
          show xF o (o + 9) ∧ _
          have hLf : GLn o cs ad (gvS cs S T k G (dF (S.1 (70 + s)) T)).2.2.1 g G := GLn_mono (fun a e q => (gvS_lo (hz.1 a e q)).trans q) hL0
          refine pX_size (S := gvS cs S T k G (dF (S.1 (70 + s)) T)) (g := g) (G := G) hLf ⟨gvS cs S T k G (dF (S.1 (70 + s)) T), rfl, ?_⟩
          have e12 : (Int32.ofNat G = 12) ↔ G = 12 := n_eqI (a := G) (b := 12) (by omega) (by decide)
          refine ⟨fun q => ?_, fun q => mm2 (mm3 ?_)⟩
          · have hG' : G < 12 := by
              have : ¬ G = 12 := fun z => q (e12.mpr z)
              omega
            obtain ⟨y, v, h9⟩ := GLn_sz hLf
            have hcutf : GLn o cs ad (cutP p (gvS cs S T k G (dF (S.1 (70 + s)) T)).2.2.1) g G := GLn_mono (cut_keep (S := S) (p := p) hz (gvS_zX hz hT)) hGL
            have hx5 : (gvS cs S T k G (dF (S.1 (70 + s)) T)).2.2.1 (S.2.2.2.1 + 1) = some (.inr (3 + k, vp_V [.int (Int32.ofNat G), .int (Int32.ofNat T), .ref S.2.2.2.1])) := by
              show updP (updP (updP _ _ _) _ _) _ _ (S.2.2.2.1 + 1) = _
              rw [updP_ne (by omega)]
              exact updP_eq
            have hda : (gvS cs S T k G (dF (S.1 (70 + s)) T)).2.2.1 S.2.2.2.1 = some (.inl (cs 1, T, .inl (dF (S.1 (70 + s)) T))) := updP_eq
            refine ⟨y, v, _, h9, p_add (x := S.2.2.2.1 + 1) (f := gvS cs S T k G (dF (S.1 (70 + s)) T)) (ci := 3 + k) (V := vp_V [.int (Int32.ofNat G), .int (Int32.ofNat T), .ref S.2.2.2.1]) (b := b) hcutf hG' (fun a e q => gvS_hi hz q) (by show o + 33 ≤ S.2.2.2.1 + 1 + 1; omega) (by show S.2.2.2.1 + 1 + 1 + 1 ≤ _; omega) (by show S.2.2.2.2 + T + 3 + 15 ≤ _; omega) hF1 hx5 ?_ (by show S.2.2.2.1 + 1 ≠ o + 9; omega) ?_⟩
            · have : k = 0 ∨ k = 1 ∨ k = 2 ∨ k = 3 ∨ k = 4 ∨ k = 5 := by omega
              rcases this with q | q | q | q | q | q <;> subst q <;> rfl
            intro f' had
            obtain ⟨a1, a2, a3, a4, a5, a6, a7, mc, e, N, c, c1, c2, c3, c4, c5, c6, c7, c8, c9, c10⟩ := had
            have a1' : f'.1 = S.1 := a1
            have a5' : S.2.2.2.1 + 1 + 1 ≤ f'.2.2.2.1 := a5
            have a6' : f'.2.2.2.1 ≤ S.2.2.2.1 + 1 + 1 + 1 := a6
            have a7' : f'.2.2.2.2 ≤ S.2.2.2.2 + T + 3 + 15 := a7
            -- the two new cells are kept
            have hkeep : ∀ q : Nat, q < S.2.2.2.1 + 1 + 1 → S.2.2.2.1 ≤ q → f'.2.2.1 q = (gvS cs S T k G (dF (S.1 (70 + s)) T)).2.2.1 q := by
              intro q hq1 hq2
              refine a3 q hq1 (by omega) (fun N' c' hN' he' => ?_)
              have hq : q = S.2.2.2.1 ∨ q = S.2.2.2.1 + 1 := by omega
              rcases hq with hq | hq <;> subst hq
              · rw [hda] at he'
                exact nL_byt.2 _ _ _ hN' (Option.some.inj he')
              · rw [hx5] at he'
                cases he'
            refine ⟨f', rfl, hF1, 3 + k, Int32.ofNat G, Int32.ofNat T, .ref S.2.2.2.1, (hkeep (S.2.2.2.1 + 1) (by omega) (by omega)).trans hx5, ?_, mm2 (mm3 ?_)⟩
            · have : k = 0 ∨ k = 1 ∨ k = 2 ∨ k = 3 ∨ k = 4 ∨ k = 5 := by omega
              rcases this with q | q | q | q | q | q <;> subst q <;> rfl
            unfold wbX7_giving_93
            refine w1 ⟨fun _ => ?_, fun q' => absurd (eG.symm.trans q') q⟩
            rw [eG, n_clamp (by omega)]
            refine ⟨n_in (by omega) (by decide), fun f8 e8 => ?_⟩
            have e816 : f8 99 16 = Int32.ofNat G := by rw [e8]; exact eG
            rw [e816, n_clamp (by omega)]
            refine ⟨n_in (by omega) (by decide), fun f9 e9 => ?_⟩
            have e916 : f9 99 16 = Int32.ofNat G := by rw [e9]; exact e816
            have e90 : f9 99 0 = Int32.ofNat T := by rw [e9, e8]; exact eT
            refine m_row hs hT hG' e90 e916 (fun f12 e12 => ?_)
            have e1216 : f12 99 16 = Int32.ofNat (G + 1) := by
              rw [e12, show updR f9 19 (rw19 f9 s G T) 99 16 = f9 99 16 from rfl, e916, n_suc]
              rfl
            rw [e1216, n_pred (by omega)]
            refine ⟨rfl, ?_⟩
            have hlow : ∀ a e, S.2.2.1 a = some e → nL e → f'.2.2.1 a = some e := by
              intro a e ha hn
              have haz := hz.1 a e ha
              have e1 : (gvS cs S T k G (dF (S.1 (70 + s)) T)).2.2.1 a = some e := (gvS_lo haz).trans ha
              refine (a3 a (by show a < S.2.2.2.1 + 1 + 1; omega) (fun z => ?_) (fun N' c' hN' he' => ?_)).trans e1
              · rw [z, h9] at e1
                exact hn.1 _ (Option.some.inj e1).symm
              · rw [e1] at he'
                exact hn.2 _ _ _ hN' (Option.some.inj he')
            have hcut : ∀ a e, cutP p (gvS cs S T k G (dF (S.1 (70 + s)) T)).2.2.1 a = some e → nL e → cutP p f'.2.2.1 a = some e := by
              intro a e ha hn
              rw [cutP_at (cutP_p ha)]
              have ha' := cutP_le ha
              by_cases c : a < S.2.2.2.1
              · exact hlow a e ((gvS_lo c).symm.trans ha') hn
              · exact (hkeep a (gvS_hi hz ha') (by omega)).trans ha'
            have hcut0 : ∀ a e, cutP p S.2.2.1 a = some e → nL e → cutP p f'.2.2.1 a = some e := by
              intro a e ha hn
              rw [cutP_at (cutP_p ha)]
              exact hlow a e (cutP_le ha) hn
            have r17 : f12 17 = upd (g 17) G (Int32.ofNat k) := by
              rw [e12, e9, e8]
              funext i
              rfl
            have r18 : f12 18 = upd (g 18) G (Int32.ofNat T) := by
              rw [e12, e9, e8]
              funext i
              show (if i = G then g 99 0 else g 18 i) = (if i = G then Int32.ofNat T else g 18 i)
              rw [eT]
            have r19 : f12 19 = rw19 g s G T := by
              rw [e12, e9, e8]
              funext i
              rfl
            refine ⟨?_, ?_, ?_, ⟨G + 1, hG', e1216, mc, Or.inr ⟨e, N, c, c1, c2, c3, c4, c5, ?_, ?_, fun i hi => ?_⟩⟩, fun a ha hno => ?_, a4, by omega, by omega, by omega⟩
            · rw [a1', e12, e9, e8]
              exact hI
            · have hb16 : bN (f12 99 16) 12 := ⟨G + 1, hG', e1216⟩
              rw [e12, e9, e8] at hb16 ⊢
              obtain ⟨⟨m1, m2, m3, m4, m5, m6, m7, m8⟩, mr⟩ := hM
              exact ⟨⟨m1, m2, m3, m4, m5, m6, hb16, m8⟩, mr⟩
            · refine RT_g (g := g) ?_ ?_ ?_ (RT_keep (S := cutS p S) hcut0 hR)
              · rw [e12, e9, e8]; rfl
              · rw [e12, e9, e8]; rfl
              · rw [e12, e9, e8]; rfl
            · show cutP p f'.2.2.1 (o + 9) = _
              rw [cutP_at]
              · exact c6
              · obtain ⟨y', v', h9'⟩ := GLn_sz hGL
                exact cutP_p h9'
            · show cutP p f'.2.2.1 e = _
              rw [cutP_at]
              · exact c7
              · rcases c10 with z | z
                · refine hp e ?_
                  rw [z]
                  show _ ≤ S.2.2.2.1 + 1 + 1
                  omega
                · exact z
            · by_cases ci : i < G
              · obtain ⟨a, k', n', D', d1, d2⟩ := c9 i ci
                refine ⟨a, k', n', D', d1, gvAt_keep (g := g) hcut ?_ ?_ (fun t ht => ?_) d2⟩
                · rw [r17]; unfold upd; rw [if_neg (by omega)]
                · rw [r18]; unfold upd; rw [if_neg (by omega)]
                · rw [r19]; unfold rw19; rw [if_neg (by omega)]
              · have : i = G := by omega
                subst this
                refine ⟨_, k, T, dF (S.1 (70 + s)) T, c8, hF1, hk, hT, ⟨S.2.2.2.1, RZ_F hz, ?_, ?_⟩, ?_, ?_, fun t ht => ?_⟩
                · show cutP p f'.2.2.1 _ = _
                  rw [cutP_at (hp _ (by omega))]
                  exact (hkeep _ (by omega) (by omega)).trans hx5
                · show cutP p f'.2.2.1 _ = _
                  rw [cutP_at (hp _ (by omega))]
                  exact (hkeep _ (by omega) (by omega)).trans hda
                · rw [r17]; unfold upd; rw [if_pos rfl]
                · rw [r18]; unfold upd; rw [if_pos rfl]
                · have hm := mst_le (k := k) eW hw2 hw7
                  have ha' := hall' t ht
                  have ed : dF (S.1 (70 + s)) T t = g 38 (40 * s + t) := by
                    unfold dF
                    rw [if_pos ht]
                    exact hcell t (by omega)
                  rw [ed, r19]
                  unfold rw19
                  rw [if_pos (by omega), show 6 * i + t - 6 * i = t by omega]
                  exact ⟨rfl, ha'.1, by omega⟩
            · refine (a3 a (by show a < S.2.2.2.1 + 1 + 1; omega) (fun z => hno (Or.inl z)) (fun N' c' hN' he' => hno (Or.inr (Or.inr ⟨_, N', c', hN', (gvS_lo ha).symm.trans he'⟩)))).trans (gvS_lo ha)
          · unfold wbX7_giving_93
            refine w1 ⟨fun q' => absurd (eG.trans q) q', fun _ => ⟨rfl, ?_⟩⟩
            exact OK3.f ⟨hI, hM, gvS_zX hz hT, rfl, rfl, rfl, rfl, rfl, rfl, rfl⟩ hz hR hG
        · -- some number won't do
          intro j hj hno hyes
          refine mm2 ?_
          unfold wbX7_giving_52
          refine m_look hk hs hT eT ?_
          rw [if_neg]
          · unfold wbX7_giving_93
            refine w0 ⟨rfl, ?_⟩
            exact OK3.f ⟨hI, hM, gvS_zX (k := k) (G := G) (D := dF (S.1 (70 + s)) j) hz hT, rfl, rfl, rfl, rfl, rfl, rfl, rfl⟩ hz hR hG
          · intro q
            have := q j hj
            rw [← hcell j (by omega), ← hmst] at this
            exact hno this
        · show updP (updP S.2.2.1 S.2.2.2.1 _) (S.2.2.2.1 + 1) _ S.2.2.2.1 = _
          rw [updP_ne (by omega), updP_eq]
          congr 1
      · have hr' : ¬ g 37 s = g 99 0 := by rw [← q1, ← i6]; exact hr
        have hne : ¬ g 36 s = -1 := fun e => (hsn.mpr e) h0
        refine mm ⟨fun _ => ⟨fun _ => ?_, fun q => absurd q hr'⟩, fun q => absurd q hne⟩
        unfold wbX7_giving_52
        refine ilX7_giving_56 (fun x1 x2 x3 x4 f => x3 = 0 ∧ f = g) (fun _ _ _ _ _ => 0) ?_ _ _ _ _ _ ⟨rfl, rfl⟩
        rintro K x1 x2 x3 x4 f ⟨rfl, rfl⟩ -
        unfold wbX7_giving_56 wbX7_giving_93
        exact ⟨fun _ => ⟨fun q => absurd rfl q, fun _ => ⟨rfl, hO⟩⟩, fun _ => ⟨fun _ => ⟨fun q => absurd rfl q, fun _ => ⟨rfl, hO⟩⟩, fun q => absurd rfl q⟩⟩
    · refine pX0_isSheet_n hy (w0 ?_)
      unfold wX7_giving
      refine pX7_in_y (m := 5) (by decide) (by decide) (by omega) (w1' ?_)
      exact pX7_in_n (m := 3) (by decide) (by decide) hy (w0 ⟨rfl, hO⟩)
  · refine pX0_in_n (m := 5) (by decide) (by decide) hx (w0' ?_)
    unfold wX7_giving
    exact pX7_in_n (m := 5) (by decide) (by decide) hx (w0' ⟨rfl, hO⟩)
end
