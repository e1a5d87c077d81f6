/-! PLAIN LAYER: the host: what is thrown; cell -/
set_option maxRecDepth 100000
/-- what lies in the rest of the world: nothing beyond its end; there is room for one more call -/
def RZ (b o : Nat) (S : XS) : Prop := (∀ a e, S.2.2.1 a = some e → a < S.2.2.2.1) ∧ o + 33 ≤ S.2.2.2.1 ∧ S.2.2.2.1 + 5000 ≤ b + cB ∧ S.2.2.2.2 + 100000 ≤ sB
/-- the rest of the world grows -/
def zX (S S' : XS) : Prop := (∀ a, a < S.2.2.2.1 → S'.2.2.1 a = S.2.2.1 a) ∧ (∀ a e, S'.2.2.1 a = some e → a < S'.2.2.2.1) ∧ S.2.2.2.1 ≤ S'.2.2.2.1 ∧ S'.2.2.2.1 ≤ S.2.2.2.1 + 5000 ∧ S'.2.2.2.2 ≤ S.2.2.2.2 + 100000
def OK3 (S : XS) (g : St) (S' : XS) (g' : St) : Prop := RI S'.1 g' ∧ MI g' ∧ zX S S' ∧ sameG g g'
theorem OK2.three {b o : Nat} {S S' : XS} {g g' : St} (h : OK2 S g S' g') (hz : RZ b o S) : OK3 S g S' g' := by
  refine ⟨h.1, h.2.1, ⟨fun a _ => ?_, fun a e q => ?_, ?_, ?_, ?_⟩, h.2.2.2⟩
  · rw [h.2.2.1]
  · rw [h.2.2.1] at q ⊢
    exact hz.1 a e q
  · rw [h.2.2.1]; exact Nat.le_refl _
  · rw [h.2.2.1]; exact Nat.le_add_right _ _
  · rw [h.2.2.1]; exact Nat.le_add_right _ _
theorem OK1.three {b o : Nat} {S S' : XS} {g g' : St} (h : OK1 S g S' g') (hz : RZ b o S) : OK3 S g S' g' := h.two.three hz
theorem OK1.tr {S S' S2 : XS} {g g' g2 : St} (h1 : OK1 S g S' g') (h2 : OK1 S' g' S2 g2) : OK1 S g S2 g2 := ⟨h2.1, h2.2.1, h2.2.2.1.trans h1.2.2.1, h2.2.2.2.1.trans h1.2.2.2.1, h2.2.2.2.2.1.trans h1.2.2.2.2.1, h2.2.2.2.2.2.1.trans h1.2.2.2.2.2.1, h2.2.2.2.2.2.2.1.trans h1.2.2.2.2.2.2.1, h2.2.2.2.2.2.2.2.1.trans h1.2.2.2.2.2.2.2.1, h2.2.2.2.2.2.2.2.2.1.trans h1.2.2.2.2.2.2.2.2.1, h2.2.2.2.2.2.2.2.2.2.trans h1.2.2.2.2.2.2.2.2.2⟩
def odE (code : Int32) : cE := .inr (14, vp_V [.null, .null, .null, .null, .null, .int 0, .int code])
/-- an Odd is thrown: the state -/
def sOd (S : XS) (code : Int32) : XS := (S.1, S.2.1, updP S.2.2.1 S.2.2.2.1 (odE code), S.2.2.2.1 + 1, S.2.2.2.2 + 7)
theorem updP_eq {P : cP} {a : Nat} {e : cE} : updP P a e a = some e := by
  unfold updP
  rw [if_pos rfl]
theorem updP_ne {P : cP} {a q : Nat} {e : cE} (h : q ≠ a) : updP P a e q = P q := by
  unfold updP
  rw [if_neg h]
theorem p_odd {b : Nat} {cs ad : Nat → Nat} {vs : Nat → Option Nat} {f : cW} {x0 : Nat} {code : Int32} {Q : cW → Prop} (hP : f.1 x0 = some (odE 0)) (h : Q (updP f.1 x0 (odE code), f.2)) : wX14_init b cs ad vs f x0 code Q := by
  unfold wX14_init wJ14_init_c14 wJ13_init_c14 wJ12_init_2_c14
  refine ⟨_, _, _, _, _, _, _, hP, fun f9 e9 f12 e12 f15 e15 => ⟨fun _ f18 e18 => ?_, fun q => absurd rfl q⟩⟩
  subst e9
  subst e12
  subst e15
  subst e18
  unfold wbJ12_init_2_c14_41
  refine ⟨_, _, _, _, _, _, _, updP_eq, fun f29 e29 f32 e32 => ⟨fun q => absurd rfl q, fun _ f35 e35 => ?_⟩⟩
  subst e29
  subst e32
  subst e35
  refine ⟨_, _, _, _, _, _, _, updP_eq, fun f10 e10 => ?_⟩
  rw [e10]
  simp only [updP_updP]
  exact h
theorem sOd_zX {b o : Nat} {S : XS} {code : Int32} (hz : RZ b o S) : zX S (sOd S code) := by
  refine ⟨fun a ha => ?_, fun a e q => ?_, ?_, ?_, ?_⟩
  · show updP _ _ _ a = _
    rw [updP_ne (by omega)]
  · have q' : updP S.2.2.1 S.2.2.2.1 (odE code) a = some e := q
    show a < S.2.2.2.1 + 1
    by_cases c : a = S.2.2.2.1
    · omega
    · rw [updP_ne c] at q'
      have := hz.1 a e q'
      omega
  · show _ ≤ _ + 1
    omega
  · show _ + 1 ≤ _
    omega
  · show _ + 7 ≤ _
    omega
section
variable {b o : Nat} {cs ad : Nat → Nat} {vs : Nat → Option Nat} {S : XS} {g : St}
theorem RZ_F (hz : RZ b o S) : xF o S.2.2.2.1 := Or.inr (Or.inr (Or.inr hz.2.1))
theorem RZ_bud {n : Nat} (hz : RZ b o S) (hn : n ≤ 100000) : bud b (wX o cs S) n := by
  unfold bud
  show S.2.2.2.1 + 1 ≤ b + cB ∧ S.2.2.2.2 + n ≤ sB
  have := hz.2.2.1
  have := hz.2.2.2
  omega
/-- an Odd is made and thrown, in a static method -/
theorem p_throw {code : Int32} {X : Nat → XS → Prop} (hz : RZ b o S) (h : X S.2.2.2.1 (sOd S code)) : bud b (wX o cs S) 7 ∧ ∀ (a_1 : Nat) (f_2 : cW), a_1 = (wX o cs S).2.1 → f_2 = wNew (wX o cs S) (.inr (14, vp_V [.null, .null, .null, .null, .null, .int (0 : Int32), .int (0 : Int32)])) 7 → (wX14_init b cs ad vs f_2 a_1 code (fun f_7 => ∃ f1 : XS, f_7 = wX o cs f1 ∧ X a_1 f1)) := by
  refine ⟨RZ_bud hz (by decide), fun a f2 ea ef => ?_⟩
  subst ea
  subst ef
  have ha : (wX o cs S).2.1 = S.2.2.2.1 := rfl
  rw [ha]
  refine p_odd (x0 := S.2.2.2.1) updP_eq ⟨sOd S code, ?_, h⟩
  rw [wX_new (RZ_F hz)]
  have := wX_upd (cs := cs) (S := xNew S (.inr (14, vp_V [.null, .null, .null, .null, .null, .int (0 : Int32), .int (0 : Int32)])) 7) (e := odE code) (RZ_F hz)
  rw [this]
  show wX o cs (S.1, S.2.1, updP (updP S.2.2.1 S.2.2.2.1 _) S.2.2.2.1 (odE code), S.2.2.2.1 + 1, S.2.2.2.2 + 7) = _
  rw [updP_updP]
  rfl
theorem p_need_y {code : Int32} {X : Nat → cW → Prop} {Q : cW → Prop} {x : Int32} {f : cW} (hx : ¬ x = 0) (h : Q f) : wX0_need b cs ad vs f x code X Q := ⟨fun _ => h, fun q => absurd q hx⟩
theorem p_need_n {code : Int32} {X : Nat → XS → Prop} {Q : cW → Prop} (hz : RZ b o S) (h : X S.2.2.2.1 (sOd S code)) : wX0_need b cs ad vs (wX o cs S) 0 code (fun a w => ∃ f1 : XS, w = wX o cs f1 ∧ X a f1) Q := ⟨fun q => absurd rfl q, fun _ => p_throw hz h⟩
theorem p_there_y {s : Nat} {X Q : Nat → XS → Prop} (hs : s < 4) (h0 : 0 ≤ S.1 (60 + s) 0) (h : Q s S) : wX0_there b cs ad vs o S (Int32.ofNat s) X Q := by
  unfold wX0_there
  rw [n_clamp (by omega)]
  exact ⟨n_in hs (by decide), hs, fun _ => ⟨n_in hs (by decide), h⟩, fun q => absurd h0 q⟩
theorem p_there_n {s : Nat} {X Q : Nat → XS → Prop} (hz : RZ b o S) (hs : s < 4) (h0 : ¬ 0 ≤ S.1 (60 + s) 0) (h : X S.2.2.2.1 (sOd S (-11))) : wX0_there b cs ad vs o S (Int32.ofNat s) X Q := by
  unfold wX0_there
  rw [n_clamp (by omega)]
  refine ⟨n_in hs (by decide), hs, fun q => absurd q h0, fun _ => ⟨RZ_bud hz (by decide), RZ_F hz, fun a f5 ea e5 => ?_⟩⟩
  subst ea
  subst e5
  have := (p_throw (cs := cs) (ad := ad) (vs := vs) (code := -11) (X := X) hz h).2 S.2.2.2.1 _ rfl rfl
  rw [wX_new (RZ_F hz)] at this
  exact this
theorem sOd_at {code : Int32} : (sOd S code).2.2.1 S.2.2.2.1 = some (.inr (14, vp_V [.null, .null, .null, .null, .null, .int 0, .int code])) := updP_eq
theorem sort_neg {s : Nat} (hI : RI S.1 g) (hM : MI g) (hs : s < 4) : (¬ 0 ≤ S.1 (60 + s) 0) ↔ g 36 s = -1 := by
  obtain ⟨q0, -, -⟩ := RI_at hs hI
  obtain ⟨-, -, -, -, -, -, -, ⟨h36, -⟩⟩ := hM
  obtain ⟨l36, u36⟩ := h36 s hs
  rw [q0]
  constructor
  · intro z
    refine i_eq.mpr ?_
    rw [im1]
    have : ¬ (0 : Int32).toInt ≤ (g 36 s).toInt := fun y => z (i_le.mpr y)
    rw [i0] at this
    omega
  · intro e z
    rw [e] at z
    exact absurd z (by decide)
theorem RI_od {code : Int32} (hI : RI S.1 g) : RI (sOd S code).1 g := hI
/-- the class stays as it is, an Odd was thrown -/
theorem OK3_od {code : Int32} (hz : RZ b o S) (hI : RI S.1 g) (hM : MI g) : OK3 S g (sOd S code) g := ⟨hI, hM, sOd_zX hz, rfl, rfl, rfl, rfl, rfl, rfl, rfl⟩
/-- what a sheet takes -/
def ptV (sort v : Int32) : Int32 := if sort = 0 then i_b v else if sort = 1 then i_s v else v
theorem p_put {s i : Nat} {v : Int32} {Q : cW → Prop} (hs : s < 4) (hi : i < 40) (h : Q (wX o cs (updR S.1 (70 + s) (upd (S.1 (70 + s)) i (ptV (S.1 (60 + s) 0) v)), S.2))) : wX1_put b cs ad vs (wX o cs S) (o + 25 + 2 * s) (Int32.ofNat i) v Q := by
  have hob : (wX o cs S).1 (o + 25 + 2 * s) = some (.inr (2, vp_V [.int (S.1 (60 + s) 0), .int (S.1 (60 + s) 1), .ref (o + 26 + 2 * s)])) := by
    rw [wX_sheet hs]
    congr 3
    funext k
    unfold shV vp_V
    match k with
    | 0 => rfl
    | 1 => rfl
    | 2 => rfl
    | k + 3 => simp
  have hce := wX_cells (o := o) (cs := cs) (S := S) hs
  unfold wX1_put
  rw [n_clamp (by omega)]
  have hin : vp_in (Int32.ofNat i) 40 := n_in hi (by decide)
  unfold ptV at h
  refine ⟨_, _, _, hob, fun q => ⟨fun q1 => ⟨_, rfl, 40, _, hce, hin, fun f e => ?_⟩, fun q1 => ⟨_, rfl, 40, _, hce, hin, fun f e => ?_⟩⟩, fun q => ⟨_, rfl, 40, _, hce, hin, fun f e => ?_⟩⟩
  · rw [if_neg q, if_neg q1] at h
    rw [e, wX_rowC hs]
    exact h
  · rw [if_neg q, if_pos q1] at h
    rw [e, wX_rowC hs]
    exact h
  · rw [if_pos q] at h
    rw [e, wX_rowC hs]
    exact h
theorem op_cell (hI : RI S.1 g) (hM : MI g) (hz : RZ b o S) (x1 x2 x3 : Int32) : wX0_cell b cs ad vs o S x1 x2 x3 (fun r S' => wX7_cell g x1 x2 x3 (fun r' g' => r = r' ∧ OK3 S g S' g')) := by
  have hO := (OK1.rf hI hM).three hz
  have f3 : (3 : Int32).toInt = ((3 : Nat) : Int) := by decide
  unfold wX0_cell
  by_cases hx : isN x1 4
  · obtain ⟨s, hs, rfl⟩ := hx
    have hins : vp_in (Int32.ofNat s) 4 := n_in hs (by decide)
    obtain ⟨q0, q1, q2⟩ := RI_at hs hI
    have hsn := sort_neg hI hM hs
    refine pX0_isSheet_y hs (w1 ?_)
    by_cases h0 : 0 ≤ S.1 (60 + s) 0
    · have hne : ¬ g 36 s = -1 := fun e => (hsn.mpr e) h0
      refine p_there_y hs h0 ⟨hs, pX0_in ?_⟩
      have h37 := hM.2.2.2.2.2.2.2.2 s hs
      obtain ⟨n, hn, en⟩ := bN_of (m := 40) h37.1 h37.2 (by decide)
      rw [q1, en, l_of, l_dec (by omega), l0]
      -- the reference up to the place
      have hm : ∀ Q : Int32 → St → Prop, wX7_in g x2 0 (Int32.ofNat n - 1) (fun r_4 f_3 => ((¬ r_4 = (0 : Int32) → (vp_in (Int32.ofNat s) 4 ∧ ((¬ (f_3 36 s) = (0 : Int32) → (vp_in (Int32.ofNat s) 4 ∧ ((¬ (f_3 36 s) = (1 : Int32) → (vp_in (((40 : Int32) * Int32.ofNat s) + x2) 160 ∧ (∀ f_5 : St, f_5 = upd2 f_3 38 (Int32.toNatClampNeg (((40 : Int32) * Int32.ofNat s) + x2)) x3 → Q (1 : Int32) f_5))) ∧ ((f_3 36 s) = (1 : Int32) → (vp_in (((40 : Int32) * Int32.ofNat s) + x2) 160 ∧ (∀ f_6 : St, f_6 = upd2 f_3 38 (Int32.toNatClampNeg (((40 : Int32) * Int32.ofNat s) + x2)) (i_s x3) → Q (1 : Int32) f_6)))))) ∧ ((f_3 36 s) = (0 : Int32) → (vp_in (((40 : Int32) * Int32.ofNat s) + x2) 160 ∧ (∀ f_7 : St, f_7 = upd2 f_3 38 (Int32.toNatClampNeg (((40 : Int32) * Int32.ofNat s) + x2)) (i_b x3) → Q (1 : Int32) f_7)))))) ∧ (r_4 = (0 : Int32) → Q (-12 : Int32) f_3))) → wX7_cell g (Int32.ofNat s) x2 x3 Q := by
        intro Q h
        unfold wX7_cell
        refine pX7_in_y f3 (by decide) (by omega) (w1 ⟨hins, ?_⟩)
        rw [n_clamp (by omega), en]
        exact ⟨fun _ => ⟨hins, h⟩, fun e => absurd e hne⟩
      have edec : (Int32.ofNat n - 1).toInt = (n : Int) - 1 := i_dec (by omega)
      by_cases hc : 0 ≤ x2.toInt ∧ x2.toInt ≤ (n : Int) - 1
      · rw [if_pos hc]
        refine p_need_y (by decide) ⟨S, rfl, hs, ?_⟩
        obtain ⟨i, hi, rfl⟩ := (isN_of (by omega)).mp hc
        refine p_put hs (by omega) ⟨_, rfl, hm _ (pX7_in ?_)⟩
        rw [i0, edec, if_pos hc]
        have e40 : (40 : Int32) * Int32.ofNat s + Int32.ofNat i = Int32.ofNat (40 * s + i) := n_ix
        rw [e40, n_clamp (n := 40 * s + i) (by omega)]
        have hin : vp_in (Int32.ofNat (40 * s + i)) 160 := n_in (by omega) (by decide)
        have hfin : ∀ v f, v = ptV (g 36 s) x3 → f = upd2 g 38 (40 * s + i) v → (1 : Int32) = 1 ∧ OK3 S g (updR S.1 (70 + s) (upd (S.1 (70 + s)) i (ptV (S.1 (60 + s) 0) x3)), S.2) f := by
          intro v f hv hf
          subst hf
          refine ⟨rfl, (OK1.three (o := o) (b := b) ⟨?_, ?_, rfl, rfl, rfl, rfl, rfl, rfl, rfl, rfl⟩ hz)⟩
          · have := RI_sh hs hI (A := S.1 (60 + s)) (B := upd (S.1 (70 + s)) i (ptV (S.1 (60 + s) 0) x3)) (g36 := g 36) (g37 := g 37) (g38 := upd (g 38) (40 * s + i) v) ⟨q0, q1, fun j hj => ?_⟩ (fun t ht hne X Y hXY => ⟨hXY.1, hXY.2.1, fun j hj => ?_⟩)
            · have e1 : updR (updR S.1 (60 + s) (S.1 (60 + s))) (70 + s) (upd (S.1 (70 + s)) i (ptV (S.1 (60 + s) 0) x3)) = updR S.1 (70 + s) (upd (S.1 (70 + s)) i (ptV (S.1 (60 + s) 0) x3)) := by rw [updR_self]
              have e2 : updR (updR (updR g 36 (g 36)) 37 (g 37)) 38 (upd (g 38) (40 * s + i) v) = upd2 g 38 (40 * s + i) v := by
                rw [upd2_updR]
                have : updR (updR g 36 (g 36)) 37 (g 37) = g := by
                  have e3 : updR g 36 (g 36) = g := updR_self
                  rw [e3, updR_self]
                rw [this]
              rw [e1, e2] at this
              exact this
            · by_cases c : j = i
              · subst c
                rw [upd_s, upd_s, hv, q0]
              · rw [upd_n c, upd_n (by omega)]
                exact q2 j hj
            · rw [upd_n (by omega)]
              exact hXY.2.2 j hj
          · exact hM
        refine w1 ⟨hins, fun z => ⟨hins, fun z1 => ⟨hin, fun f e => hfin _ f ?_ e⟩, fun z1 => ⟨hin, fun f e => hfin _ f ?_ e⟩⟩, fun z => ⟨hin, fun f e => hfin _ f ?_ e⟩⟩
        · unfold ptV; rw [if_neg z, if_neg z1]
        · unfold ptV; rw [if_neg z, if_pos z1]
        · unfold ptV; rw [if_pos z]
      · rw [if_neg hc]
        refine p_need_n hz ⟨RZ_F hz, _, _, _, _, _, _, _, sOd_at, hm _ (pX7_in ?_)⟩
        rw [i0, edec, if_neg hc]
        exact w0 ⟨rfl, OK3_od hz hI hM⟩
    · refine p_there_n hz hs h0 ⟨RZ_F hz, _, _, _, _, _, _, _, sOd_at, ?_⟩
      unfold wX7_cell
      refine pX7_in_y f3 (by decide) (by omega) (w1 ⟨hins, ?_⟩)
      rw [n_clamp (by omega)]
      exact ⟨fun e => absurd (hsn.mp h0) e, fun _ => ⟨rfl, OK3_od hz hI hM⟩⟩
  · refine pX0_isSheet_n hx (w0 ?_)
    unfold wX7_cell
    exact pX7_in_n f3 (by decide) hx (w0 ⟨rfl, hO⟩)
end
