/-! PLAIN LAYER: what is sold; walk -/
set_option maxRecDepth 100000
def slV (sz H : Nat → Int32) (o d : Nat) (L : Int32) : Int32 := if i_shr (H o) (Int32.ofNat d) &&& 1 = 1 then (if sz o ≤ L then sz o else L) else 0
theorem slV_congr {sz sz' H H' : Nat → Int32} {o d : Nat} {L : Int32} (h1 : sz o = sz' o) (h2 : H o = H' o) : slV sz H o d L = slV sz' H' o d L := by
  unfold slV
  rw [h1, h2]
/-- x is one of 0 .. m -/
theorem inN_of {x : Int32} {m : Nat} (hm : m < 2147483647) : (0 ≤ x.toInt ∧ x.toInt ≤ (m : Int)) ↔ isN x (m + 1) := by
  have := isN_of (x := x) (n := m + 1) (by omega)
  constructor
  · intro h
    exact this.mp ⟨h.1, by omega⟩
  · intro h
    have := this.mpr h
    omega
section
variable {b o : Nat} {cs ad : Nat → Nat} {vs : Nat → Option Nat} {S : XS} {g : St} {T w : Nat}
theorem pX0_isSheet_y {s : Nat} {Q : Int32 → Prop} (hs : s < 4) (h : Q 1) : wX0_isSheet (Int32.ofNat s) Q := by
  unfold wX0_isSheet
  refine pX0_in ?_
  rw [l_of, l0, n_toInt (by omega), show (3 : Int64).toInt = 3 by decide, if_pos (by omega)]
  exact ⟨vz1, h⟩
theorem pX0_isSheet_n {x : Int32} {Q : Int32 → Prop} (hs : ¬ isN x 4) (h : Q 0) : wX0_isSheet x Q := by
  unfold wX0_isSheet
  refine pX0_in ?_
  rw [l_of, l0, show (3 : Int64).toInt = 3 by decide, if_neg (show ¬ (0 ≤ x.toInt ∧ x.toInt ≤ 3) from fun q => hs ((inN_of (m := 3) (by decide)).mp q))]
  exact ⟨vz0, h⟩
theorem pX7_in_y {k m : Nat} {M : Int32} {Q : Int32 → St → Prop} (hM : M.toInt = m) (hm : m < 2147483647) (hk : k ≤ m) (h : Q 1 g) : wX7_in g (Int32.ofNat k) 0 M Q := by
  refine pX7_in ?_
  rw [i0, hM, n_toInt (by omega), if_pos (by omega)]
  exact h
theorem pX7_in_n {x : Int32} {m : Nat} {M : Int32} {Q : Int32 → St → Prop} (hM : M.toInt = m) (hm : m < 2147483647) (hk : ¬ isN x (m + 1)) (h : Q 0 g) : wX7_in g x 0 M Q := by
  refine pX7_in ?_
  rw [i0, hM, if_neg (fun q => hk ((inN_of hm).mp q))]
  exact h
theorem pX0_in_y {k m : Nat} {M : Int64} {Q : Int32 → Prop} (hM : M.toInt = m) (hm : m < 2147483647) (hk : k ≤ m) (h : Q 1) : wX0_in (Int32.ofNat k).toInt64 0 M Q := by
  refine pX0_in ?_
  rw [l0, hM, l_of, n_toInt (by omega), if_pos (by omega)]
  exact h
theorem pX0_in_n {x : Int32} {m : Nat} {M : Int64} {Q : Int32 → Prop} (hM : M.toInt = m) (hm : m < 2147483647) (hk : ¬ isN x (m + 1)) (h : Q 0) : wX0_in x.toInt64 0 M Q := by
  refine pX0_in ?_
  rw [l0, hM, l_of, if_neg (fun q => hk ((inN_of hm).mp q))]
  exact h
theorem pX0_sells {q d : Nat} {L : Int32} {Q : Int32 → XS → Prop} (hq : q < 6) (h : Q (slV (S.1 0) (S.1 14) q d L) S) : wX0_sells b cs ad vs o S (Int32.ofNat q) (Int32.ofNat d) L Q := by
  unfold wX0_sells
  rw [n_clamp (by omega)]
  have hin : vp_in (Int32.ofNat q) 6 := n_in hq (by decide)
  unfold slV at h
  refine ⟨hin, fun z => ?_, fun z => ⟨hin, ?_⟩⟩
  · rw [if_neg z] at h; exact h
  · rw [if_pos z] at h
    rw [i_min_of]
    exact h
theorem pX7_sold {q d : Nat} {L : Int32} {Q : Int32 → St → Prop} (hq : q < 6) (h : Q (slV (g 1) (g 52) q d L) g) : wX7_sold g (Int32.ofNat q) (Int32.ofNat d) L Q := by
  unfold wX7_sold
  rw [n_clamp (by omega)]
  have hin : vp_in (Int32.ofNat q) 6 := n_in hq (by decide)
  unfold slV at h
  refine ⟨hin, fun z => ⟨hin, fun y => ?_, fun y => ⟨hin, ?_⟩⟩, fun z => ?_⟩
  · rw [if_pos (and1_ne.mp z)] at h
    by_cases c : g 1 q ≤ L
    · rw [if_pos c] at h
      have : g 1 q = L := i_eq.mpr (by have := i_le.mp c; have := i_le.mp y; omega)
      rw [this] at h
      exact h
    · rw [if_neg c] at h
      exact h
  · rw [if_pos (and1_ne.mp z)] at h
    have c : g 1 q ≤ L := i_le.mpr (by
      have : ¬ L.toInt ≤ (g 1 q).toInt := fun z => y (i_le.mpr z)
      omega)
    rw [if_pos c] at h
    exact h
  · rw [if_neg (fun y => and1_ne.mpr y z)] at h
    exact h
/-- a round told: where he is, what is left -/
def wkT (home : Nat) (C : Nat → Nat) : Nat → Nat
  | 0 => home
  | d + 1 => C d
def wkL (sz H : Nat → Int32) (C : Nat → Nat) : Nat → Int32
  | 0 => 40
  | d + 1 => wkL sz H C d - slV sz H (C d) d (wkL sz H C d)
/-- what walk comes to, if it goes well up to day d -/
def wkR (sz H : Nat → Int32) (home : Nat) (C : Nat → Nat) (w d : Nat) : Int32 := if d = w then (if wkT home C w = home then 40 - wkL sz H C w else -100) else -20 - Int32.ofNat d
theorem m_walk {home st s d : Nat} {C : Nat → Nat} {far sz H : Nat → Int32} {g2 : St} {Q : Int32 → St → Prop} (hT6 : T ≤ 6) (hw : g2 99 6 = Int32.ofNat w) (hw7 : w ≤ 7) (hs : s < 4) (hhome : home < T) (hC : ∀ e, e < w → C e < T ∧ g2 38 (40 * s + e) = Int32.ofNat (C e)) (h39 : g2 39 = far) (h1 : ∀ q, q < T → g2 1 q = sz q) (h52 : ∀ q, q < T → g2 52 q = H q) (hdw : d ≤ w) (hok : ∀ e, e < d → far (6 * wkT home C e + C e) ≤ Int32.ofNat st) (hno : d < w → ¬ far (6 * wkT home C d + C d) ≤ Int32.ofNat st) (h : Q (wkR sz H home C w d) g2) : ∃ n : Nat, wlX7_walk_152 (fun (x3 : Int32) (x7 : Int32) (x8 : Int32) (f : St) => ((¬ x7 = x3 → Q (-100 : Int32) f) ∧ (x7 = x3 → Q ((40 : Int32) - x8) f))) Q n (Int32.ofNat home) (Int32.ofNat st) (Int32.ofNat s) (Int32.ofNat home) (40 : Int32) (0 : Int32) g2 := by
  have hkT : ∀ e, e ≤ w → wkT home C e < T := by
    intro e he
    cases e with
    | zero => exact hhome
    | succ e => exact (hC e (by omega)).1
  refine icX7_walk_152_9 d 0 (by omega) (by omega) (fun _ => True) (fun _ => Int32.ofNat home) (fun _ => Int32.ofNat st) (fun _ => Int32.ofNat s) (fun e => Int32.ofNat (wkT home C e)) (fun e => wkL sz H C e) (fun _ => g2) trivial ?_
  intro K e _ he _ hK
  have ht := hkT e (by omega)
  unfold wbX7_walk_152
  rw [hw]
  have i1 : (40 : Int32) * Int32.ofNat s + Int32.ofNat e = Int32.ofNat (40 * s + e) := n_ix
  refine w_upto (by omega) (by omega) (fun q => ?_) (fun hlt => ?_)
  · have hd : d = e := by omega
    subst hd
    subst q
    unfold wkR at h
    rw [if_pos rfl] at h
    have eq : (Int32.ofNat (wkT home C d) = Int32.ofNat home) ↔ wkT home C d = home := n_eqI (by omega) (by omega)
    refine ⟨fun z => ?_, fun z => ?_⟩
    · rw [if_neg (fun y => z (eq.mpr y))] at h; exact h
    · rw [if_pos (eq.mp z)] at h; exact h
  · obtain ⟨hCe, eC⟩ := hC e hlt
    rw [i1, n_clamp (by omega), eC]
    refine ⟨n_in (by omega) (by decide), fun x10 e10 => ?_⟩
    subst e10
    have i2 : (6 : Int32) * Int32.ofNat (wkT home C e) + Int32.ofNat (C e) = Int32.ofNat (6 * wkT home C e + C e) := n_ix
    rw [i2, n_clamp (by omega), h39]
    refine ⟨n_in (by omega) (by decide), fun z => pX7_sold (by omega) (fun x8 e8 x9 e9 => ?_), fun z => ?_⟩
    · have hed : e < d := by
        by_cases c : e < d
        · exact c
        · have hd : d = e := by omega
          subst hd
          exact absurd z (hno hlt)
      rw [n_suc] at e9
      subst e9
      rw [slV_congr (h1 _ (by omega)) (h52 _ hCe)] at e8
      subst e8
      exact hK hed trivial
    · have hd : d = e := by
        by_cases c : e < d
        · exact absurd (hok e c) z
        · omega
      subst hd
      unfold wkR at h
      rw [if_neg (by omega)] at h
      exact h
theorem m_good {s : Nat} {x1 x2 x3 x4 t0 : Int32} {Q : Int32 → St → Prop} (hT : g 99 0 = Int32.ofNat T) (hT6 : T ≤ 6) (hw : g 99 6 = Int32.ofNat w) (hw7 : w ≤ 7) (hs : s < 4) (ht0 : t0 = 0 ∨ t0 = 1) (h0 : (t0 = 0 ∨ ∃ e, e < w ∧ ¬ isN (g 38 (40 * s + e)) T) → wbX7_walk_124 Q x1 x2 x3 x4 (Int32.ofNat s) 0 g) (h1 : t0 = 1 → (∀ e, e < w → isN (g 38 (40 * s + e)) T) → wbX7_walk_124 Q x1 x2 x3 x4 (Int32.ofNat s) 1 g) : wbX7_walk_80 Q x1 x2 x3 x4 (Int32.ofNat s) t0 g := by
  unfold wbX7_walk_80
  refine ijX7_walk_85_7 w 0 (by omega) (by omega) (fun k y1 y2 y3 y4 y5 y6 f => y1 = x1 ∧ y2 = x2 ∧ y3 = x3 ∧ y4 = x4 ∧ y5 = Int32.ofNat s ∧ f = g ∧ (y6 = 0 ∧ (t0 = 0 ∨ ∃ e, e < w ∧ ¬ isN (g 38 (40 * s + e)) T) ∨ y6 = 1 ∧ t0 = 1 ∧ ∀ e, e < k → isN (g 38 (40 * s + e)) T)) ?_ _ _ _ _ _ _ _ ⟨rfl, rfl, rfl, rfl, rfl, rfl, ?_⟩
  · intro K k y1 y2 y3 y4 y5 y6 f _ hk hP hK
    obtain ⟨rfl, rfl, rfl, rfl, rfl, rfl, hP⟩ := hP
    unfold wbX7_walk_85
    rw [hw]
    have i1 : (40 : Int32) * Int32.ofNat s + Int32.ofNat k = Int32.ofNat (40 * s + k) := n_ix
    refine w_upto (by omega) hk (fun q => ?_) (fun hlt => ?_)
    · subst q
      rcases hP with ⟨rfl, hP⟩ | ⟨rfl, hP, hP2⟩
      · exact h0 hP
      · exact h1 hP hP2
    · rcases hP with ⟨rfl, hP⟩ | ⟨rfl, hP, hP2⟩
      · exact w0' (h0 hP)
      · refine w1' ?_
        rw [i1, n_clamp (by omega)]
        refine ⟨n_in (by omega) (by decide), ?_⟩
        by_cases hc : isN (f 38 (40 * s + k)) T
        · have hc' := hc
          obtain ⟨c, hcT, ec⟩ := hc
          rw [ec]
          refine pX7_isTown_y hT hT6 hcT (fun x7 e7 => ?_)
          rw [n_suc] at e7
          subst e7
          refine hK _ _ _ _ _ _ _ hlt ⟨rfl, rfl, rfl, rfl, rfl, rfl, Or.inr ⟨rfl, hP, fun e he => ?_⟩⟩
          by_cases c : e = k
          · subst c; exact hc'
          · exact hP2 e (by omega)
        · refine pX7_isTown_n hT hT6 hc (fun x7 e7 => ?_)
          rw [n_suc] at e7
          subst e7
          exact hK _ _ _ _ _ _ _ hlt ⟨rfl, rfl, rfl, rfl, rfl, rfl, Or.inl ⟨rfl, Or.inr ⟨k, hlt, hc⟩⟩⟩
  · rcases ht0 with q | q
    · exact Or.inl ⟨q, Or.inl q⟩
    · exact Or.inr ⟨q, q, fun e he => absurd he (Nat.not_lt_zero _)⟩
theorem op_walk (hI : RI S.1 g) (hM : MI g) (hG : GL o cs ad S g) (x1 x2 x3 x4 x5 : Int32) : wX0_walk b cs ad vs o S x1 x2 x3 x4 x5 (fun r S' => wX7_walk g x1 x2 x3 x4 x5 (fun r' g' => r = r' ∧ OK1 S g S' g')) := by
  have hO := OK1.rf hI hM
  have hM0 := hM
  obtain ⟨G, hG12, eG, hL⟩ := hG
  obtain ⟨⟨⟨T, hT6, hT⟩, ⟨w, hw2, hw7, hw⟩, ⟨F, hF10, hF⟩, -⟩, ⟨hm1, -⟩, -, -, -, -, -, ⟨h36, h37⟩⟩ := hM
  have hTX : S.1 99 6 = Int32.ofNat T := hI.1.1.trans hT
  have hwX : S.1 99 7 = Int32.ofNat w := hI.1.2.1.trans hw
  have hfar : ∀ a c, a < T → c < T → S.1 5 (6 * a + c) = farF T (g 5) (g 39) (6 * a + c) := fun a c h1 h2 => far_eq hI hM0 hT hT6 h1 h2
  have e50 : (50 : Int64).toInt = ((50 : Nat) : Int) := by decide
  have f50 : (50 : Int32).toInt = ((50 : Nat) : Int) := by decide
  have f3 : (3 : Int32).toInt = ((3 : Nat) : Int) := by decide
  unfold wX0_walk wX0_isRound
  by_cases hx : isN x1 G
  · obtain ⟨i, hi, rfl⟩ := hx
    refine pX0_isGiving_y hL hG12 hi (w1' ?_)
    by_cases hy : isN x2 100
    · obtain ⟨wk, hwk, rfl⟩ := hy
      refine pX0_isWeek_y hwk (w1' ?_)
      by_cases hz : isN x3 T
      · obtain ⟨home, hhome, rfl⟩ := hz
        refine pX0_isTown_y hTX hT6 hhome (w1' ?_)
        by_cases h4 : isN x4 51
        · obtain ⟨st, hst, rfl⟩ := h4
          refine pX0_in_y e50 (by decide) (by omega) (w1' ?_)
          refine pX0_in_y (k := 0) (m := 40) (by decide) (by decide) (by decide) (w1' (w1' ?_))
          by_cases h5 : isN x5 4
          · obtain ⟨s, hs, rfl⟩ := h5
            have hins : vp_in (Int32.ofNat s) 4 := n_in hs (by decide)
            obtain ⟨q0, q1, q2⟩ := RI_at hs hI
            obtain ⟨l36, u36⟩ := h36 s hs
            refine pX0_isSheet_y hs (w1 ⟨hins, ?_⟩)
            rw [n_clamp (n := s) (by omega)]
            -- the reference up to the sheet
            have hm : ∀ Q : Int32 → St → Prop, (g 36 s = -1 → Q (-11) g) → (¬ g 36 s = -1 → ¬ g 37 s = g 99 6 → wbX7_walk_80 Q (Int32.ofNat i) (Int32.ofNat wk) (Int32.ofNat home) (Int32.ofNat st) (Int32.ofNat s) 0 g) → (¬ g 36 s = -1 → g 37 s = g 99 6 → wbX7_walk_80 Q (Int32.ofNat i) (Int32.ofNat wk) (Int32.ofNat home) (Int32.ofNat st) (Int32.ofNat s) 1 g) → wX7_walk g (Int32.ofNat i) (Int32.ofNat wk) (Int32.ofNat home) (Int32.ofNat st) (Int32.ofNat s) Q := by
              intro Q a1 a2 a3
              unfold wX7_walk
              refine pX7_isGiving_y eG hG12 hi (w1' (pX7_isWeek_y hwk (w1' (pX7_isTown_y hT hT6 hhome (w1' (pX7_in_y f50 (by decide) (by omega) (w1' (pX7_in_y f3 (by decide) (by omega) (w1 ⟨hins, ?_⟩)))))))))
              rw [n_clamp (n := s) (by omega)]
              exact ⟨fun z => ⟨hins, fun y => a2 z y, fun y => a3 z y⟩, fun z => a1 z⟩
            refine ⟨hs, fun z => ⟨hs, fun y => ?_, fun y => ?_⟩, fun z => ?_⟩
            · -- the sheet is of the week's size
              rw [q0] at z
              have hne : ¬ g 36 s = -1 := by
                intro e
                rw [e] at z
                exact absurd z (by decide)
              have hsz : g 37 s = g 99 6 := by rw [← q1, y]; exact hI.1.2.1
              refine ijX0_walk_62_7 w 0 (by omega) (by omega) (fun k y1 y2 y3 y4 y6 f => y1 = Int32.ofNat i ∧ y2 = Int32.ofNat wk ∧ y3 = Int32.ofNat home ∧ y4 = Int32.ofNat st ∧ y6 = s ∧ f = S ∧ ∀ e, e < k → isN (g 38 (40 * s + e)) T) ?_ _ _ _ _ _ _ ⟨rfl, rfl, rfl, rfl, rfl, rfl, fun e he => absurd he (Nat.not_lt_zero _)⟩
              intro K k y1 y2 y3 y4 y6 f _ hk hP hK
              obtain ⟨rfl, rfl, rfl, rfl, rfl, rfl, hok⟩ := hP
              unfold wbX0_walk_62
              rw [hwX]
              refine w_upto (by omega) hk (fun q => ?_) (fun hlt => ⟨hs, hs, n_in (by omega) (by decide), ?_⟩)
              · subst q
                refine pX_get hL hG12 hi (fun a k' n D hg => ?_)
                refine x_lay hI hg hT hT6 hw hw2 hw7 hF hF10 xS.rf (fun f2 hxf h14 => ?_)
                generalize hC : (fun e => (g 38 (40 * y6 + e)).toNatClampNeg) = C
                have hCe : ∀ e, e < k → C e < T ∧ g 38 (40 * y6 + e) = Int32.ofNat (C e) := by
                  intro e he
                  obtain ⟨c, hc, ec⟩ := hok e he
                  rw [← hC]
                  show (g 38 (40 * y6 + e)).toNatClampNeg < T ∧ g 38 (40 * y6 + e) = Int32.ofNat (g 38 (40 * y6 + e)).toNatClampNeg
                  rw [ec, n_clamp (by omega)]
                  exact ⟨hc, rfl⟩
                have hkT : ∀ e, e ≤ k → wkT home C e < T := by
                  intro e he
                  cases e with
                  | zero => exact hhome
                  | succ e => exact (hCe e (by omega)).1
                generalize hFF : farF T (g 5) (g 39) = FF at hfar
                -- the reference, if all goes well up to day d
                have hend : ∀ (d : Nat) (f3 : XS), xS f f3 → d ≤ k → (∀ e, e < d → FF (6 * wkT home C e + C e) ≤ Int32.ofNat st) → (d < k → ¬ FF (6 * wkT home C d + C d) ≤ Int32.ofNat st) → ∀ v, v = wkR (g 1) (HP g i wk) home C k d → wX7_walk g (Int32.ofNat i) (Int32.ofNat wk) (Int32.ofNat home) (Int32.ofNat st) (Int32.ofNat y6) (fun r' g' => v = r' ∧ OK1 f g f3 g') := by
                  intro d f3 hx3 hd hok1 hno v hv
                  refine hm _ (fun e => absurd e hne) (fun _ e => absurd hsz e) (fun _ _ => m_good hT hT6 hw hw7 hs (Or.inr rfl) (fun e => ?_) (fun _ _ => ?_))
                  · rcases e with e | ⟨e, he, he2⟩
                    · exact absurd e (by decide)
                    · exact absurd (hok e he) he2
                  · unfold wbX7_walk_124
                    refine w1 ?_
                    refine m_sl hT hT6 hw hw2 hw7 hF hF10 (by omega) (fun g2 hr2 h39 h52 => ?_)
                    refine m_walk (Q := fun r' g' => v = r' ∧ OK1 f g f3 g') (far := FF) (sz := g 1) (H := HP g i wk) (C := C) (d := d) hT6 (by rw [mR_99 hr2]; exact hw) hw7 hs hhome (fun e he => ?_) (h39.trans hFF) (fun q _ => by rw [hr2 1 (by decide) (by decide) (by decide) (by decide) (by decide)]) h52 hd hok1 hno ⟨hv, OK1_S hI hM0 hx3 (mR_S hr2)⟩
                    rw [hr2 38 (by decide) (by decide) (by decide) (by decide) (by decide)]
                    exact hCe e he
                refine ijX0_walk_121_9 k 0 (by omega) (by omega) (fun d y3 y4 y6' y7 y8 f2 => y3 = Int32.ofNat home ∧ y4 = Int32.ofNat st ∧ y6' = y6 ∧ y7 = Int32.ofNat (wkT home C d) ∧ y8 = wkL (g 1) (HP g i wk) C d ∧ xS f f2 ∧ (∀ t, t < T → f2.1 14 t = HP g i wk t) ∧ ∀ e, e < d → FF (6 * wkT home C e + C e) ≤ Int32.ofNat st) ?_ _ _ _ _ _ _ ⟨rfl, rfl, rfl, rfl, rfl, hxf, h14, fun e he => absurd he (Nat.not_lt_zero _)⟩
                intro K2 d y3 y4 y6' y7 y8 f3 _ hd hP hK2
                obtain ⟨rfl, rfl, rfl, rfl, rfl, hx3, h143, hok1⟩ := hP
                have ht := hkT d hd
                unfold wbX0_walk_121
                rw [(xS_RI hx3 hI).1.2.1, hw]
                refine w_upto (by omega) hd (fun q => ?_) (fun hlt => ⟨hs, hs, n_in (by omega) (by decide), fun x10 e10 => ?_⟩)
                · subst q
                  have eq : (Int32.ofNat (wkT home C d) = Int32.ofNat home) ↔ wkT home C d = home := n_eqI (by omega) (by omega)
                  refine ⟨fun z => hend d f3 hx3 (Nat.le_refl _) hok1 (fun q => absurd q (Nat.lt_irrefl _)) _ ?_, fun z => hend d f3 hx3 (Nat.le_refl _) hok1 (fun q => absurd q (Nat.lt_irrefl _)) _ ?_⟩
                  · unfold wkR
                    rw [if_pos rfl, if_neg (fun y => z (eq.mpr y))]
                  · unfold wkR
                    rw [if_pos rfl, if_pos (eq.mp z)]
                · obtain ⟨hCd, eC⟩ := hCe d hlt
                  have e10' : x10 = Int32.ofNat (C d) := by
                    rw [e10, n_clamp (n := d) (by omega), xS_n hx3 (show 70 + y6' ≠ 12 by omega) (by omega), q2 d (by omega)]
                    exact eC
                  subst e10'
                  have i2 : (6 : Int32) * Int32.ofNat (wkT home C d) + Int32.ofNat (C d) = Int32.ofNat (6 * wkT home C d + C d) := n_ix
                  rw [i2, n_clamp (n := 6 * wkT home C d + C d) (by omega), xS_n hx3 (show (5 : Nat) ≠ 12 by decide) (by decide), hfar _ _ ht hCd]
                  refine ⟨n_in (by omega) (by decide), fun z => pX0_sells (by omega) (fun x8 e8 x9 e9 => ?_), fun z => ?_⟩
                  · rw [n_suc] at e9
                    subst e9
                    rw [slV_congr (sz' := g 1) (H' := HP g i wk) ((xS_RI hx3 hI).2.1.1 _ (by omega)) (h143 _ hCd)] at e8
                    subst e8
                    refine hK2 _ _ _ _ _ _ hlt ⟨rfl, rfl, rfl, rfl, rfl, hx3, h143, fun e he => ?_⟩
                    by_cases c : e = d
                    · subst c; exact z
                    · exact hok1 e (by omega)
                  · refine hend d f3 hx3 hd hok1 (fun _ => z) _ ?_
                    unfold wkR
                    rw [if_neg (by omega)]
              · rw [n_clamp (n := k) (by omega), q2 k (by omega)]
                by_cases hc : isN (g 38 (40 * y6 + k)) T
                · have hc' := hc
                  obtain ⟨c, hcT, ec⟩ := hc
                  rw [ec]
                  refine pX0_isTown_y hTX hT6 hcT (w1 (fun x7 e7 => ?_))
                  rw [n_suc] at e7
                  subst e7
                  refine hK _ _ _ _ _ _ hlt ⟨rfl, rfl, rfl, rfl, rfl, rfl, fun e he => ?_⟩
                  by_cases c : e = k
                  · subst c; exact hc'
                  · exact hok e (by omega)
                · refine pX0_isTown_n hTX hT6 hc (w0 ?_)
                  refine hm _ (fun e => absurd e hne) (fun _ e => absurd hsz e) (fun _ _ => m_good hT hT6 hw hw7 hs (Or.inr rfl) (fun _ => ?_) (fun _ e => absurd (e k hlt) hc))
                  unfold wbX7_walk_124
                  exact w0 ⟨rfl, hO⟩
            · rw [q0] at z
              have hne : ¬ g 36 s = -1 := by
                intro e
                rw [e] at z
                exact absurd z (by decide)
              have hsz : ¬ g 37 s = g 99 6 := by
                intro e
                exact y (by rw [q1, e, hwX, hw])
              refine hm _ (fun e => absurd e hne) (fun _ _ => m_good hT hT6 hw hw7 hs (Or.inl rfl) (fun _ => ?_) (fun e _ => absurd e (by decide))) (fun _ e => absurd e hsz)
              unfold wbX7_walk_124
              exact w0 ⟨rfl, hO⟩
            · rw [q0] at z
              have hne : g 36 s = -1 := i_eq.mpr (by
                rw [im1]
                have : ¬ (0 : Int32).toInt ≤ (g 36 s).toInt := fun y => z (i_le.mpr y)
                rw [i0] at this
                omega)
              exact hm _ (fun _ => ⟨rfl, hO⟩) (fun e => absurd hne e) (fun e => absurd hne e)
          · refine pX0_isSheet_n h5 (w0 ?_)
            unfold wX7_walk
            exact pX7_isGiving_y eG hG12 hi (w1' (pX7_isWeek_y hwk (w1' (pX7_isTown_y hT hT6 hhome (w1' (pX7_in_y f50 (by decide) (by omega) (w1' (pX7_in_n f3 (by decide) h5 (w0 ⟨rfl, hO⟩)))))))))
        · refine pX0_in_n e50 (by decide) h4 (w0' (w0' ?_))
          unfold wX7_walk
          exact pX7_isGiving_y eG hG12 hi (w1' (pX7_isWeek_y hwk (w1' (pX7_isTown_y hT hT6 hhome (w1' (pX7_in_n f50 (by decide) h4 (w0' ⟨rfl, hO⟩)))))))
      · refine pX0_isTown_n hTX hT6 hz (w0' (w0' ?_))
        unfold wX7_walk
        exact pX7_isGiving_y eG hG12 hi (w1' (pX7_isWeek_y hwk (w1' (pX7_isTown_n hT hT6 hz (w0' ⟨rfl, hO⟩)))))
    · refine pX0_isWeek_n hy (w0' (w0' ?_))
      unfold wX7_walk
      exact pX7_isGiving_y eG hG12 hi (w1' (pX7_isWeek_n hy (w0' ⟨rfl, hO⟩)))
  · refine pX0_isGiving_n hL hG12 hx (w0' (w0' ?_))
    unfold wX7_walk
    exact pX7_isGiving_n eG hG12 hx (w0' ⟨rfl, hO⟩)
end
