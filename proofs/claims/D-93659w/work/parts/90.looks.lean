/-! PLAIN LAYER: looks of both; days that are looked at are days of the week -/
set_option maxRecDepth 100000
theorem shl_tab : ∀ d, d < 7 → i_shl 1 (Int32.ofNat d) = Int32.ofNat (2 ^ d) := by decide +kernel
theorem or_tab : ∀ a, a < 128 → ∀ n, n < 128 → Int32.ofNat a ||| Int32.ofNat n = Int32.ofNat (a ||| n) := by decide +kernel
theorem clr_tab : ∀ a, a < 128 → ∀ d, d < 7 → Int32.ofNat a &&& (i_shl 1 (Int32.ofNat d) ^^^ (-1)) = Int32.ofNat (a &&& (127 - 2 ^ d)) := by decide +kernel
theorem hd0 {w : Nat} : hd w 0 := ⟨0, Nat.pow_pos (by decide), rfl⟩
theorem hd_shl {w d : Nat} (hw7 : w ≤ 7) (hd' : d < w) : hd w (i_shl 1 (Int32.ofNat d)) := ⟨2 ^ d, Nat.pow_lt_pow_right (by decide) hd', shl_tab d (by omega)⟩
theorem hd_or {w : Nat} {x y : Int32} (hw7 : w ≤ 7) (hx : hd w x) (hy : hd w y) : hd w (x ||| y) := by
  obtain ⟨a, ha, rfl⟩ := hx
  obtain ⟨c, hc, rfl⟩ := hy
  exact ⟨a ||| c, Nat.or_lt_two_pow ha hc, or_tab a (hd_lt hw7 ha) c (hd_lt hw7 hc)⟩
theorem hd_clr {w d : Nat} {x : Int32} (hw7 : w ≤ 7) (hx : hd w x) (hd7 : d < 7) : hd w (x &&& (i_shl 1 (Int32.ofNat d) ^^^ (-1))) := by
  obtain ⟨a, ha, rfl⟩ := hx
  exact ⟨a &&& (127 - 2 ^ d), Nat.lt_of_le_of_lt Nat.and_le_left ha, clr_tab a (hd_lt hw7 ha) d hd7⟩
theorem hd_rem {w n : Nat} (hw2 : 2 ≤ w) (hw7 : w ≤ 7) (hn : n < 2147483648) : hd w (i_shl 1 (i_rem (Int32.ofNat n) (Int32.ofNat w))) := by
  rw [n_rem hn (by omega)]
  exact hd_shl hw7 (Nat.mod_lt _ (by omega))
section
variable {b o : Nat} {cs ad : Nat → Nat} {vs : Nat → Option Nat} {S : XS} {g : St} {T w : Nat}
theorem hd_days {i a k n t wk : Nat} {D : Nat → Int32} (hg : gvAt o cs S.2.2.1 g i a k n D) (ht : t < 6) (hw : g 99 6 = Int32.ofNat w) (hw2 : 2 ≤ w) (hw7 : w ≤ 7) (hk : wk ≤ 99) : hd w (daysV g i t (Int32.ofNat wk)) := by
  obtain ⟨ha, hk6, hn, -, h17, h18, hD⟩ := hg
  rw [daysV_of hk6 hn h17 h18 hD ht hw hw2 hw7]
  by_cases hz : dB n D (g 99 6) t = 0
  · rw [if_pos hz]
    exact hd0
  · rw [if_neg hz]
    have hlt : ¬ n ≤ t := by
      intro q
      unfold dB at hz
      rw [if_pos q] at hz
      exact hz rfl
    obtain ⟨d1, d2, d3⟩ := hD t (by omega)
    have hWD : ¬ g 99 6 ≤ D t := by
      intro q
      unfold dB at hz
      rw [if_neg hlt, if_pos q] at hz
      exact hz rfl
    obtain ⟨d, hd7, ed⟩ := bN_of (m := 7) d2 d3 (by decide)
    have hdw : d < w := by
      rw [hw, ed] at hWD
      have : ¬ w ≤ d := fun q => hWD ((n_leI (by omega) (by omega)).mpr q)
      omega
    have eB : dB n D (g 99 6) t = i_shl 1 (Int32.ofNat d) := by
      unfold dB
      rw [if_neg hlt, if_neg hWD, ed]
    have hB : hd w (dB n D (g 99 6) t) := by rw [eB]; exact hd_shl hw7 hdw
    rw [hw, ed]
    rw [hw] at hB
    have e2 : Int32.ofNat w / 2 = Int32.ofNat (w / 2) := (Int32.ofNat_div (by omega) (by decide)).symm
    by_cases k2 : k = 2
    · rw [if_pos k2, e2, n_add]
      exact hd_or hw7 hB (hd_rem hw2 hw7 (by omega))
    · rw [if_neg k2]
      by_cases k3 : k = 3
      · rw [if_pos k3, n_add]
        exact hd_rem hw2 hw7 (by omega)
      · rw [if_neg k3]
        by_cases k4 : k = 4
        · rw [if_pos k4]
          by_cases hr : i_rem (Int32.ofNat wk) 2 = 0
          · rw [if_pos hr, n_add]
            exact hd_rem hw2 hw7 (by omega)
          · rw [if_neg hr]
            have e3 : Int32.ofNat wk + 2 = Int32.ofNat (wk + 2) := n_add (b := 2)
            rw [e3, n_add]
            exact hd_rem hw2 hw7 (by omega)
        · rw [if_neg k4]
          exact hB
theorem hd_mkN {x3 s : Int32} {F : Nat} (hw : g 99 6 = Int32.ofNat w) (hw2 : 2 ≤ w) (hw7 : w ≤ 7) (hF : rIn F (g 9) 0 6) (hs : hd w s) : ∀ k, k ≤ F → hd w (mkN g x3 s k)
  | 0, _ => hs
  | k + 1, hk => by
    have ih := hd_mkN (x3 := x3) hw hw2 hw7 hF hs k (by omega)
    show hd w (mkS g x3 k (mkN g x3 s k))
    unfold mkS
    obtain ⟨f1, f2⟩ := hF k (by omega)
    obtain ⟨d, hd6, ed⟩ := bN_of (m := 6) f1 f2 (by decide)
    rw [ed]
    by_cases h1 : g 8 k = x3
    · rw [if_pos h1]
      by_cases h2 : g 99 6 ≤ Int32.ofNat d
      · rw [if_pos h2]; exact ih
      · rw [if_neg h2]
        by_cases h3 : (i_shr (mkN g x3 s k) (Int32.ofNat d)) &&& 1 = 1
        · rw [if_pos h3, hw, n_suc]
          exact hd_or hw7 (hd_clr hw7 ih (by omega)) (hd_rem hw2 hw7 (by omega))
        · rw [if_neg h3]; exact ih
    · rw [if_neg h1]; exact ih
theorem hd_market {i a k n t wk : Nat} {D : Nat → Int32} (hg : gvAt o cs S.2.2.1 g i a k n D) (hM : MI g) (ht : t < 6) (hw : g 99 6 = Int32.ofNat w) (hw2 : 2 ≤ w) (hw7 : w ≤ 7) (hk : wk ≤ 99) : hd w (marketV g i t (Int32.ofNat wk)) := by
  have h1 := hd_days (w := w) hg ht hw hw2 hw7 hk
  unfold marketV
  by_cases h5 : g 17 i = 5
  · rw [if_pos h5]; exact h1
  · rw [if_neg h5]
    obtain ⟨-, -, ⟨-, hf⟩, -⟩ := hM
    exact hd_mkN hw hw2 hw7 hf h1 _ (Nat.le_refl _)
theorem far_eq {old : Nat → Int32} {a c : Nat} (hI : RI S.1 g) (hM : MI g) (hT : g 99 0 = Int32.ofNat T) (hT6 : T ≤ 6) (ha : a < T) (hc : c < T) : S.1 5 (6 * a + c) = farF T (g 5) old (6 * a + c) := by
  obtain ⟨-, -, -, aF, -⟩ := hI
  obtain ⟨-, ⟨-, -, -, -, hroad⟩, -⟩ := hM
  rw [hT, nn_of (by omega)] at aF
  have h1 := (aF a c ha hc).1
  have h2 := far_same (T := T) (road := g 5) (old := fun _ => 0) (old' := old) hT6 hroad.1
  have h3 := far_same (T := T) (road := g 5) (old := fun _ => 0) (old' := fun _ => 0) hT6 hroad.1
  rw [h1, ← (h3 a c ha hc).1, (h2 a c ha hc).1]
/-- what looks leaves of the reference -/
def lkM (g : St) (l : List Nat) (T : Nat) (g' : St) : Prop := (∀ r, r ≠ 39 → r ≠ 49 → r ≠ 50 → r ≠ 51 → g' r = g r) ∧ g' 39 = farF T (g 5) (g 39) ∧ ∀ x y, x < y → y < T → (g' 51 (6 * x + y) = 0 ↔ nA g l (g' 39) x y = 0) ∧ (g' 51 (6 * y + x) = 0 ↔ nA g l (g' 39) x y = 0)
theorem pX7_looks {Q : St → Prop} {l : List Nat} (hT : g 99 0 = Int32.ofNat T) (hT6 : T ≤ 6) (hl : partL g 0 l) (h : ∀ g', lkM g l T g' → Q g') : wX7_looks g Q := by
  unfold wX7_looks
  refine pX7_spreads hT hT6 ?_
  generalize hFF : farF T (g 5) (g 39) = FF
  have hI0 : (∀ r, r ≠ 39 → r ≠ 49 → r ≠ 50 → r ≠ 51 → updR g 39 FF r = g r) ∧ updR g 39 FF 39 = FF := ⟨fun r h1 _ _ _ => updR_n h1, updR_s⟩
  refine ijX7_looks_6_1 T 0 (by omega) (by omega) (fun a f => ((∀ r, r ≠ 39 → r ≠ 49 → r ≠ 50 → r ≠ 51 → f r = g r) ∧ f 39 = FF) ∧ ∀ x y, x < y → y < T → x < a → (f 51 (6 * x + y) = 0 ↔ nA g l FF x y = 0) ∧ (f 51 (6 * y + x) = 0 ↔ nA g l FF x y = 0)) ?_ _ ⟨hI0, fun x y _ _ q => absurd q (Nat.not_lt_zero _)⟩
  intro K a f _ ha hP hK
  obtain ⟨⟨hf, hf39⟩, hN⟩ := hP
  have e0 : f 99 0 = Int32.ofNat T := by rw [hf 99 (by decide) (by decide) (by decide) (by decide)]; exact hT
  unfold wbX7_looks_6
  rw [e0]
  refine w_upto (by omega) ha (fun q => ?_) (fun hlt => ?_)
  · subst q
    refine h f ⟨hf, hf39.trans hFF.symm, fun x y h1 h2 => ?_⟩
    rw [hf39]
    exact hN x y h1 h2 (by omega)
  · intro x2 e2
    rw [n_suc] at e2
    subst e2
    refine ijX7_looks_18_2 T (a + 1) (by omega) (by omega) (fun c x f => x = Int32.ofNat a ∧ ((∀ r, r ≠ 39 → r ≠ 49 → r ≠ 50 → r ≠ 51 → f r = g r) ∧ f 39 = FF) ∧ ∀ x y, x < y → y < T → (x < a ∨ (x = a ∧ y < c)) → (f 51 (6 * x + y) = 0 ↔ nA g l FF x y = 0) ∧ (f 51 (6 * y + x) = 0 ↔ nA g l FF x y = 0)) ?_ _ _ ⟨rfl, ⟨hf, hf39⟩, fun x y h1 h2 h3 => hN x y h1 h2 (by omega)⟩
    intro K2 c x f hc0 hc hP hK2
    obtain ⟨rfl, ⟨hf, hf39⟩, hN⟩ := hP
    have e0 : f 99 0 = Int32.ofNat T := by rw [hf 99 (by decide) (by decide) (by decide) (by decide)]; exact hT
    unfold wbX7_looks_18
    rw [e0]
    refine w_upto (by omega) hc (fun q => ?_) (fun hlt2 => ?_)
    · subst q
      intro x e
      rw [n_suc] at e
      subst e
      exact hK _ hlt ⟨⟨hf, hf39⟩, fun x y h1 h2 h3 => hN x y h1 h2 (by omega)⟩
    · have hl' : partL f 0 l := by
        unfold partL at hl ⊢
        rw [hf 99 (by decide) (by decide) (by decide) (by decide), hf 12 (by decide) (by decide) (by decide) (by decide), hf 13 (by decide) (by decide) (by decide) (by decide)]
        exact hl
      refine pX7_nearOf (by omega) (by omega) hl' (fun F G => ?_)
      have en : nearV f l (f 39) a c = nA g l FF a c := by
        unfold nA nearV
        rw [hf39, hf 1 (by decide) (by decide) (by decide) (by decide), hf 99 (by decide) (by decide) (by decide) (by decide)]
      rw [en]
      have i1 : (6 : Int32) * Int32.ofNat a + Int32.ofNat c = Int32.ofNat (6 * a + c) := n_ix
      have i2 : (6 : Int32) * Int32.ofNat c + Int32.ofNat a = Int32.ofNat (6 * c + a) := n_ix
      have hgo : ∀ v, vz v → (v = 0 ↔ nA g l FF a c = 0) → wbX7_looks_50 K2 (fun x1 f => ∀ x1_8 : Int32, x1_8 = x1 + 1 → K x1_8 f) Q (Int32.ofNat a) (Int32.ofNat c) v (6 * Int32.ofNat a + Int32.ofNat c) (updR (updR f 50 G) 49 F) := by
        intro v hvz hv
        unfold wbX7_looks_50
        rw [i1, i2, n_clamp (n := 6 * a + c) (by omega), n_clamp (n := 6 * c + a) (by omega)]
        refine ⟨n_in (by omega) (by decide), hvz, fun f5 e5 => ?_⟩
        have e51 : f5 51 (6 * a + c) = v := by
          rw [e5, upd2_at, if_pos rfl]
        rw [e51]
        refine ⟨n_in (by omega) (by decide), n_in (by omega) (by decide), hvz, fun f6 e6 x2 q2 => ?_⟩
        rw [n_suc] at q2
        subst q2
        have er : ∀ r, r ≠ 49 → r ≠ 50 → r ≠ 51 → f6 r = f r := by
          intro r h1 h2 h3
          rw [e6, upd2_o h3, e5, upd2_o h3, updR_n h1, updR_n h2]
        have e6' : ∀ j, f6 51 j = if j = 6 * c + a then v else if j = 6 * a + c then v else f 51 j := by
          intro j
          rw [e6, upd2_at, e5, upd2_at]
          rfl
        refine hK2 _ _ hlt2 ⟨rfl, ⟨fun r h1 h2 h3 h4 => (er r h2 h3 h4).trans (hf r h1 h2 h3 h4), (er 39 (by decide) (by decide) (by decide)).trans hf39⟩, fun x y h1 h2 h3 => ?_⟩
        by_cases hq : x = a ∧ y = c
        · obtain ⟨rfl, rfl⟩ := hq
          rw [e6', e6', if_pos rfl, if_neg (by omega), if_pos rfl]
          exact ⟨hv, hv⟩
        · have := hN x y h1 h2 (by omega)
          rw [e6', e6', if_neg (by omega), if_neg (by omega), if_neg (by omega), if_neg (by omega)]
          exact this
      exact ⟨fun z => hgo 0 vz0 ⟨fun _ => z, fun _ => rfl⟩, fun z => hgo 1 vz1 ⟨fun q => absurd q (by decide), fun q => absurd q z⟩⟩
theorem lkM_S {l : List Nat} {g' : St} (h : lkM g l T g') : mS g g' := fun r hr => h.1 r (by omega) (by omega) (by omega) (by omega)
/-- doBar behind looks, whatever now is -/
theorem doBar_A {l : List Nat} {g1 g2 : St} {a c : Nat} (h : lkM g l T g1) (h2 : ∀ r, r ≠ 52 → g2 r = g1 r) (hw : g 99 6 = Int32.ofNat w) (hw7 : w ≤ 7) (hac : a ≤ c) (hc : c < T) : barV g2 w a c = bA g l (g1 39) (g2 52) a c := by
  have ewn : nn (g 99 6) = w := by rw [hw]; exact nn_of (by omega)
  have hr : ∀ r, r ≠ 39 → r ≠ 49 → r ≠ 50 → r ≠ 51 → r ≠ 52 → g2 r = g r := fun r q1 q2 q3 q4 q5 => (h2 r q5).trans (h.1 r q1 q2 q3 q4)
  unfold bA
  rw [barV_A, ewn, hr 2 (by decide) (by decide) (by decide) (by decide) (by decide), hr 4 (by decide) (by decide) (by decide) (by decide) (by decide), hr 99 (by decide) (by decide) (by decide) (by decide) (by decide)]
  refine barA_congr rfl rfl rfl (fun hne => ?_) rfl rfl
  show g2 51 (6 * a + c) = 0 ↔ _
  rw [h2 51 (by decide)]
  exact (h.2.2 a c (by omega) hc).1
theorem doBar_A' {l : List Nat} {g1 g2 : St} {a c : Nat} (h : lkM g l T g1) (h2 : ∀ r, r ≠ 52 → g2 r = g1 r) (hw : g 99 6 = Int32.ofNat w) (hw7 : w ≤ 7) (hac : a ≤ c) (hc : c < T) : barV g2 w c a = bA g l (g1 39) (g2 52) a c := by
  rw [← doBar_A h h2 hw hw7 hac hc, barV_A, barV_A]
  by_cases q : a = c
  · subst q; rfl
  · refine barA_comm ?_
    show g2 51 (6 * c + a) = 0 ↔ g2 51 (6 * a + c) = 0
    have := h.2.2 a c (by omega) hc
    rw [h2 51 (by decide), this.1, this.2]
theorem pX0_looks {i a k n wk F : Nat} {D : Nat → Int32} {Q : XS → Prop} (hg : gvAt o cs S.2.2.1 g i a k n D) (hs : fsR S g) (hTX : S.1 99 6 = Int32.ofNat T) (hT6 : T ≤ 6) (hw : g 99 6 = Int32.ofNat w) (hw2 : 2 ≤ w) (hw7 : w ≤ 7) (hF : g 99 7 = Int32.ofNat F) (hF10 : F ≤ 10) (h : Q (updR S.1 14 (cp (fun t => marketV g i t (Int32.ofNat wk)) (S.1 14) T), S.2)) : wX0_looks b cs ad vs o S a (Int32.ofNat wk) Q := by
  unfold wX0_looks
  have e0 : S = (updR S.1 14 (cp (fun t => marketV g i t (Int32.ofNat wk)) (S.1 14) 0), S.2) := by
    rw [cp_0, updR_self]
  conv => rw [e0]
  refine icX0_looks_2_3 T 0 (by omega) (by omega) (fun _ => True) (fun _ => a) (fun _ => Int32.ofNat wk) (fun j => (updR S.1 14 (cp (fun t => marketV g i t (Int32.ofNat wk)) (S.1 14) j), S.2)) trivial ?_
  intro K j _ hj _ hK
  unfold wbX0_looks_2
  rw [show ((updR S.1 14 (cp (fun t => marketV g i t (Int32.ofNat wk)) (S.1 14) j), S.2) : XS).1 99 6 = Int32.ofNat T from hTX]
  refine w_upto (by omega) hj (fun q => ?_) (fun hlt => ?_)
  · subst q
    exact h
  · refine pX0_market (S := (updR S.1 14 (cp (fun t => marketV g i t (Int32.ofNat wk)) (S.1 14) j), S.2)) hg hs (by omega) hw hw2 hw7 hF hF10 ⟨n_in (by omega) (by decide), fun f3 e3 x e => ?_⟩
    rw [n_suc] at e
    subst e
    have e3' : f3 = (updR S.1 14 (cp (fun t => marketV g i t (Int32.ofNat wk)) (S.1 14) (j + 1)), S.2) := by
      rw [e3, n_clamp (by omega), updR_upd2']
      show (updR S.1 14 (upd (cp (fun t => marketV g i t (Int32.ofNat wk)) (S.1 14) j) j ((fun t => marketV g i t (Int32.ofNat wk)) j)), S.2) = _
      rw [cp_step]
    rw [e3']
    exact hK hlt trivial
end
