/-! PLAIN LAYER: bar, lawful -/
set_option maxRecDepth 100000
theorem marketV_congr {g g' : St} {i t : Nat} {x3 : Int32} (h8 : g' 8 = g 8) (h9 : g' 9 = g 9) (h17 : g' 17 = g 17) (h18 : g' 18 = g 18) (h19 : g' 19 = g 19) (h99 : g' 99 = g 99) : marketV g' i t x3 = marketV g i t x3 := by
  unfold marketV daysV dayT
  rw [mkN_congr (g := g) (g' := g') h8 h9 (congrFun h99 6), h17, h18, h19, h99]
theorem bA_congr {g : St} {l : List Nat} {far far' H H' : Nat → Int32} {T a c : Nat} (hf : ∀ a c, a < T → c < T → far (6 * a + c) = far' (6 * a + c)) (hH : ∀ t, t < T → H t = H' t) (hac : a ≤ c) (hc : c < T) : bA g l far H a c = bA g l far' H' a c := by
  unfold bA
  refine barA_congr rfl rfl rfl (fun _ => ?_) (hH a (by omega)) (hH c hc)
  unfold nA nearV
  rw [hf a c (by omega) hc]
/-- days by a giving in a week, of each town -/
def HP (g : St) (i wk : Nat) (t : Nat) : Int32 := marketV g i t (Int32.ofNat wk)
/-- the first that bars, as the days H lie -/
def FB (g : St) (l : List Nat) (far : Nat → Int32) (T : Nat) (H : Nat → Int32) : Int32 := fbV (fbA (bA g l far H) T 0 T)
theorem FB_congr {g : St} {l : List Nat} {far far' H H' : Nat → Int32} {T : Nat} (hf : ∀ a c, a < T → c < T → far (6 * a + c) = far' (6 * a + c)) (hH : ∀ t, t < T → H t = H' t) : FB g l far T H = FB g l far' T H' := by
  unfold FB
  rw [fbA_congr (T := T) (fun a c h1 h2 => bA_congr hf hH h1 h2) T 0 (by omega)]
section
variable {b o : Nat} {cs ad : Nat → Nat} {vs : Nat → Option Nat} {S : XS} {g : St} {T w : Nat}
theorem cxr_of (hI : RI S.1 g) (hM : MI g) (hR : RT o cs S g) : ∃ (r : Nat) (l : List Nat), cxR o cs S g r l ∧ partL g 0 l := by
  obtain ⟨r, l, hr6, er, htx, hpl⟩ := RT_at hR hM 0 (by decide)
  obtain ⟨⟨a1, a2, a3, a4, a5, a6⟩, ⟨r0, r1, r2, r3, r4⟩, -⟩ := hI
  have hok : okL l 0 1 := by
    obtain ⟨_, _, _, _, _, _, _, _, h7⟩ := hpl
    exact h7
  exact ⟨r, l, ⟨r0, r1, r3, a2, a4.trans er, hr6, htx, hok⟩, hpl⟩
/-- looks and firstBar, in the class -/
theorem x_fb {i a k n wk F r : Nat} {D : Nat → Int32} {l : List Nat} {far : Nat → Int32} {f : XS} {Q : Int32 → XS → Prop} (hI : RI S.1 g) (hM : MI g) (hc : cxR o cs S g r l) (hg : gvAt o cs S.2.2.1 g i a k n D) (hT : g 99 0 = Int32.ofNat T) (hT6 : T ≤ 6) (hw : g 99 6 = Int32.ofNat w) (hw2 : 2 ≤ w) (hw7 : w ≤ 7) (hF : g 99 7 = Int32.ofNat F) (hF10 : F ≤ 10) (hwk : wk ≤ 99) (hfar : ∀ a c, a < T → c < T → S.1 5 (6 * a + c) = far (6 * a + c)) (hx : xS S f) (h : ∀ f', xS S f' → Q (FB g l far T (HP g i wk)) f') : wX0_looks b cs ad vs o f a (Int32.ofNat wk) (fun f2 => wX0_firstBar b cs ad vs o f2 Q) := by
  have hIf := xS_RI hx hI
  have hgf : gvAt o cs f.2.2.1 g i a k n D := by rw [xS_2 hx]; exact hg
  refine pX0_looks hgf (RI_fs hIf) (hIf.1.1.trans hT) hT6 hw hw2 hw7 hF hF10 ?_
  generalize hH1 : cp (fun t => marketV g i t (Int32.ofNat wk)) (f.1 14) T = H1
  have hH : ∀ t, t < T → H1 t = HP g i wk t := by
    intro t ht
    rw [← hH1]
    unfold cp
    rw [if_pos ht]
    rfl
  have hx1 : xS S (updR f.1 14 H1, f.2) := xS_of (fun q h1 h2 => by
    show updR f.1 14 H1 q = _
    rw [updR_n h2]
    exact xS_n hx h1 h2) (show f.2 = S.2 from xS_2 hx)
  refine pX0_firstBar (T := T) (B := bA g l far H1) (I := fun f' => xS S f' ∧ f'.1 14 = H1) ⟨hx1, show updR f.1 14 H1 14 = H1 from updR_s⟩ (fun f' hf' => (xS_RI hf'.1 hI).1.1.trans hT) hT6 ?_ ?_
  · intro f' a' c' Q' hf' hac hcT hQ
    obtain ⟨hx', h14⟩ := hf'
    have hd' : ∀ t, t < T → hd w (f'.1 14 t) := by
      intro t ht
      rw [h14, hH t ht]
      exact hd_market hg hM (by omega) hw hw2 hw7 hwk
    refine pX0_bars (far := far) (cxR_S hx' hc) hw hw2 hw7 hac (by omega) ?_ (hd' _ (by omega)) (hd' _ hcT) (fun f2 hx2 h142 => ?_)
    · rw [xS_n hx' (show (5 : Nat) ≠ 12 by decide) (by decide)]
      exact hfar a' c' (by omega) hcT
    · rw [h14]
      exact hQ f2 ⟨hx'.tr hx2, h142.trans h14⟩
  · intro f' hf'
    have e : fbV (fbA (bA g l far H1) T 0 T) = FB g l far T (HP g i wk) := FB_congr (fun _ _ _ _ => rfl) hH
    rw [e]
    exact h f' hf'.1
/-- laysNow and firstBar, in the reference behind looks -/
theorem m_fb {i wk F : Nat} {l : List Nat} {g1 f : St} {Q : Int32 → St → Prop} (hlk : lkM g l T g1) (hT : g 99 0 = Int32.ofNat T) (hT6 : T ≤ 6) (hw : g 99 6 = Int32.ofNat w) (hw2 : 2 ≤ w) (hw7 : w ≤ 7) (hF : g 99 7 = Int32.ofNat F) (hF10 : F ≤ 10) (hi : i < 12) (hf : ∀ r, r ≠ 52 → f r = g1 r) (h : ∀ f', (∀ r, r ≠ 52 → f' r = g1 r) → Q (FB g l (g1 39) T (HP g i wk)) f') : wX7_laysNow f (Int32.ofNat i) (Int32.ofNat wk) (fun f2 => wX7_firstBar f2 Q) := by
  have hr : ∀ r, r ≠ 39 → r ≠ 49 → r ≠ 50 → r ≠ 51 → r ≠ 52 → f r = g r := fun r q1 q2 q3 q4 q5 => (hf r q5).trans (hlk.1 r q1 q2 q3 q4)
  have e99 : f 99 = g 99 := hr 99 (by decide) (by decide) (by decide) (by decide) (by decide)
  have hw0 : ¬ f 99 6 = 0 := by
    rw [e99, hw]
    intro q
    have := (n_eqI (a := w) (b := 0) (by omega) (by decide)).mp q
    omega
  refine pX7_laysNow (T := T) (F := F) (by rw [e99]; exact hT) hT6 hi hw0 (by rw [e99]; exact hF) hF10 ?_
  generalize hH1 : nowV f i (Int32.ofNat wk) T = H1
  have hH : ∀ t, t < T → H1 t = HP g i wk t := by
    intro t ht
    rw [← hH1]
    unfold nowV cp
    rw [if_pos ht]
    exact marketV_congr (hr 8 (by decide) (by decide) (by decide) (by decide) (by decide)) (hr 9 (by decide) (by decide) (by decide) (by decide) (by decide)) (hr 17 (by decide) (by decide) (by decide) (by decide) (by decide)) (hr 18 (by decide) (by decide) (by decide) (by decide) (by decide)) (hr 19 (by decide) (by decide) (by decide) (by decide) (by decide)) e99
  have h2 : ∀ r, r ≠ 52 → updR f 52 H1 r = g1 r := fun r hr => (updR_n hr).trans (hf r hr)
  refine pX7_firstBar (T := T) (B := barV (updR f 52 H1) w) (by rw [h2 99 (by decide), hlk.1 99 (by decide) (by decide) (by decide) (by decide)]; exact hT) hT6 (fun a c Q' hac hc hQ => pX7_doBar (by omega) (by omega) (by rw [h2 99 (by decide), hlk.1 99 (by decide) (by decide) (by decide) (by decide)]; exact hw) hw7 hw2 hQ) ?_
  have e : fbV (fbA (barV (updR f 52 H1) w) T 0 T) = FB g l (g1 39) T (HP g i wk) := by
    unfold FB
    rw [fbA_congr (T := T) (B' := bA g l (g1 39) (HP g i wk)) (fun a c h1 h3 => ?_) T 0 (by omega)]
    rw [doBar_A hlk h2 hw hw7 h1 h3]
    exact bA_congr (fun _ _ _ _ => rfl) (fun t ht => by rw [updR_s]; exact hH t ht) h1 h3
  rw [e]
  exact h _ h2
theorem op_bar (hI : RI S.1 g) (hM : MI g) (hR : RT o cs S g) (hG : GL o cs ad S g) (x y : Int32) : wX0_bar b cs ad vs o S x y (fun r S' => wX7_bar g x y (fun r' g' => r = r' ∧ OK1 S g S' g')) := by
  have hO := OK1.rf hI hM
  have hM0 := hM
  obtain ⟨r, l, hcx, hpl⟩ := cxr_of hI hM hR
  obtain ⟨G, hG12, eG, hL⟩ := hG
  obtain ⟨⟨⟨T, hT6, hT⟩, ⟨w, hw2, hw7, hw⟩, ⟨F, hF10, hF⟩, -⟩, -⟩ := hM
  unfold wX0_bar
  by_cases hx : isN x G
  · obtain ⟨i, hi, rfl⟩ := hx
    refine pX0_isGiving_y hL hG12 hi (w1' ?_)
    by_cases hy : isN y 100
    · obtain ⟨wk, hwk, rfl⟩ := hy
      refine pX0_isWeek_y hwk (w1 (pX_get hL hG12 hi (fun a k n D hg => ?_)))
      refine x_fb (far := farF T (g 5) (g 39)) hI hM0 hcx hg hT hT6 hw hw2 hw7 hF hF10 (by omega) (fun a c h1 h2 => far_eq hI hM0 hT hT6 h1 h2) xS.rf (fun S' hxS => ?_)
      unfold wX7_bar
      refine pX7_isGiving_y eG hG12 hi (w1' (pX7_isWeek_y hwk (w1 (pX7_looks hT hT6 hpl (fun g1 hlk => ?_)))))
      refine m_fb hlk hT hT6 hw hw2 hw7 hF hF10 (by omega) (fun _ _ => rfl) (fun g2 h2 => ⟨?_, OK1_S hI hM0 hxS ((lkM_S hlk).tr (fun q hq => h2 q (by omega)))⟩)
      rw [hlk.2.1]
    · refine pX0_isWeek_n hy (w0 ?_)
      unfold wX7_bar
      exact pX7_isGiving_y eG hG12 hi (w1' (pX7_isWeek_n hy (w0 ⟨rfl, hO⟩)))
  · refine pX0_isGiving_n hL hG12 hx (w0' ?_)
    unfold wX7_bar
    exact pX7_isGiving_n eG hG12 hx (w0' ⟨rfl, hO⟩)
def lawC (f : Nat → Int32) : Nat → Int32
  | 0 => 0
  | k + 1 => lawC f k + (if f k = -1 then 1 else 0)
theorem op_lawful (hI : RI S.1 g) (hM : MI g) (hR : RT o cs S g) (hG : GL o cs ad S g) (x y : Int32) : wX0_lawful b cs ad vs o S x y (fun r S' => wX7_lawful g x y (fun r' g' => r = r' ∧ OK1 S g S' g')) := by
  have hO := OK1.rf hI hM
  have hM0 := hM
  obtain ⟨r, l, hcx, hpl⟩ := cxr_of hI hM hR
  obtain ⟨G, hG12, eG, hL⟩ := hG
  obtain ⟨⟨⟨T, hT6, hT⟩, ⟨w, hw2, hw7, hw⟩, ⟨F, hF10, hF⟩, -⟩, -⟩ := hM
  unfold wX0_lawful
  by_cases hx : isN x G
  · obtain ⟨i, hi, rfl⟩ := hx
    refine pX0_isGiving_y hL hG12 hi (w1' ?_)
    by_cases hy : isN y 100
    · obtain ⟨wk, hwk, rfl⟩ := hy
      refine pX0_isWeek_y hwk (w1 ?_)
      generalize hFF : farF T (g 5) (g 39) = FF
      have hfar : ∀ a c, a < T → c < T → S.1 5 (6 * a + c) = FF (6 * a + c) := fun a c h1 h2 => by rw [← hFF]; exact far_eq hI hM0 hT hT6 h1 h2
      generalize hfb : (fun k => FB g l FF T (HP g i k)) = fb
      have hfb' : ∀ k, FB g l FF T (HP g i k) = fb k := fun k => by rw [← hfb]
      refine ijX0_lawful_24_4 (wk + 1) 0 (by omega) (by omega) (fun k x1 x2 x3 f => x1 = Int32.ofNat i ∧ x2 = Int32.ofNat wk ∧ x3 = lawC fb k ∧ xS S f) ?_ _ _ _ _ ⟨rfl, rfl, rfl, xS.rf⟩
      intro K k x1 x2 x3 f _ hk hP hK
      obtain ⟨rfl, rfl, rfl, hxf⟩ := hP
      unfold wbX0_lawful_24
      have hlt := n_ltI (a := wk) (b := k) (by omega) (by omega)
      refine ⟨fun q => ?_, fun q => ?_⟩
      · have hk1 : k = wk + 1 := by
          have := hlt.mp q
          omega
        subst hk1
        unfold wX7_lawful
        refine pX7_isGiving_y eG hG12 hi (w1' (pX7_isWeek_y hwk (w1 (pX7_looks hT hT6 hpl (fun g1 hlk => ?_)))))
        have hF39 : g1 39 = FF := hlk.2.1.trans hFF
        refine ijX7_lawful_27_4 (wk + 1) 0 (by omega) (by omega) (fun k x1 x2 x3 f => x1 = Int32.ofNat i ∧ x2 = Int32.ofNat wk ∧ x3 = lawC fb k ∧ ∀ r, r ≠ 52 → f r = g1 r) ?_ _ _ _ _ ⟨rfl, rfl, rfl, fun _ _ => rfl⟩
        intro K2 k2 x1 x2 x3 f2 _ hk2 hP hK2
        obtain ⟨rfl, rfl, rfl, hf2⟩ := hP
        unfold wbX7_lawful_27
        have hlt2 := n_ltI (a := wk) (b := k2) (by omega) (by omega)
        refine ⟨fun q => ?_, fun q => ?_⟩
        · have hk1 : k2 = wk + 1 := by
            have := hlt2.mp q
            omega
          subst hk1
          exact ⟨rfl, OK1_S hI hM0 hxf ((lkM_S hlk).tr (fun q hq => hf2 q (by omega)))⟩
        · have hk1 : k2 < wk + 1 := by
            have : ¬ wk < k2 := fun z => q (hlt2.mpr z)
            omega
          refine m_fb hlk hT hT6 hw hw2 hw7 hF hF10 (by omega) hf2 (fun f3 hf3 => ?_)
          rw [hF39, hfb' k2]
          refine ⟨fun z => ?_, fun z => ?_⟩
          · intro x3 e3 x4 e4
            rw [n_suc] at e4
            subst e4
            refine hK2 _ _ _ _ hk1 ⟨rfl, rfl, ?_, hf3⟩
            rw [e3]
            show _ = lawC fb k2 + (if fb k2 = -1 then 1 else 0)
            rw [if_neg z]
          · intro x3 e3 x4 e4
            rw [n_suc] at e4
            subst e4
            refine hK2 _ _ _ _ hk1 ⟨rfl, rfl, ?_, hf3⟩
            rw [e3]
            show _ = lawC fb k2 + (if fb k2 = -1 then 1 else 0)
            rw [if_pos z]
      · have hk1 : k < wk + 1 := by
          have : ¬ wk < k := fun z => q (hlt.mpr z)
          omega
        have hLf : GLn o cs ad f.2.2.1 g G := by rw [xS_2 hxf]; exact hL
        refine pX_get hLf hG12 hi (fun a k3 n D hg => ?_)
        have hg' : gvAt o cs S.2.2.1 g i a k3 n D := by rw [← xS_2 hxf]; exact hg
        refine x_fb (far := FF) hI hM0 hcx hg' hT hT6 hw hw2 hw7 hF hF10 (by omega) hfar hxf (fun S' hxS => ?_)
        rw [hfb' k]
        refine ⟨fun z => ?_, fun z => ?_⟩
        · intro x4 e4
          rw [n_suc] at e4
          subst e4
          refine hK _ _ _ _ hk1 ⟨rfl, rfl, ?_, hxS⟩
          show _ = lawC fb k + (if fb k = -1 then 1 else 0)
          rw [if_neg z, Int32.add_zero]
        · intro x3 e3 x4 e4
          rw [n_suc] at e4
          subst e4
          refine hK _ _ _ _ hk1 ⟨rfl, rfl, ?_, hxS⟩
          rw [e3]
          show _ = lawC fb k + (if fb k = -1 then 1 else 0)
          rw [if_pos z]
    · refine pX0_isWeek_n hy (w0 ?_)
      unfold wX7_lawful
      exact pX7_isGiving_y eG hG12 hi (w1' (pX7_isWeek_n hy (w0 ⟨rfl, hO⟩)))
  · refine pX0_isGiving_n hL hG12 hx (w0' ?_)
    unfold wX7_lawful
    exact pX7_isGiving_n eG hG12 hx (w0' ⟨rfl, hO⟩)
end
