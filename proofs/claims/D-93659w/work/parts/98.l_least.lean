/-! PLAIN LAYER: least, knot -/
set_option maxRecDepth 100000
theorem flB_congr {B B' : Nat → Int32} : ∀ n, (∀ a, a < n → B a = B' a) → flB B n = flB B' n
  | 0, _ => rfl
  | n + 1, h => by
    show (flB B n && decide (B n = 0)) = (flB B' n && decide (B' n = 0))
    rw [flB_congr n (fun a ha => h a (by omega)), h n (by omega)]
theorem frP_congr {g : St} {l : List Nat} {far far' : Nat → Int32} {T : Nat} {s : Nat → Bool} (hf : ∀ a c, a < T → c < T → far (6 * a + c) = far' (6 * a + c)) (P : List Nat) (hP : P.length ≤ T) : frP (bA g l far) s P = frP (bA g l far') s P := by
  unfold frP
  refine flB_congr _ (fun a ha => ?_)
  show (if s a = true then _ else _) = (if s a = true then _ else _)
  rw [bA_congr (T := T) (far' := far') (H' := hO s P) hf (fun _ _ => rfl) (by omega : a ≤ P.length - 1) (by omega)]
theorem wdF_congr {f f' : Nat → List (List Nat)} : ∀ m k, (∀ d, f d = f' d) → wdF f k m = wdF f' k m
  | 0, _, _ => rfl
  | m + 1, k, h => by
    show f k ++ wdF f (k + 1) m = f' k ++ wdF f' (k + 1) m
    rw [h k, wdF_congr m (k + 1) h]
theorem wy_congr {fr fr' : List Nat → Bool} {s : Nat → Bool} {w T : Nat} (h : ∀ P, P.length ≤ T → fr P = fr' P) : ∀ n P, P.length + n = T → wy fr s w n P = wy fr' s w n P
  | 0, _, _ => rfl
  | n + 1, P, hl => by
    rw [wy_s, wy_s]
    by_cases c : s P.length = true
    · rw [if_pos c, if_pos c]
      refine wdF_congr w 0 (fun d => ?_)
      show (if _ then _ else _) = (if _ then _ else _)
      rw [h (d :: P) (by rw [List.length_cons]; omega), wy_congr h n (d :: P) (by rw [List.length_cons]; omega)]
    · rw [if_neg c, if_neg c, wy_congr h n (0 :: P) (by rw [List.length_cons]; omega)]
theorem wA_congr {g : St} {l : List Nat} {far far' : Nat → Int32} {T w : Nat} {set : Int32} (hf : ∀ a c, a < T → c < T → far (6 * a + c) = far' (6 * a + c)) : wA (bA g l far) T w set = wA (bA g l far') T w set := by
  unfold wA
  exact wy_congr (T := T) (fun P hP => frP_congr hf P hP) T [] (by simp)
theorem bA_rows {g g' : St} {l : List Nat} {far : Nat → Int32} (h1 : g' 1 = g 1) (h2 : g' 2 = g 2) (h4 : g' 4 = g 4) (h6 : g' 99 6 = g 99 6) : bA g' l far = bA g l far := by
  funext H a c
  unfold bA
  have en : nA g' l far = nA g l far := by
    funext a c
    unfold nA nearV
    rw [h1, h6]
  rw [h2, h4, h6, en]
section
variable {b o : Nat} {cs ad : Nat → Nat} {vs : Nat → Option Nat} {S : XS} {g : St} {T w : Nat}
/-- whether there is a way, in the class: a search for the first one -/
theorem x_first {r : Nat} {l : List Nat} {far : Nat → Int32} {set : Int32} {Q : XS → Prop} (hI : RI S.1 g) (hc : cxR o cs S g r l) (hT : g 99 0 = Int32.ofNat T) (hT6 : T ≤ 6) (hw : g 99 6 = Int32.ofNat w) (hw2 : 2 ≤ w) (hw7 : w ≤ 7) (hfar : ∀ a c, a < T → c < T → S.1 5 (6 * a + c) = far (6 * a + c)) (h : ∀ f', xT S f' → (wA (bA g l far) T w set = [] → f'.1 99 17 = 0) → (¬ wA (bA g l far) T w set = [] → f'.1 99 17 = 1) → Q f') : wX0_search b cs ad vs o S set 1 Q := by
  have hTX : S.1 99 6 = Int32.ofNat T := hI.1.1.trans hT
  refine x_search (aim := 1) (vl := fun _ => 1) (sxC_of hc hTX hw hfar) (mt_1 hT6 rfl) hT6 hw2 hw7 hI.2.2.2.2.2.2.2.2.2.2.1 (fun f' hb => h f' (xT_sx hb) (fun he => ?_) (fun hne => ?_))
  · have hk := hb.2.2.2.2.2.2.2
    rw [fdA_1, he] at hk
    rcases hk with ⟨-, h17⟩ | ⟨v, P, hk, -⟩
    · exact h17
    · exact absurd hk (by simp)
  · have hk := hb.2.2.2.2.2.2.2
    rw [fdA_1] at hk
    cases hL : wA (bA g l far) T w set with
    | nil => exact absurd hL hne
    | cons P L =>
      rw [hL] at hk
      rcases hk with ⟨hk, -⟩ | ⟨v, P, -, h17, -⟩
      · exact absurd hk (by simp)
      · exact h17
theorem m_any {l : List Nat} {g1 f : St} {set : Int32} {Q : Int32 → St → Prop} (hlk : lkM g l T g1) (hT : g 99 0 = Int32.ofNat T) (hT6 : T ≤ 6) (hw : g 99 6 = Int32.ofNat w) (hw2 : 2 ≤ w) (hw7 : w ≤ 7) (hf : ∀ q, q ≠ 52 → f q = g1 q) (h : ∀ f', (∀ q, q ≠ 52 → f' q = g1 q) → ∀ v, (wA (bA g l (g1 39)) T w set = [] → v = 0) → (¬ wA (bA g l (g1 39)) T w set = [] → v = 1) → Q v f') : wX7_nextWay f set 1 Q := by
  refine m_first bA_ok (mOk_of hlk hT hT6 hw hw2 hw7) hT6 hw7 (by omega) hf (fun h0 f2 hf2 => h f2 hf2 0 (fun _ => rfl) (fun q => absurd h0 q)) (fun P1 h1 hP1 hPw1 f2 hf2 h522 => h f2 hf2 1 (fun q => ?_) (fun _ => rfl))
  rw [q] at h1
  exact absurd h1 (by simp)
def ltV (E : Nat → Prop) : Nat → Int32 → Int32 → Prop := fun k a c => (¬ a = -1 ∧ c = a) ∨ (a = -1 ∧ ¬ E k ∧ c = -1) ∨ (a = -1 ∧ E k ∧ c = Int32.ofNat k)
/-- what least has told ahead of week k -/
def ltI (E : Nat → Prop) (k : Nat) (x : Int32) : Prop := (x = -1 ∧ ∀ j, 2 ≤ j → j < k → ¬ E j) ∨ ∃ j, 2 ≤ j ∧ j < k ∧ E j ∧ x = Int32.ofNat j ∧ ∀ i, 2 ≤ i → i < j → ¬ E i
theorem ltI_eq {E : Nat → Prop} {k k' : Nat} {x y : Int32} (hk : k ≤ 8) (hk' : k' ≤ 8) (h : ltI E k x) (h' : ltI E k' y) (hx : k = 8 ∨ ¬ x = -1) (hy : k' = 8 ∨ ¬ y = -1) : x = y := by
  rcases h with ⟨rfl, h⟩ | ⟨j, j1, j2, j3, rfl, j4⟩
  · have hk8 : k = 8 := hx.resolve_right (fun q => q rfl)
    rcases h' with ⟨rfl, h'⟩ | ⟨i, i1, i2, i3, rfl, i4⟩
    · rfl
    · exact absurd i3 (h i i1 (by omega))
  · rcases h' with ⟨rfl, h'⟩ | ⟨i, i1, i2, i3, rfl, i4⟩
    · have hk8 : k' = 8 := hy.resolve_right (fun q => q rfl)
      exact absurd j3 (h' j j1 (by omega))
    · have : i = j := by
        rcases Nat.lt_trichotomy i j with q | q | q
        · exact absurd i3 (j4 i i1 q)
        · exact q
        · exact absurd j3 (i4 j j1 q)
      rw [this]
theorem op_least (hI : RI S.1 g) (hM : MI g) (hR : RT o cs S g) : wX0_least b cs ad vs o S (fun r S' => wX7_least g (fun r' g' => r = r' ∧ OK2 S g S' g')) := by
  have hM0 := hM
  have hI0 := hI
  obtain ⟨r, l, hcx, hpl⟩ := cxr_of hI hM hR
  obtain ⟨⟨⟨T, hT6, hT⟩, ⟨w, hw2, hw7, hw⟩, -⟩, -⟩ := hM
  have hTX : S.1 99 6 = Int32.ofNat T := hI.1.1.trans hT
  have hwX : S.1 99 7 = Int32.ofNat w := hI.1.2.1.trans hw
  have hfar : ∀ a c, a < T → c < T → S.1 5 (6 * a + c) = farF T (g 5) (g 39) (6 * a + c) := fun a c h1 h2 => far_eq hI hM0 hT hT6 h1 h2
  generalize hE : (fun k => ¬ wA (bA (upd2 g 99 6 (Int32.ofNat k)) l (fun q => farF T (g 5) (fun _ => 0) q)) T k (i_shl 1 (Int32.ofNat T) - 1) = []) = E
  -- far of towns doesn't look at what lay there
  have hfar0 : ∀ old a c, a < T → c < T → farF T (g 5) old (6 * a + c) = farF T (g 5) (fun _ => 0) (6 * a + c) := by
    intro old a c ha hc
    have hroad := hM0.2.1.2.2.2.2.1
    have h2 := far_same (T := T) (road := g 5) (old := fun _ => 0) (old' := old) hT6 hroad
    have h3 := far_same (T := T) (road := g 5) (old := fun _ => 0) (old' := fun _ => 0) hT6 hroad
    rw [← (h2 a c ha hc).1, (h3 a c ha hc).1]
  unfold wX0_least
  intro x1 e1
  rw [hwX] at e1
  subst e1
  -- the state in week k
  have hend : ∀ (f : XS) (y : Int32) (k : Nat), 2 ≤ k → k ≤ 8 → ltI E k y → (k = 8 ∨ ¬ y = -1) → xT S (upd2 f.1 99 7 (Int32.ofNat w), f.2) → wbX0_least_50 b cs ad vs o (fun r S' => wX7_least g (fun r' g' => r = r' ∧ OK2 S g S' g')) (Int32.ofNat w) y f := by
    intro f y k hk2 hk8 hl hy hx f7 e7
    subst e7
    unfold wX7_least
    intro x1 e1
    rw [hw] at e1
    subst e1
    refine ijX7_least_9_3 8 2 (by decide) (by decide) (fun k x1 x2 f2 => x1 = Int32.ofNat w ∧ ltI E k x2 ∧ ∀ q, q ≠ 39 → q ≠ 49 → q ≠ 50 → q ≠ 51 → q ≠ 52 → (upd2 f2 99 6 (Int32.ofNat w)) q = g q) ?_ _ _ _ ⟨rfl, Or.inl ⟨rfl, fun j h1 h2 => by omega⟩, fun q _ _ _ _ _ => ?_⟩
    · intro K k2 x1 x2 f2 hk0 hk2' hP hK
      obtain ⟨rfl, hl2, hf2⟩ := hP
      have hmS : mS g (upd2 f2 99 6 (Int32.ofNat w)) := fun q hq => hf2 q (by omega) (by omega) (by omega) (by omega) (by omega)
      have hOK : OK2 S g (upd2 f.1 99 7 (Int32.ofNat w), f.2) (upd2 f2 99 6 (Int32.ofNat w)) := ⟨mS_RI hmS (xT_RI hx hI0), mS_MI hmS hM0, hx.2.2.2.1, mS_G hmS⟩
      unfold wbX7_least_9
      have hlt : ((7 : Int32) < Int32.ofNat k2) ↔ 7 < k2 := n_ltI (a := 7) (by decide) (by omega)
      refine ⟨fun q f3 e3 => ?_, fun q => ⟨fun z f3 e3 => ?_, fun z f4 e4 => ?_⟩⟩
      · subst e3
        have := hlt.mp q
        exact ⟨ltI_eq hk8 hk2' hl hl2 hy (Or.inl (by omega)), hOK⟩
      · subst e3
        exact ⟨ltI_eq hk8 hk2' hl hl2 hy (Or.inr z), hOK⟩
      · have hk7 : k2 ≤ 7 := by
          have : ¬ 7 < k2 := fun y => q (hlt.mpr y)
          omega
        have h4r : ∀ q, q ≠ 39 → q ≠ 49 → q ≠ 50 → q ≠ 51 → q ≠ 52 → f4 q = (upd2 g 99 6 (Int32.ofNat k2)) q := by
          intro q a1 a2 a3 a4 a5
          rw [e4]
          have h5 := hf2 q a1 a2 a3 a4 a5
          by_cases c : q = 99
          · subst c
            have h6 := congrFun h5
            funext j
            rw [upd2_at, upd2_at]
            by_cases c2 : j = 6
            · rw [if_pos c2, if_pos c2]
            · rw [if_neg c2, if_neg c2]
              have := h6 j
              rw [upd2_at, if_neg c2] at this
              exact this
          · rw [upd2_o c, upd2_o c]
            rw [upd2_o c] at h5
            exact h5
        have hT4 : f4 99 0 = Int32.ofNat T := by rw [h4r 99 (by decide) (by decide) (by decide) (by decide) (by decide)]; exact hT
        have hw4 : f4 99 6 = Int32.ofNat k2 := by rw [h4r 99 (by decide) (by decide) (by decide) (by decide) (by decide)]; rfl
        have hpl4 : partL f4 0 l := by
          unfold partL at hpl ⊢
          rw [h4r 99 (by decide) (by decide) (by decide) (by decide) (by decide), h4r 12 (by decide) (by decide) (by decide) (by decide) (by decide), h4r 13 (by decide) (by decide) (by decide) (by decide) (by decide)]
          exact hpl
        refine pX7_looks hT4 hT6 hpl4 (fun g1 hlk => ?_)
        unfold wX7_all
        have e0 : g1 99 0 = Int32.ofNat T := by rw [hlk.1 99 (by decide) (by decide) (by decide) (by decide)]; exact hT4
        rw [e0]
        refine m_any hlk hT4 hT6 hw4 hk0 hk7 (fun _ _ => rfl) (fun f5 hf5 v hv0 hv1 => ?_)
        have eW : wA (bA f4 l (g1 39)) T k2 (i_shl 1 (Int32.ofNat T) - 1) = [] ↔ ¬ E k2 := by
          rw [← hE]
          have e5 : f4 5 = g 5 := by rw [h4r 5 (by decide) (by decide) (by decide) (by decide) (by decide)]; rfl
          have eb : wA (bA f4 l (g1 39)) T k2 (i_shl 1 (Int32.ofNat T) - 1) = wA (bA (upd2 g 99 6 (Int32.ofNat k2)) l (fun q => farF T (g 5) (fun _ => 0) q)) T k2 (i_shl 1 (Int32.ofNat T) - 1) := by
            rw [bA_rows (g := upd2 g 99 6 (Int32.ofNat k2)) (g' := f4) (h4r 1 (by decide) (by decide) (by decide) (by decide) (by decide)) (h4r 2 (by decide) (by decide) (by decide) (by decide) (by decide)) (h4r 4 (by decide) (by decide) (by decide) (by decide) (by decide)) (congrFun (h4r 99 (by decide) (by decide) (by decide) (by decide) (by decide)) 6)]
            refine wA_congr (fun a c ha hc => ?_)
            rw [hlk.2.1, e5]
            exact hfar0 _ a c ha hc
          rw [eb]
          exact ⟨fun q z => z q, fun q => Classical.not_not.mp q⟩
        have hfK : ∀ q, q ≠ 39 → q ≠ 49 → q ≠ 50 → q ≠ 51 → q ≠ 52 → (upd2 f5 99 6 (Int32.ofNat w)) q = g q := by
          intro q a1 a2 a3 a4 a5
          have h5 : f5 q = (upd2 g 99 6 (Int32.ofNat k2)) q := by rw [hf5 q a5, hlk.1 q a1 a2 a3 a4]; exact h4r q a1 a2 a3 a4 a5
          by_cases c : q = 99
          · subst c
            funext j
            rw [upd2_at]
            by_cases c2 : j = 6
            · rw [if_pos c2, c2, hw]
            · rw [if_neg c2, h5, upd2_at, if_neg c2]
          · rw [upd2_o c, h5, upd2_o c]
        have hl1 : ∀ j, 2 ≤ j → j < k2 → ¬ E j := by
          rcases hl2 with ⟨-, h⟩ | ⟨j, j1, j2, j3, j4, j5⟩
          · exact h
          · rw [z] at j4
            exact absurd j4.symm (ne_m1 (by omega))
        refine ⟨fun y x3 e3 => ?_, fun y x3 e3 => ?_⟩
        · rw [n_suc] at e3
          subst e3
          refine hK _ _ _ (by omega) ⟨rfl, Or.inl ⟨rfl, fun j h1 h2 => ?_⟩, hfK⟩
          by_cases c : j = k2
          · subst c
            refine eW.mp ?_
            by_cases c2 : wA (bA f4 l (g1 39)) T j (i_shl 1 (Int32.ofNat T) - 1) = []
            · exact c2
            · rw [hv1 c2] at y
              exact absurd y (by decide)
          · exact hl1 j h1 (by omega)
        · rw [n_suc] at e3
          subst e3
          refine hK _ _ _ (by omega) ⟨rfl, Or.inr ⟨k2, hk0, by omega, ?_, rfl, hl1⟩, hfK⟩
          by_cases c2 : E k2
          · exact c2
          · exact absurd (hv0 (eW.mpr c2)) y
    · by_cases c : q = 99
      · subst c
        funext j
        rw [upd2_at]
        by_cases c2 : j = 6
        · rw [if_pos c2, c2, hw]
        · rw [if_neg c2]
      · rw [upd2_o c]
  refine ijX0_least_9_3 8 2 (by decide) (by decide) (fun k x1 x2 f => x1 = Int32.ofNat w ∧ ltI E k x2 ∧ xT S (upd2 f.1 99 7 (Int32.ofNat w), f.2)) ?_ _ _ _ ⟨rfl, Or.inl ⟨rfl, fun j h1 h2 => by omega⟩, ?_⟩
  · intro K k x1 x2 f hk0 hk8 hP hK
    obtain ⟨rfl, hl2, hx⟩ := hP
    unfold wbX0_least_9
    have hlt : ((7 : Int32) < Int32.ofNat k) ↔ 7 < k := n_ltI (a := 7) (by decide) (by omega)
    refine ⟨fun q => ?_, fun q => ⟨fun z => ?_, fun z f2 e2 => ?_⟩⟩
    · have := hlt.mp q
      exact hend f x2 k hk0 hk8 hl2 (Or.inl (by omega)) hx
    · exact hend f x2 k hk0 hk8 hl2 (Or.inr z) hx
    · have hk7 : k ≤ 7 := by
        have : ¬ 7 < k := fun y => q (hlt.mpr y)
        omega
      -- the state in week k is related to the reference's in week k
      have hIw := xT_RI hx hI0
      have hI2 : RI f2.1 (upd2 g 99 6 (Int32.ofNat k)) := by
        rw [e2]
        obtain ⟨⟨a1, a2, a3, a4, a5, a6⟩, aR⟩ := hIw
        exact ⟨⟨a1, rfl, a3, a4, a5, a6⟩, aR⟩
      have hM2 : MI (upd2 g 99 6 (Int32.ofNat k)) := by
        obtain ⟨⟨m1, m2, m3, m4, m5, m6, m7, m8⟩, mR⟩ := hM0
        exact ⟨⟨m1, ⟨k, hk0, hk7, rfl⟩, m3, m4, m5, m6, m7, m8⟩, mR⟩
      have hcx2 : cxR o cs f2 (upd2 g 99 6 (Int32.ofNat k)) r l := by
        obtain ⟨c1, c2, c3, c4, c5, c6, c7, c8⟩ := hcx
        refine ⟨hI2.2.1.1, hI2.2.1.2.1, hI2.2.1.2.2.2.1, hI2.1.2.1, ?_, c6, txR_Z ?_ c7, c8⟩
        · rw [hI2.1.2.2.2.1]
          show g 99 15 = _
          rw [← hI0.1.2.2.2.1]
          exact c5
        · rw [e2]
          show f.2.2.1 = S.2.2.1
          rw [hx.2.2.2.1]
      have hfar2 : ∀ a c, a < T → c < T → f2.1 5 (6 * a + c) = (fun q => farF T (g 5) (fun _ => 0) q) (6 * a + c) := by
        intro a c ha hc
        have := far_eq (old := fun _ => 0) hI2 hM2 (T := T) hT hT6 ha hc
        exact this
      unfold wX0_all
      have e6 : f2.1 99 6 = Int32.ofNat T := hI2.1.1.trans hT
      rw [e6]
      refine x_first (far := fun q => farF T (g 5) (fun _ => 0) q) hI2 hcx2 hT hT6 (w := k) rfl hk0 hk7 hfar2 (fun f5 hx5 h50 h51 => ?_)
      have hxK : xT S (upd2 f5.1 99 7 (Int32.ofNat w), f5.2) := by
        refine xT_tr hx ⟨fun q a1 a2 a3 a4 a5 => ?_, fun j a1 a2 a3 a4 => ?_, ?_, ?_, hx5.2.2.2.2.1, hx5.2.2.2.2.2⟩
        · show upd2 f5.1 99 7 _ q = upd2 f.1 99 7 _ q
          rw [upd2_o a5, upd2_o a5, hx5.1 q a1 a2 a3 a4 a5, e2]
          exact upd2_o a5
        · show upd2 f5.1 99 7 _ 99 j = upd2 f.1 99 7 _ 99 j
          rw [upd2_at, upd2_at]
          by_cases c : j = 7
          · rw [if_pos c, if_pos c]
          · rw [if_neg c, if_neg c, hx5.2.1 j a1 a2 a3 a4, e2]
            show upd2 f.1 99 7 _ 99 j = _
            rw [upd2_at, if_neg c]
        · show f5.2.1.2 = f.2.1.2
          rw [hx5.2.2.1, e2]
        · show f5.2.2 = f.2.2
          rw [hx5.2.2.2.1, e2]
      have eW : wA (bA (upd2 g 99 6 (Int32.ofNat k)) l (fun q => farF T (g 5) (fun _ => 0) q)) T k (i_shl 1 (Int32.ofNat T) - 1) = [] ↔ ¬ E k := by
        rw [← hE]
        exact ⟨fun q z => z q, fun q => Classical.not_not.mp q⟩
      have hl1 : ∀ j, 2 ≤ j → j < k → ¬ E j := by
        rcases hl2 with ⟨-, h⟩ | ⟨j, j1, j2, j3, j4, j5⟩
        · exact h
        · rw [z] at j4
          exact absurd j4.symm (ne_m1 (by omega))
      refine ⟨fun y x3 e3 => ?_, fun y x3 e3 => ?_⟩
      · rw [n_suc] at e3
        subst e3
        refine hK _ _ _ (by omega) ⟨rfl, Or.inl ⟨z, fun j h1 h2 => ?_⟩, hxK⟩
        by_cases c : j = k
        · subst c
          intro hEj
          exact y (h51 (fun q => (eW.mp q) hEj))
        · exact hl1 j h1 (by omega)
      · rw [n_suc] at e3
        subst e3
        refine hK _ _ _ (by omega) ⟨rfl, Or.inr ⟨k, hk0, by omega, ?_, rfl, hl1⟩, hxK⟩
        by_cases c2 : E k
        · exact c2
        · rw [h50 (eW.mpr c2)] at y
          exact absurd y (by decide)
  · have e : ((upd2 S.1 99 7 (Int32.ofNat w), S.2) : XS) = S := by
      have : upd2 S.1 99 7 (Int32.ofNat w) = S.1 := by
        funext q j
        by_cases c : q = 99
        · subst c
          rw [upd2_at]
          by_cases c2 : j = 7
          · rw [if_pos c2, c2, hwX]
          · rw [if_neg c2]
        · rw [upd2_o c]
      rw [this]
    rw [e]
    exact xT_rf hI0.2.2.2.2.2.2.2.2.2.1 hI0.2.2.2.2.2.2.2.2.2.2.1
end
