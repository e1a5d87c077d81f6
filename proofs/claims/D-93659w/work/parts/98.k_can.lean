/-! PLAIN LAYER: can, least, knot: what both need -/
set_option maxRecDepth 100000
/-- an operation that leaves all but the class's two words of the search alone -/
def OK2 (S : XS) (g : St) (S' : XS) (g' : St) : Prop := RI S'.1 g' ∧ MI g' ∧ S'.2.2 = S.2.2 ∧ sameG g g'
theorem OK1.two {S S' : XS} {g g' : St} (h : OK1 S g S' g') : OK2 S g S' g' := ⟨h.1, h.2.1, by rw [h.2.2.1], h.2.2.2⟩
/-- the class's state but for what a search leaves -/
def xT (S f : XS) : Prop := (∀ r, r ≠ 12 → r ≠ 14 → r ≠ 19 → r ≠ 20 → r ≠ 99 → f.1 r = S.1 r) ∧ (∀ k, k ≠ 15 → k ≠ 16 → k ≠ 17 → k ≠ 21 → f.1 99 k = S.1 99 k) ∧ f.2.1.2 = S.2.1.2 ∧ f.2.2 = S.2.2 ∧ byR (f.1 19) ∧ byR (f.1 20)
theorem xT_rf {S : XS} (h1 : byR (S.1 19)) (h2 : byR (S.1 20)) : xT S S := ⟨fun _ _ _ _ _ _ => rfl, fun _ _ _ _ _ => rfl, rfl, rfl, h1, h2⟩
theorem xT_tr {S S' S2 : XS} (h1 : xT S S') (h2 : xT S' S2) : xT S S2 := ⟨fun r a1 a2 a3 a4 a5 => (h2.1 r a1 a2 a3 a4 a5).trans (h1.1 r a1 a2 a3 a4 a5), fun k a1 a2 a3 a4 => (h2.2.1 k a1 a2 a3 a4).trans (h1.2.1 k a1 a2 a3 a4), h2.2.2.1.trans h1.2.2.1, h2.2.2.2.1.trans h1.2.2.2.1, h2.2.2.2.2⟩
theorem xT_sx {S f : XS} {set : Int32} {aim T : Nat} {A : sA} (h : sxB (sS S set aim) T A f) : xT S f := by
  obtain ⟨k1, k2, k3, k4, k5, k6, -⟩ := h
  refine ⟨fun r a1 a2 a3 a4 a5 => ?_, fun k a1 a2 a3 a4 => ?_, k3, k4, k5, k6⟩
  · rw [k1 r a1 a2 a3 a4 a5]
    unfold sS
    show upd2 _ 99 17 0 r = _
    rw [upd2_o a5, upd2_o a5, upd2_o a5, upd2_o a5]
  · rw [k2 k a2 a3]
    unfold sS
    show upd2 _ 99 17 0 99 k = _
    rw [upd2_at, if_neg a3, upd2_at, if_neg a2, upd2_at, if_neg a4, upd2_at, if_neg a1]
theorem xT_RI {S f : XS} {g : St} (h : xT S f) (hI : RI S.1 g) : RI f.1 g := by
  obtain ⟨k1, k2, -, -, k5, k6⟩ := h
  have hr : ∀ r, r ≠ 12 → r ≠ 14 → r ≠ 19 → r ≠ 20 → r ≠ 99 → f.1 r = S.1 r := k1
  obtain ⟨aI, aA, aB, aF, aT, aD, aW, aG, aS, aY⟩ := hI
  unfold RI
  rw [k2 6 (by decide) (by decide) (by decide) (by decide), k2 7 (by decide) (by decide) (by decide) (by decide), k2 10 (by decide) (by decide) (by decide) (by decide), k2 13 (by decide) (by decide) (by decide) (by decide), k2 39 (by decide) (by decide) (by decide) (by decide), k2 41 (by decide) (by decide) (by decide) (by decide), k2 24 (by decide) (by decide) (by decide) (by decide), k2 25 (by decide) (by decide) (by decide) (by decide), k2 28 (by decide) (by decide) (by decide) (by decide), k2 34 (by decide) (by decide) (by decide) (by decide), k2 35 (by decide) (by decide) (by decide) (by decide), k2 36 (by decide) (by decide) (by decide) (by decide), k2 37 (by decide) (by decide) (by decide) (by decide)]
  rw [hr 0 (by decide) (by decide) (by decide) (by decide) (by decide), hr 1 (by decide) (by decide) (by decide) (by decide) (by decide), hr 2 (by decide) (by decide) (by decide) (by decide) (by decide), hr 3 (by decide) (by decide) (by decide) (by decide) (by decide), hr 4 (by decide) (by decide) (by decide) (by decide) (by decide), hr 5 (by decide) (by decide) (by decide) (by decide) (by decide), hr 8 (by decide) (by decide) (by decide) (by decide) (by decide), hr 9 (by decide) (by decide) (by decide) (by decide) (by decide), hr 40 (by decide) (by decide) (by decide) (by decide) (by decide), hr 26 (by decide) (by decide) (by decide) (by decide) (by decide), hr 29 (by decide) (by decide) (by decide) (by decide) (by decide)]
  rw [hr 30 (by decide) (by decide) (by decide) (by decide) (by decide), hr 31 (by decide) (by decide) (by decide) (by decide) (by decide), hr 32 (by decide) (by decide) (by decide) (by decide) (by decide), hr 33 (by decide) (by decide) (by decide) (by decide) (by decide), hr 60 (by decide) (by decide) (by decide) (by decide) (by decide), hr 61 (by decide) (by decide) (by decide) (by decide) (by decide), hr 62 (by decide) (by decide) (by decide) (by decide) (by decide), hr 63 (by decide) (by decide) (by decide) (by decide) (by decide), hr 70 (by decide) (by decide) (by decide) (by decide) (by decide), hr 71 (by decide) (by decide) (by decide) (by decide) (by decide), hr 72 (by decide) (by decide) (by decide) (by decide) (by decide), hr 73 (by decide) (by decide) (by decide) (by decide) (by decide)]
  exact ⟨aI, aA, aB, aF, aT, aD, aW, aG, aS, k5, k6, aY.2.2⟩
theorem bA_ok {g : St} {l : List Nat} {far : Nat → Int32} {T : Nat} : bOk (bA g l far) T := by
  refine ⟨fun H H' a t h1 h2 h3 => bA_congr (fun _ _ _ _ => rfl) h3 h1 h2, fun H a t h1 h2 h3 => ?_⟩
  unfold bA barA
  rw [if_neg (by omega), h3, Int32.zero_and, if_neg (fun q => q.1 rfl), if_neg (fun q => q.1.1 rfl)]
theorem mOk_of {g g1 : St} {l : List Nat} {T w : Nat} (hlk : lkM g l T g1) (hT : g 99 0 = Int32.ofNat T) (hT6 : T ≤ 6) (hw : g 99 6 = Int32.ofNat w) (hw2 : 2 ≤ w) (hw7 : w ≤ 7) : mOk (bA g l (g1 39)) T w g1 := by
  have e99 : g1 99 = g 99 := hlk.1 99 (by decide) (by decide) (by decide) (by decide)
  refine ⟨by rw [e99]; exact hT, by rw [e99]; exact hw, fun f hf a t Q' hat ht hq => ?_⟩
  refine pX7_doBar (w := w) (by omega) (by omega) (by rw [hf 99 (by decide), e99]; exact hw) hw7 hw2 ?_
  rw [doBar_A hlk hf hw hw7 hat ht]
  exact hq
theorem fdA_1 {vl : List Nat → Int64} {L : List (List Nat)} : (fdA 1 vl L (0, none)).2.2 = (match L with | [] => none | P :: _ => some (vl P, P)) := by
  cases L with
  | nil => rfl
  | cons P l => rfl
theorem fdA_0 {vl : List Nat → Int64} : ∀ (L : List (List Nat)) (n : Nat) (k : Option (Int64 × List Nat)), n < 100000 → (fdA 0 vl L (n, k)).2.1 = min (n + L.length) 100000
  | [], n, k, h => by
    show n = _
    rw [List.length_nil]
    omega
  | P :: l, n, k, h => by
    have e : fdA 0 vl (P :: l) (n, k) = if stA 0 (mtA 0 vl (n, k) P) = true then (true, mtA 0 vl (n, k) P) else fdA 0 vl l (mtA 0 vl (n, k) P) := rfl
    have es : stA 0 (mtA 0 vl (n, k) P) = decide (n + 1 = 100000) := by
      unfold stA
      show (true && decide (n + 1 = 100000) || false) = _
      rw [Bool.true_and, Bool.or_false]
    rw [e, es, List.length_cons]
    by_cases c : n + 1 = 100000
    · rw [if_pos (decide_eq_true c)]
      show n + 1 = _
      omega
    · rw [if_neg (by rw [decide_eq_false c]; exact Bool.noConfusion)]
      have := fdA_0 (vl := vl) l (n + 1) (ktA 0 (vl P) P k) (by omega)
      have e2 : mtA 0 vl (n, k) P = (n + 1, ktA 0 (vl P) P k) := rfl
      rw [e2, this]
      omega
theorem ikX7_can_16 {Q : Int32 → St → Prop} (I : Nat → Int32 → Int32 → St → Prop) (step : ∀ (K : Int32 → Int32 → St → Prop) (n : Nat) (x1 x2 : Int32) (f : St), I n x1 x2 f → (∀ (m : Nat) (y1 y2 : Int32) (f' : St), m < n → I m y1 y2 f' → K y1 y2 f') → wbX7_can_16 K Q x1 x2 f) {n : Nat} {x1 x2 : Int32} {f : St} (h : I n x1 x2 f) : ∃ N : Nat, wlX7_can_16 Q N x1 x2 f := by
  have key : ∀ N n, n < N → ∀ x1 x2 f, I n x1 x2 f → wlX7_can_16 Q N x1 x2 f := by
    intro N
    induction N with
    | zero => intro n hn; omega
    | succ N ih => intro n hn x1 x2 f hI; exact step _ n x1 x2 f hI (fun m y1 y2 f' hm hI' => ih m (by omega) _ _ _ hI')
  exact ⟨n + 1, key (n + 1) n (by omega) _ _ _ h⟩
section
variable {b o : Nat} {cs ad : Nat → Nat} {vs : Nat → Option Nat} {S : XS} {g : St} {T w : Nat}
theorem sxC_of {r aim : Nat} {l : List Nat} {far : Nat → Int32} {set : Int32} (hc : cxR o cs S g r l) (hT : S.1 99 6 = Int32.ofNat T) (hw : g 99 6 = Int32.ofNat w) (hfar : ∀ a c, a < T → c < T → S.1 5 (6 * a + c) = far (6 * a + c)) : sxC o cs (sS S set aim) g T w r l far set aim := by
  obtain ⟨c1, c2, c3, c4, c5, c6, c7, c8⟩ := hc
  exact ⟨⟨c1, c2, c3, c4, c5, c6, txR_Z (S := S) (S' := sS S set aim) rfl c7, c8⟩, hT, hw, hfar, rfl, rfl⟩
theorem op_can (hI : RI S.1 g) (hM : MI g) (hR : RT o cs S g) : wX0_can b cs ad vs o S (fun r S' => wX7_can g (fun r' g' => r = r' ∧ OK2 S g S' g')) := by
  have hM0 := hM
  obtain ⟨r, l, hcx, hpl⟩ := cxr_of hI hM hR
  obtain ⟨⟨⟨T, hT6, hT⟩, ⟨w, hw2, hw7, hw⟩, -⟩, -⟩ := hM
  have hTX : S.1 99 6 = Int32.ofNat T := hI.1.1.trans hT
  unfold wX0_can wX0_all
  generalize hset : i_shl 1 (S.1 99 6) - 1 = set
  have hfar : ∀ a c, a < T → c < T → S.1 5 (6 * a + c) = farF T (g 5) (g 39) (6 * a + c) := fun a c h1 h2 => far_eq hI hM0 hT hT6 h1 h2
  generalize hFF : farF T (g 5) (g 39) = FF at hfar
  refine x_search (aim := 0) (vl := fun _ => 0) (sxC_of hcx hTX hw hfar) (mt_0 rfl) hT6 hw2 hw7 hI.2.2.2.2.2.2.2.2.2.2.1 (fun f' hb => ?_)
  have hxT := xT_sx hb
  rw [hb.2.2.2.2.2.2.1, fdA_0 _ 0 none (by decide), Nat.zero_add]
  unfold wX7_can wX7_all
  refine pX7_looks hT hT6 hpl (fun g1 hlk => ?_)
  have h39 : g1 39 = FF := hlk.2.1.trans hFF
  have hmO := mOk_of hlk hT hT6 hw hw2 hw7
  rw [h39] at hmO
  have eset : ∀ f : St, (∀ q, q ≠ 52 → f q = g1 q) → i_shl 1 (f 99 0) - 1 = set := fun f hf => by rw [hf 99 (by decide), hlk.1 99 (by decide) (by decide) (by decide) (by decide), hT, ← hset, hTX]
  rw [eset g1 (fun _ _ => rfl)]
  have hOK : ∀ f : St, (∀ q, q ≠ 52 → f q = g1 q) → OK2 S g f' f := fun f hf => by
    have hm : mS g f := (lkM_S hlk).tr (fun q hq => hf q (by omega))
    exact ⟨mS_RI hm (xT_RI hxT hI), mS_MI hm hM0, hxT.2.2.2.1, mS_G hm⟩
  -- the reference's count
  have hloop : ∀ (n : Nat) (R : List (List Nat)) (x2 : Int32) (f : St), n ≤ 100000 → n + R.length = (wA (bA g l FF) T w set).length → (∀ q, q ≠ 52 → f q = g1 q) → ((x2 = 0 ∧ R = []) ∨ (x2 = 1 ∧ ∃ P, R = P :: rs (frP (bA g l FF) (iS set)) (iS set) w T P ∧ P.length = T ∧ (∀ d ∈ P, d < w) ∧ ∀ i, i < T → f 52 i = hO (iS set) P i)) → ∃ N : Nat, wlX7_can_16 (fun r' g' => Int32.ofNat (min (wA (bA g l FF) T w set).length 100000) = r' ∧ OK2 S g f' g') N (Int32.ofNat n) x2 f := by
    intro n R x2 f hn hlen hf hx
    refine ikX7_can_16 (fun m y1 y2 f => ∃ n, y1 = Int32.ofNat n ∧ n ≤ 100000 ∧ ∃ R : List (List Nat), n + R.length = (wA (bA g l FF) T w set).length ∧ m = R.length ∧ (∀ q, q ≠ 52 → f q = g1 q) ∧ ((y2 = 0 ∧ R = []) ∨ (y2 = 1 ∧ ∃ P, R = P :: rs (frP (bA g l FF) (iS set)) (iS set) w T P ∧ P.length = T ∧ (∀ d ∈ P, d < w) ∧ ∀ i, i < T → f 52 i = hO (iS set) P i))) ?_ ⟨n, rfl, hn, R, hlen, rfl, hf, hx⟩
    clear hn hlen hf hx
    intro K m y1 y2 f hP hK
    obtain ⟨n, rfl, hn, R, hlen, rfl, hf, hx⟩ := hP
    unfold wbX7_can_16
    have hle := n_leI (a := 100000) (b := n) (by decide) (by omega)
    have hle' : ((100000 : Int32) ≤ Int32.ofNat n) ↔ 100000 ≤ n := hle
    rcases hx with ⟨rfl, hRe⟩ | ⟨rfl, P, hRe, hPl, hPw, h52⟩
    · subst hRe
      rw [List.length_nil, Nat.add_zero] at hlen
      refine w0' ⟨?_, hOK f hf⟩
      rw [← hlen, Nat.min_eq_left hn]
    · refine w1' ⟨fun q => ⟨?_, hOK f hf⟩, fun q x1 e1 => ?_⟩
      · have hn' : n = 100000 := by
          have := hle'.mp q
          omega
        rw [← hlen, hn', Nat.min_eq_right (by omega)]
      · rw [n_suc] at e1
        subst e1
        have hn' : n < 100000 := by
          have : ¬ 100000 ≤ n := fun z => q (hle'.mpr z)
          omega
        unfold wX7_all
        rw [eset f hf]
        rw [hRe, List.length_cons] at hlen
        rw [hRe, List.length_cons] at hK
        refine m_next bA_ok hmO hT6 hw7 (by omega) hf h52 hPl hPw (fun h0 f2 hf2 => ?_) (fun P1 h1 hP1 hPw1 f2 hf2 h522 => ?_)
        · refine hK 0 _ _ _ (by omega) ⟨n + 1, rfl, by omega, [], ?_, rfl, hf2, Or.inl ⟨rfl, rfl⟩⟩
          rw [h0] at hlen
          rw [List.length_nil] at hlen ⊢
          omega
        · refine hK (rs (frP (bA g l FF) (iS set)) (iS set) w T P).length _ _ _ (by omega) ⟨n + 1, rfl, by omega, rs (frP (bA g l FF) (iS set)) (iS set) w T P, by omega, rfl, hf2, Or.inr ⟨rfl, P1, h1, hP1, hPw1, h522⟩⟩
  refine m_first bA_ok hmO hT6 hw7 (by omega) (fun _ _ => rfl) (fun h0 f2 hf2 => ?_) (fun P1 h1 hP1 hPw1 f2 hf2 h522 => ?_)
  · exact hloop 0 [] 0 f2 (by decide) (by rw [h0]; rfl) hf2 (Or.inl ⟨rfl, rfl⟩)
  · exact hloop 0 (wA (bA g l FF) T w set) 1 f2 (by decide) (Nat.zero_add _) hf2 (Or.inr ⟨rfl, P1, h1, hP1, hPw1, h522⟩)
end
