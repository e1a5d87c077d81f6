/-! PLAIN LAYER: find in the class: lays, wholeWorth, moved -/
set_option maxRecDepth 100000
theorem seq_tab : ∀ a, a < 7 → ∀ c, c < 7 → (((i_shl 1 (Int32.ofNat a)) = (i_shl 1 (Int32.ofNat c))) ↔ a = c) := by decide +kernel
theorem sbt_tab : ∀ a, a < 7 → ∀ c, c < 7 → ((i_shr (i_shl 1 (Int32.ofNat a)) (Int32.ofNat c) &&& 1 = 1) ↔ a = c) := by decide +kernel
theorem snz_tab : ∀ a, a < 7 → ∀ c, c < 7 → (((i_shl 1 (Int32.ofNat a)) &&& (i_shl 1 (Int32.ofNat c)) = 0) ↔ ¬ a = c) := by decide +kernel
theorem all_tab : ∀ T, T < 7 → ∀ t, t < T → iS (i_shl 1 (Int32.ofNat T) - 1) t = true := by decide +kernel
theorem dyO_lt {P : List Nat} {w i : Nat} (hP : ∀ d ∈ P, d < w) (hi : i < P.length) : dyO P i < w := by
  unfold dyO
  have hlt : P.length - 1 - i < P.length := by omega
  rw [List.getD_eq_getElem?_getD, List.getElem?_eq_getElem hlt]
  exact hP _ (List.getElem_mem hlt)
theorem hO_all {T i : Nat} {P : List Nat} (hT6 : T ≤ 6) (hl : P.length = T) (hi : i < T) : hO (iS (i_shl 1 (Int32.ofNat T) - 1)) P i = i_shl 1 (Int32.ofNat (dyO P i)) := by
  unfold hO
  rw [if_pos ⟨by omega, all_tab T (by omega) i hi⟩]
theorem hrN_in {far H : Nat → Int32} {t e T : Nat} (hf : ∀ a c, a < T → c < T → 0 ≤ (far (6 * a + c)).toInt ∧ (far (6 * a + c)).toInt ≤ 99) (ht : t < T) : ∀ n, n ≤ T → 0 ≤ (hrN far H t e n).toInt ∧ (hrN far H t e n).toInt ≤ 99
  | 0, _ => by
    show 0 ≤ (99 : Int32).toInt ∧ (99 : Int32).toInt ≤ 99
    decide
  | n + 1, hn => by
    have ih := hrN_in (H := H) (e := e) hf ht n (by omega)
    have hf' := hf t n ht (by omega)
    unfold hrN
    by_cases c1 : n = t
    · rw [if_pos c1]; exact ih
    · rw [if_neg c1]
      by_cases c2 : i_shr (H n) (Int32.ofNat e) &&& 1 = 1
      · rw [if_pos c2]
        by_cases c3 : hrN far H t e n ≤ far (6 * t + n)
        · rw [if_pos c3]; exact ih
        · rw [if_neg c3]; exact hf'
      · rw [if_neg c2]; exact ih
def ocN (H : Nat → Int32) (t d : Nat) : Nat → Nat
  | 0 => 0
  | o + 1 => if o = t then ocN H t d o else if i_shr (H o) (Int32.ofNat d) &&& 1 = 1 then ocN H t d o + 1 else ocN H t d o
theorem otN_oc {H : Nat → Int32} {t d : Nat} : ∀ n, otN H t d n = Int32.ofNat (ocN H t d n)
  | 0 => rfl
  | n + 1 => by
    unfold otN ocN
    rw [otN_oc n]
    by_cases c1 : n = t
    · rw [if_pos c1, if_pos c1]
    · rw [if_neg c1, if_neg c1]
      by_cases c2 : i_shr (H n) (Int32.ofNat d) &&& 1 = 1
      · rw [if_pos c2, if_pos c2, n_suc]
      · rw [if_neg c2, if_neg c2]
theorem ocN_le {H : Nat → Int32} {t d : Nat} : ∀ n, ocN H t d n ≤ n ∧ (t < n → ocN H t d n < n)
  | 0 => ⟨Nat.le_refl _, fun h => by omega⟩
  | n + 1 => by
    have ih := ocN_le (H := H) (t := t) (d := d) n
    unfold ocN
    by_cases c1 : n = t
    · rw [if_pos c1]; omega
    · rw [if_neg c1]
      by_cases c2 : i_shr (H n) (Int32.ofNat d) &&& 1 = 1
      · rw [if_pos c2]; omega
      · rw [if_neg c2]; omega
/-- what the table holds -/
def tlV (g : St) (l : List Nat) (far : Nat → Int32) (T t d q n : Nat) : Int32 := worthV g l t (Int32.ofNat d) (if q = T then 99 else far (6 * t + q)) (Int32.ofNat n)
def TL (g : St) (l : List Nat) (far : Nat → Int32) (T w : Nat) (A : Nat → Int32) (m : Nat) : Prop := ∀ t d q n, t < T → d < w → q ≤ T → n < 6 → ((t * 7 + d) * 7 + q) * 6 + n < m → A (((t * 7 + d) * 7 + q) * 6 + n) = tlV g l far T t d q n
section
variable {b o : Nat} {cs ad : Nat → Nat} {vs : Nat → Option Nat} {S : XS} {g : St} {T w : Nat}
/-- the class's state but for names, days looked at, the table -/
def lyR (S f : XS) : Prop := (∀ r, r ≠ 12 → r ≠ 14 → r ≠ 23 → f.1 r = S.1 r) ∧ f.2 = S.2
theorem lyR_x {f f' : XS} (h : lyR S f) (hx : xS f f') : lyR S f' := ⟨fun r a1 a2 a3 => (xS_n hx a1 a2).trans (h.1 r a1 a2 a3), (xS_2 hx).trans h.2⟩
theorem dxR_l {f : XS} {r : Nat} {l : List Nat} (h : lyR S f) (hc : dxR o cs S g r l) : dxR o cs f g r l := by
  obtain ⟨c1, c3, c4, c5, c6, c7, c8⟩ := hc
  unfold dxR
  rw [h.1 0 (by decide) (by decide) (by decide), h.1 2 (by decide) (by decide) (by decide), h.1 99 (by decide) (by decide) (by decide)]
  exact ⟨c1, c3, c4, c5, c6, txR_Z (by rw [h.2]) c7, c8⟩
theorem pX0_lays {r : Nat} {l : List Nat} {far : Nat → Int32} {Q : XS → Prop} (hc : dxR o cs S g r l) (hTX : S.1 99 6 = Int32.ofNat T) (hT6 : T ≤ 6) (hw : g 99 6 = Int32.ofNat w) (hw7 : w ≤ 7) (hfar : ∀ a c, a < T → c < T → S.1 5 (6 * a + c) = far (6 * a + c)) (h : ∀ f, lyR S f → (∀ t d q n, t < T → d < w → q ≤ T → n < 6 → f.1 23 (((t * 7 + d) * 7 + q) * 6 + n) = tlV g l far T t d q n) → Q f) : wX0_lays b cs ad vs o S Q := by
  have hT : ∀ f, lyR S f → f.1 99 6 = Int32.ofNat T := fun f hf => by rw [hf.1 99 (by decide) (by decide) (by decide)]; exact hTX
  have hW : ∀ f, lyR S f → f.1 99 7 = Int32.ofNat w := fun f hf => by rw [hf.1 99 (by decide) (by decide) (by decide), hc.2.2.1]; exact hw
  unfold wX0_lays
  refine ijX0_lays_2_1 T 0 (by omega) (by omega) (fun t f => lyR S f ∧ TL g l far T w (f.1 23) (t * 294)) ?_ _ ⟨⟨fun _ _ _ _ => rfl, rfl⟩, fun t d q n _ _ _ _ hm => by omega⟩
  intro K t f _ ht hP hK
  obtain ⟨hf, hA⟩ := hP
  unfold wbX0_lays_2
  rw [hT f hf]
  refine w_upto (by omega) ht (fun q => ?_) (fun hlt => ?_)
  · subst q
    exact h f hf (fun t' d q n h1 h2 h3 h4 => hA t' d q n h1 h2 h3 h4 (by omega))
  refine ijX0_lays_12_2 w 0 (by omega) (by omega) (fun d x1 f => x1 = Int32.ofNat t ∧ lyR S f ∧ TL g l far T w (f.1 23) (t * 294 + d * 42)) ?_ _ _ ⟨rfl, hf, hA⟩
  clear hf hA
  intro K2 d x1 f _ hd' hP hK2
  obtain ⟨rfl, hf, hA⟩ := hP
  unfold wbX0_lays_12
  rw [hW f hf]
  refine w_upto (by omega) hd' (fun q => ?_) (fun hltd => ?_)
  · subst q
    intro x e
    rw [n_suc] at e
    subst e
    exact hK _ hlt ⟨hf, fun t' d' q n h1 h2 h3 h4 h5 => hA t' d' q n h1 h2 h3 h4 (by omega)⟩
  refine ijX0_lays_22_3 (T + 1) 0 (by omega) (by omega) (fun q x1 x2 f => x1 = Int32.ofNat t ∧ x2 = Int32.ofNat d ∧ lyR S f ∧ TL g l far T w (f.1 23) (t * 294 + d * 42 + q * 6)) ?_ _ _ _ ⟨rfl, rfl, hf, hA⟩
  clear hf hA
  intro K3 q x1 x2 f _ hq hP hK3
  obtain ⟨rfl, rfl, hf, hA⟩ := hP
  unfold wbX0_lays_22
  rw [hT f hf]
  have hltq := n_ltI (a := T) (b := q) (by omega) (by omega)
  refine ⟨fun z => ?_, fun z => ?_⟩
  · have hq1 : q = T + 1 := by
      have := hltq.mp z
      omega
    subst hq1
    intro x e
    rw [n_suc] at e
    subst e
    exact hK2 _ _ hltd ⟨rfl, hf, fun t' d' q n h1 h2 h3 h4 h5 => hA t' d' q n h1 h2 h3 h4 (by omega)⟩
  have hqT : q ≤ T := by
    have : ¬ T < q := fun y => z (hltq.mpr y)
    omega
  refine ijX0_lays_33_4 6 0 (by omega) (by omega) (fun n x1 x2 x3 f => x1 = Int32.ofNat t ∧ x2 = Int32.ofNat d ∧ x3 = Int32.ofNat q ∧ lyR S f ∧ TL g l far T w (f.1 23) (t * 294 + d * 42 + q * 6 + n)) ?_ _ _ _ _ ⟨rfl, rfl, rfl, hf, hA⟩
  clear hf hA
  intro K4 n x1 x2 x3 f _ hn hP hK4
  obtain ⟨rfl, rfl, rfl, hf, hA⟩ := hP
  unfold wbX0_lays_33
  refine w_upto (T := 6) (by decide) hn (fun y => ?_) (fun hltn => ?_)
  · subst y
    intro x e
    rw [n_suc] at e
    subst e
    exact hK3 _ _ _ (by omega) ⟨rfl, rfl, hf, fun t' d' q' n' h1 h2 h3 h4 h5 => hA t' d' q' n' h1 h2 h3 h4 (by omega)⟩
  have ei : (((Int32.ofNat t * 7 + Int32.ofNat d) * 7 + Int32.ofNat q) * 6 + Int32.ofNat n) = Int32.ofNat (((t * 7 + d) * 7 + q) * 6 + n) := by
    have e1 : Int32.ofNat t * 7 = Int32.ofNat (t * 7) := n_mul (b := 7)
    have e2 : Int32.ofNat (t * 7 + d) * 7 = Int32.ofNat ((t * 7 + d) * 7) := n_mul (b := 7)
    have e3 : Int32.ofNat ((t * 7 + d) * 7 + q) * 6 = Int32.ofNat (((t * 7 + d) * 7 + q) * 6) := n_mul (b := 6)
    rw [e1, n_add, e2, n_add, e3, n_add]
  have hgo : ∀ v, v = (if q = T then 99 else far (6 * t + q)) → ∀ K5, wbX0_lays_88 b cs ad vs o K4 K5 Q (Int32.ofNat t) (Int32.ofNat d) (Int32.ofNat q) (Int32.ofNat n) v (Int32.ofNat d) (Int32.ofNat t) (Int32.ofNat (((t * 7 + d) * 7 + q) * 6 + n)) f := by
    intro v hv K5
    unfold wbX0_lays_88
    refine pX0_sayW (dxR_l hf hc) (by omega) (fun f2 hx2 _ => ⟨n_in (by omega) (by decide), fun f3 e3 x4 e4 => ?_⟩)
    rw [n_suc] at e4
    subst e4
    rw [n_clamp (by omega)] at e3
    have hf2 := lyR_x hf hx2
    have e23 : f2.1 23 = f.1 23 := xS_n hx2 (by decide) (by decide)
    have e3' : ∀ j, f3.1 23 j = if j = ((t * 7 + d) * 7 + q) * 6 + n then worthV g l t (Int32.ofNat d) v (Int32.ofNat n) else f.1 23 j := by
      intro j
      rw [e3, ← e23]
      show upd2 f2.1 23 (((t * 7 + d) * 7 + q) * 6 + n) (worthV g l t (Int32.ofNat d) v (Int32.ofNat n)) 23 j = _
      rw [upd2_at]
    refine hK4 _ _ _ _ hltn ⟨rfl, rfl, rfl, ⟨fun r a1 a2 a3 => ?_, by rw [e3]; exact hf2.2⟩, fun t' d' q' n' h1 h2 h3 h4 h5 => ?_⟩
    · rw [e3]
      show upd2 f2.1 23 _ _ r = _
      rw [upd2_o a3]
      exact hf2.1 r a1 a2 a3
    · rw [e3']
      by_cases c : ((t' * 7 + d') * 7 + q') * 6 + n' = ((t * 7 + d) * 7 + q) * 6 + n
      · have c1 : t' = t := by omega
        have c2 : d' = d := by omega
        have c3 : q' = q := by omega
        have c4 : n' = n := by omega
        subst c1 c2 c3 c4
        rw [if_pos rfl, hv]
        rfl
      · rw [if_neg c]
        exact hA t' d' q' n' h1 h2 h3 h4 (by omega)
  have eqT : (Int32.ofNat q = Int32.ofNat T) ↔ q = T := n_eqI (by omega) (by omega)
  have i1 : (6 : Int32) * Int32.ofNat t + Int32.ofNat q = Int32.ofNat (6 * t + q) := n_ix
  rw [hT f hf, ei, i1]
  refine ⟨fun y => ?_, fun y => hgo _ ?_ _⟩
  · have y' : ¬ q = T := fun c => y (eqT.mpr c)
    refine ⟨n_in (by omega) (by decide), hgo _ ?_ _⟩
    rw [if_neg y', n_clamp (by omega), hf.1 5 (by decide) (by decide) (by decide), hfar t q hlt (by omega)]
  · rw [if_pos (eqT.mp y)]
end
