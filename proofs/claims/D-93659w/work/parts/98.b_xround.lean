/-! PLAIN LAYER: rounds in the class -/
set_option maxRecDepth 100000
/-- what rounds need of the class's state -/
def rxR (far sz H : Nat → Int32) (T w : Nat) (S : XS) : Prop := S.1 99 6 = Int32.ofNat T ∧ S.1 99 7 = Int32.ofNat w ∧ (∀ q, q < T → S.1 0 q = sz q) ∧ (∀ q, q < T → S.1 14 q = H q) ∧ ∀ a c, a < T → c < T → S.1 5 (6 * a + c) = far (6 * a + c)
section
variable {b o : Nat} {cs ad : Nat → Nat} {vs : Nat → Option Nat} {S : XS} {T w home pack st : Nat} {far sz H : Nat → Int32}
theorem x_sell {q d L : Nat} {f : XS} {Q : Int32 → XS → Prop} (hr : rxR far sz H T w f) (hT6 : T ≤ 6) (hz : ∀ q, q < T → 0 ≤ (sz q).toInt ∧ (sz q).toInt ≤ 99) (hq : q < T) (hL : L ≤ 40) (h : Q (Int32.ofNat (slN sz H q d L)) f) : wX0_sells b cs ad vs o f (Int32.ofNat q) (Int32.ofNat d) (Int32.ofNat L) Q := by
  refine pX0_sells (by omega) ?_
  rw [slV_congr (hr.2.2.1 q hq) (hr.2.2.2.1 q hq), slV_N (hz q hq).1 (hz q hq).2 hL]
  exact h
theorem x_most {d t L : Nat} {f : XS} {Q : Int32 → XS → Prop} (hd : d ≤ 7) (ht : t < 6) (hL : L ≤ 40) (h : Q (f.1 27 ((d * 6 + t) * 41 + L)) f) : wX0_most b cs ad vs o f (Int32.ofNat d) (Int32.ofNat t) (Int32.ofNat L) Q := by
  unfold wX0_most
  have e : (Int32.ofNat d * 6 + Int32.ofNat t) * 41 + Int32.ofNat L = Int32.ofNat ((d * 6 + t) * 41 + L) := by
    have e1 : Int32.ofNat d * 6 = Int32.ofNat (d * 6) := n_mul (b := 6)
    have e2 : Int32.ofNat (d * 6 + t) * 41 = Int32.ofNat ((d * 6 + t) * 41) := n_mul (b := 41)
    rw [e1, n_add, e2, n_add]
  rw [e, n_clamp (by omega)]
  exact ⟨n_in (by omega) (by decide), h⟩
theorem pX0_best {d t L : Nat} {nx : Nat → Nat → Int32} {f : XS} {Q : Int32 → XS → Prop} (hr : rxR far sz H T w f) (hT6 : T ≤ 6) (hz : ∀ q, q < T → 0 ≤ (sz q).toInt ∧ (sz q).toInt ≤ 99) (hd : d < 7) (ht : t < T) (hL : L ≤ 40) (hnx : okT nx) (hA : ∀ q l, q < T → l ≤ L → f.1 27 (((d + 1) * 6 + q) * 41 + l) = nx q l) (h : Q (bsN far sz H (Int32.ofNat st) nx d t L T) f) : wX0_best b cs ad vs o f (Int32.ofNat d) (Int32.ofNat t) (Int32.ofNat L) (Int32.ofNat st) Q := by
  unfold wX0_best
  refine icX0_best_6_6 T 0 (by omega) (by omega) (fun _ => True) (fun _ => Int32.ofNat d) (fun _ => Int32.ofNat t) (fun _ => Int32.ofNat L) (fun _ => Int32.ofNat st) (fun n => bsN far sz H (Int32.ofNat st) nx d t L n) (fun _ => f) trivial ?_
  intro K n _ hn _ hK
  unfold wbX0_best_6
  have i1 : (6 : Int32) * Int32.ofNat t + Int32.ofNat n = Int32.ofNat (6 * t + n) := n_ix
  rw [hr.1]
  refine w_upto (by omega) hn (fun q => ?_) (fun hlt => ?_)
  · subst q
    exact h
  · have hgo : ∀ v, v = bsN far sz H (Int32.ofNat st) nx d t L (n + 1) → wbX0_best_83 b cs ad vs o K Q (Int32.ofNat d) (Int32.ofNat t) (Int32.ofNat L) (Int32.ofNat st) v (Int32.ofNat n) f := by
      intro v hv x e
      rw [n_suc] at e
      subst e
      rw [hv]
      exact hK hlt trivial
    have hst : bsN far sz H (Int32.ofNat st) nx d t L (n + 1) = if sbV far sz H (Int32.ofNat st) nx d t L n ≤ bsN far sz H (Int32.ofNat st) nx d t L n then bsN far sz H (Int32.ofNat st) nx d t L n else sbV far sz H (Int32.ofNat st) nx d t L n := rfl
    have hbk := bsN_ok (far := far) (sz := sz) (H := H) (st := Int32.ofNat st) (d := d) (t := t) hnx hL n
    have hm1 : sbV far sz H (Int32.ofNat st) nx d t L n = -1 → bsN far sz H (Int32.ofNat st) nx d t L n = bsN far sz H (Int32.ofNat st) nx d t L (n + 1) := by
      intro e
      rw [hst, e]
      rcases hbk with y | ⟨m, hm, em⟩
      · rw [y, if_pos (Int32.le_refl _)]
      · rw [em, if_pos (m1_le (by omega))]
    have hsl := slN_le (sz := sz) (H := H) (o := n) (d := d) (L := L)
    rw [i1, n_clamp (by omega), hr.2.2.2.2 t n ht hlt]
    refine ⟨n_in (by omega) (by decide), fun c => x_sell hr hT6 hz hlt hL ?_, fun c => hgo _ (hm1 ?_)⟩
    · have e1 : Int32.ofNat d + 1 = Int32.ofNat (d + 1) := n_suc
      rw [e1, n_sub hsl]
      refine x_most (by omega) (by omega) (by omega) ?_
      rw [hA n _ hlt (by omega)]
      have es : ¬ nx n (L - slN sz H n d L) = -1 → sbV far sz H (Int32.ofNat st) nx d t L n = Int32.ofNat (slN sz H n d L) + nx n (L - slN sz H n d L) := by
        intro y
        unfold sbV
        rw [if_pos c, if_neg y]
      refine ⟨fun y => hgo _ (hm1 ?_), fun y => ⟨fun z => hgo _ ?_, fun z x5 e5 => hgo _ ?_⟩⟩
      · unfold sbV
        rw [if_pos c, if_pos y]
      · rw [hst, es y, if_pos z]
      · rw [hst, es y, if_neg z, e5]
    · unfold sbV
      rw [if_neg c]
/-- the table of the class is right from (d, t, L) on -/
def TX (far sz H : Nat → Int32) (st : Int32) (home T w pack : Nat) (A : Nat → Int32) (d0 t0 L0 : Nat) : Prop := ∀ d t L, d ≤ w → t < T → L ≤ pack → (d0 < d ∨ (d = d0 ∧ (t < t0 ∨ (t = t0 ∧ L < L0)))) → A ((d * 6 + t) * 41 + L) = tb far sz H st home T w (w - d) t L
theorem TX_put {A : Nat → Int32} {d0 t0 L0 : Nat} {s : Int32} {v : Int32} (h : TX far sz H s home T w pack A d0 t0 L0) (hT6 : T ≤ 6) (hp : pack ≤ 40) (ht0 : t0 < T) (hL0 : L0 ≤ pack) (hv : v = tb far sz H s home T w (w - d0) t0 L0) : TX far sz H s home T w pack (upd A ((d0 * 6 + t0) * 41 + L0) v) d0 t0 (L0 + 1) := by
  intro d t L hd ht hL hc
  unfold upd
  by_cases e : d = d0 ∧ t = t0 ∧ L = L0
  · obtain ⟨rfl, rfl, rfl⟩ := e
    rw [if_pos rfl]
    exact hv
  · rw [if_neg (by omega)]
    exact h d t L hd ht hL (by omega)
theorem TX_row {A : Nat → Int32} {d0 t0 : Nat} {s : Int32} (h : TX far sz H s home T w pack A d0 t0 (pack + 1)) : TX far sz H s home T w pack A d0 (t0 + 1) 0 := fun d t L hd ht hL hc => h d t L hd ht hL (by omega)
theorem TX_lay {A : Nat → Int32} {d0 : Nat} {s : Int32} (h : TX far sz H s home T w pack A (d0 + 1) T 0) : TX far sz H s home T w pack A d0 0 0 := fun d t L hd ht hL hc => h d t L hd ht hL (by omega)
theorem pX0_rounds {Q : XS → Prop} (hr : rxR far sz H T w S) (hT6 : T ≤ 6) (hw7 : w ≤ 7) (hz : ∀ q, q < T → 0 ≤ (sz q).toInt ∧ (sz q).toInt ≤ 99) (hp : pack ≤ 40) (hh : home < T) (h : ∀ A, (∀ d t L, d ≤ w → t < T → L ≤ pack → A ((d * 6 + t) * 41 + L) = tb far sz H (Int32.ofNat st) home T w (w - d) t L) → Q (updR S.1 27 A, S.2)) : wX0_rounds b cs ad vs o S (Int32.ofNat home) (Int32.ofNat st) (Int32.ofNat pack) Q := by
  unfold wX0_rounds
  have hS0 : S = (updR S.1 27 (S.1 27), S.2) := by rw [updR_self]
  have hrA : ∀ A, rxR far sz H T w (updR S.1 27 A, S.2) := fun A => hr
  refine ijX0_rounds_3_4 T 0 (by omega) (by omega) (fun t x1 x2 x3 f => x1 = Int32.ofNat home ∧ x2 = Int32.ofNat st ∧ x3 = Int32.ofNat pack ∧ ∃ A, f = (updR S.1 27 A, S.2) ∧ TX far sz H (Int32.ofNat st) home T w pack A w t 0) ?_ _ _ _ _ ⟨rfl, rfl, rfl, S.1 27, hS0, fun d t L hd _ _ hc => by omega⟩
  intro K t x1 x2 x3 f _ ht hP hK
  obtain ⟨rfl, rfl, rfl, A, rfl, hA⟩ := hP
  unfold wbX0_rounds_3
  rw [(hrA A).1]
  refine w_upto (by omega) ht (fun q => ?_) (fun hlt => ?_)
  · subst q
    -- the layers below
    intro x4 e4
    rw [(hrA A).2.1] at e4
    refine ilX0_rounds_73 (fun x2 x3 x4 f => ∃ d, d ≤ w ∧ x2 = Int32.ofNat st ∧ x3 = Int32.ofNat pack ∧ x4 = Int32.ofNat d - 1 ∧ ∃ A, f = (updR S.1 27 A, S.2) ∧ TX far sz H (Int32.ofNat st) home t w pack A d t 0) (fun _ _ x4 _ => (x4 + 1).toNatClampNeg) ?_ _ _ _ _ ⟨w, Nat.le_refl _, rfl, rfl, e4, A, rfl, hA⟩
    intro K2 x2 x3 x4 f hP hK2
    obtain ⟨d, hd, rfl, rfl, rfl, A, rfl, hA⟩ := hP
    unfold wbX0_rounds_73
    rw [m1_lt (by omega)]
    refine ⟨fun q => ?_, fun q => ?_⟩
    · subst q
      exact h A (fun d t' L hd ht' hL => hA d t' L hd ht' hL (by omega))
    · obtain ⟨D, rfl⟩ : ∃ D, d = D + 1 := ⟨d - 1, by omega⟩
      have eD : Int32.ofNat (D + 1) - 1 = Int32.ofNat D := n_pred (by omega)
      rw [eD]
      refine ijX0_rounds_81_5 t 0 (by omega) (by omega) (fun t' x2 x3 x4 f => x2 = Int32.ofNat st ∧ x3 = Int32.ofNat pack ∧ x4 = Int32.ofNat D ∧ ∃ A, f = (updR S.1 27 A, S.2) ∧ TX far sz H (Int32.ofNat st) home t w pack A D t' 0) ?_ _ _ _ _ ⟨rfl, rfl, rfl, A, rfl, TX_lay hA⟩
      intro K3 t' x2 x3 x4 f _ ht' hP hK3
      obtain ⟨rfl, rfl, rfl, A, rfl, hA⟩ := hP
      unfold wbX0_rounds_81
      rw [(hrA A).1]
      refine w_upto (by omega) ht' (fun q => ?_) (fun hlt => ?_)
      · subst q
        intro x4 e4
        refine hK2 _ _ _ _ ⟨D, by omega, rfl, rfl, ?_, A, rfl, hA⟩ ?_
        · rw [e4, Int32.sub_eq_add_neg]
        · have e5 : x4 + 1 = Int32.ofNat D := by
            rw [e4, Int32.add_assoc]
            exact Int32.add_zero _
          rw [e5, eD, n_suc, n_clamp (by omega), n_clamp (by omega)]
          omega
      · refine ijX0_rounds_93_6 (pack + 1) 0 (by omega) (by omega) (fun L x2 x3 x4 x5 f => x2 = Int32.ofNat st ∧ x3 = Int32.ofNat pack ∧ x4 = Int32.ofNat D ∧ x5 = Int32.ofNat t' ∧ ∃ A, f = (updR S.1 27 A, S.2) ∧ TX far sz H (Int32.ofNat st) home t w pack A D t' L) ?_ _ _ _ _ _ ⟨rfl, rfl, rfl, rfl, A, rfl, hA⟩
        intro K4 L x2 x3 x4 x5 f _ hL hP hK4
        obtain ⟨rfl, rfl, rfl, rfl, A, rfl, hA⟩ := hP
        unfold wbX0_rounds_93
        have hltL := n_ltI (a := pack) (b := L) (by omega) (by omega)
        refine ⟨fun q => ?_, fun q => ?_⟩
        · have hL1 : L = pack + 1 := by
            have := hltL.mp q
            omega
          subst hL1
          intro x5 e5
          rw [n_suc] at e5
          subst e5
          exact hK3 _ _ _ _ hlt ⟨rfl, rfl, rfl, A, rfl, TX_row hA⟩
        · have hLp : L ≤ pack := by
            have : ¬ pack < L := fun y => q (hltL.mpr y)
            omega
          refine pX0_best (nx := tb far sz H (Int32.ofNat st) home t w (w - (D + 1))) (hrA A) hT6 hz (by omega) hlt (by omega) (tb_ok _) (fun q l hq hl => ?_) ?_
          · show updR S.1 27 A 27 _ = _
            rw [updR_s]
            exact hA (D + 1) q l (by omega) hq (by omega) (by omega)
          · have e : (Int32.ofNat D * 6 + Int32.ofNat t') * 41 + Int32.ofNat L = Int32.ofNat ((D * 6 + t') * 41 + L) := by
              have e1 : Int32.ofNat D * 6 = Int32.ofNat (D * 6) := n_mul (b := 6)
              have e2 : Int32.ofNat (D * 6 + t') * 41 = Int32.ofNat ((D * 6 + t') * 41) := n_mul (b := 41)
              rw [e1, n_add, e2, n_add]
            rw [e, n_clamp (by omega)]
            refine ⟨n_in (by omega) (by decide), fun f7 e7 x6 e6 => ?_⟩
            rw [n_suc] at e6
            subst e6
            rw [updR_upd2'] at e7
            refine hK4 _ _ _ _ _ (by omega) ⟨rfl, rfl, rfl, rfl, _, e7, TX_put hA hT6 hp hlt hLp ?_⟩
            exact (tb_d (by omega)).symm
  · refine ijX0_rounds_15_5 (pack + 1) 0 (by omega) (by omega) (fun L x1 x2 x3 x4 f => x1 = Int32.ofNat home ∧ x2 = Int32.ofNat st ∧ x3 = Int32.ofNat pack ∧ x4 = Int32.ofNat t ∧ ∃ A, f = (updR S.1 27 A, S.2) ∧ TX far sz H (Int32.ofNat st) home T w pack A w t L) ?_ _ _ _ _ _ ⟨rfl, rfl, rfl, rfl, A, rfl, hA⟩
    intro K2 L x1 x2 x3 x4 f _ hL hP hK2
    obtain ⟨rfl, rfl, rfl, rfl, A, rfl, hA⟩ := hP
    unfold wbX0_rounds_15
    have hltL := n_ltI (a := pack) (b := L) (by omega) (by omega)
    have eq : (Int32.ofNat t = Int32.ofNat home) ↔ t = home := n_eqI (by omega) (by omega)
    refine ⟨fun q => ?_, fun q => ?_⟩
    · have hL1 : L = pack + 1 := by
        have := hltL.mp q
        omega
      subst hL1
      intro x5 e5
      rw [n_suc] at e5
      subst e5
      exact hK _ _ _ _ hlt ⟨rfl, rfl, rfl, A, rfl, TX_row hA⟩
    · have hLp : L ≤ pack := by
        have : ¬ pack < L := fun y => q (hltL.mpr y)
        omega
      rw [(hrA A).2.1]
      have e : (Int32.ofNat w * 6 + Int32.ofNat t) * 41 + Int32.ofNat L = Int32.ofNat ((w * 6 + t) * 41 + L) := by
        have e1 : Int32.ofNat w * 6 = Int32.ofNat (w * 6) := n_mul (b := 6)
        have e2 : Int32.ofNat (w * 6 + t) * 41 = Int32.ofNat ((w * 6 + t) * 41) := n_mul (b := 41)
        rw [e1, n_add, e2, n_add]
      rw [e]
      have hgo : ∀ v, v = (if t = home then (0 : Int32) else -1) → ∀ K3, wbX0_rounds_52 b cs ad vs o K2 K3 Q (Int32.ofNat home) (Int32.ofNat st) (Int32.ofNat pack) (Int32.ofNat t) (Int32.ofNat L) v (Int32.ofNat ((w * 6 + t) * 41 + L)) (updR S.1 27 A, S.2) := by
        intro v hv K3
        unfold wbX0_rounds_52
        rw [n_clamp (by omega)]
        refine ⟨n_in (by omega) (by decide), fun f1 e1 x5 e5 => ?_⟩
        rw [n_suc] at e5
        subst e5
        rw [updR_upd2'] at e1
        refine hK2 _ _ _ _ _ (by omega) ⟨rfl, rfl, rfl, rfl, _, e1, TX_put hA hT6 hp hlt hLp ?_⟩
        rw [Nat.sub_self]
        exact hv
      exact ⟨fun y => hgo _ (by rw [if_neg (fun z => y (eq.mpr z))]) _, fun y => hgo _ (by rw [if_pos (eq.mp y)]) _⟩
end
