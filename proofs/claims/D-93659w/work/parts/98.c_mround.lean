/-! PLAIN LAYER: rounds in the reference -/
set_option maxRecDepth 100000
def rmR (far sz H : Nat → Int32) (T w : Nat) (f : St) : Prop := f 99 0 = Int32.ofNat T ∧ f 99 6 = Int32.ofNat w ∧ (∀ q, q < T → f 1 q = sz q) ∧ (∀ q, q < T → f 52 q = H q) ∧ ∀ a c, a < T → c < T → f 39 (6 * a + c) = far (6 * a + c)
def TM (far sz H : Nat → Int32) (st : Int32) (home T w pack : Nat) (A : Nat → Int32) (d0 t0 L0 : Nat) : Prop := ∀ d t L, d < w → t < T → L ≤ pack → (d0 < d ∨ (d = d0 ∧ (t < t0 ∨ (t = t0 ∧ L < L0)))) → A (246 * d + 41 * t + L) = tb far sz H st home T w (w - d) t L
section
variable {g : St} {T w home pack st : Nat} {far sz H : Nat → Int32}
theorem TM_put {A : Nat → Int32} {d0 t0 L0 : Nat} {s : Int32} {v : Int32} (h : TM far sz H s home T w pack A d0 t0 L0) (hT6 : T ≤ 6) (hp : pack ≤ 40) (ht0 : t0 < T) (hL0 : L0 ≤ pack) (hv : v = tb far sz H s home T w (w - d0) t0 L0) : TM far sz H s home T w pack (upd A (246 * d0 + 41 * t0 + L0) v) d0 t0 (L0 + 1) := by
  intro d t L hd ht hL hc
  unfold upd
  by_cases e : d = d0 ∧ t = t0 ∧ L = L0
  · obtain ⟨rfl, rfl, rfl⟩ := e
    rw [if_pos rfl]
    exact hv
  · rw [if_neg (by omega)]
    exact h d t L hd ht hL (by omega)
theorem TM_row {A : Nat → Int32} {d0 t0 : Nat} {s : Int32} (h : TM far sz H s home T w pack A d0 t0 (pack + 1)) : TM far sz H s home T w pack A d0 (t0 + 1) 0 := fun d t L hd ht hL hc => h d t L hd ht hL (by omega)
theorem TM_lay {A : Nat → Int32} {d0 : Nat} {s : Int32} (h : TM far sz H s home T w pack A (d0 + 1) T 0) : TM far sz H s home T w pack A d0 0 0 := fun d t L hd ht hL hc => h d t L hd ht hL (by omega)
theorem m_ix {d t L : Nat} : (246 : Int32) * Int32.ofNat d + (41 : Int32) * Int32.ofNat t + Int32.ofNat L = Int32.ofNat (246 * d + 41 * t + L) := by
  have e1 : (246 : Int32) * Int32.ofNat d = Int32.ofNat (246 * d) := n_mul (a := 246)
  have e2 : (41 : Int32) * Int32.ofNat t = Int32.ofNat (41 * t) := n_mul (a := 41)
  rw [e1, e2, n_add, n_add]
theorem pX7_soldBy {d t L q : Nat} {f : St} {Q : Int32 → St → Prop} (hr : rmR far sz H T w f) (hT6 : T ≤ 6) (hw7 : w ≤ 7) (hz : ∀ q, q < T → 0 ≤ (sz q).toInt ∧ (sz q).toInt ≤ 99) (hd : d < w) (ht : t < T) (hq : q < T) (hL : L ≤ 40) (hh : home < T) (hA : d + 1 < w → ∀ l, l ≤ L → f 55 (246 * (d + 1) + 41 * q + l) = tb far sz H (Int32.ofNat st) home T w (w - (d + 1)) q l) (h : Q (sbV far sz H (Int32.ofNat st) (tb far sz H (Int32.ofNat st) home T w (w - (d + 1))) d t L q) f) : wX7_soldBy f (Int32.ofNat t) (Int32.ofNat q) (Int32.ofNat d) (Int32.ofNat L) (Int32.ofNat st) (Int32.ofNat home) Q := by
  obtain ⟨h0, h6, h1, h52, h39⟩ := hr
  have i1 : (6 : Int32) * Int32.ofNat t + Int32.ofNat q = Int32.ofNat (6 * t + q) := n_ix
  have e6 : f 99 6 - 1 = Int32.ofNat (w - 1) := by rw [h6]; exact n_pred (by omega)
  have edw : (Int32.ofNat d = Int32.ofNat (w - 1)) ↔ d = w - 1 := n_eqI (by omega) (by omega)
  have eqh : (Int32.ofNat q = Int32.ofNat home) ↔ q = home := n_eqI (by omega) (by omega)
  have hsl := slN_le (sz := sz) (H := H) (o := q) (d := d) (L := L)
  unfold sbV at h
  unfold wX7_soldBy
  rw [i1, n_clamp (by omega), h39 t q ht hq, e6]
  refine ⟨n_in (by omega) (by decide), fun c => ?_, fun c => ?_⟩
  · rw [if_neg (fun y => by have := i_le.mp y; have := i_lt.mp c; omega)] at h
    exact h
  · have c' : far (6 * t + q) ≤ Int32.ofNat st := i_le.mpr (by
      have : ¬ (Int32.ofNat st).toInt < (far (6 * t + q)).toInt := fun y => c (i_lt.mpr y)
      omega)
    rw [if_pos c'] at h
    have h34 : (d = w - 1 → q = home) → wbX7_soldBy_34 Q (Int32.ofNat q) (Int32.ofNat d) (Int32.ofNat L) f := by
      intro hlast
      unfold wbX7_soldBy_34
      refine pX7_sold (by omega) ?_
      rw [slV_congr (h1 q hq) (h52 q hq), slV_N (hz q hq).1 (hz q hq).2 hL, e6]
      refine ⟨fun y => ?_, fun y => ?_⟩
      · have hlt : d + 1 < w := by
          have : ¬ d = w - 1 := fun z => y (edw.mpr z)
          omega
        have e1 : Int32.ofNat d + 1 = Int32.ofNat (d + 1) := n_suc
        rw [e1, m_ix, n_sub (by omega), n_clamp (by omega)]
        refine ⟨n_in (by omega) (by decide), ?_⟩
        rw [show 246 * (d + 1) + 41 * q + L - slN sz H q d L = 246 * (d + 1) + 41 * q + (L - slN sz H q d L) by omega, hA hlt _ (by omega)]
        unfold wbX7_soldBy_81
        refine ⟨fun z => ?_, fun z => ?_⟩
        · rw [if_neg z] at h; exact h
        · rw [if_pos z] at h; exact h
      · have hdw := edw.mp y
        have eq0 : w - (d + 1) = 0 := by omega
        rw [eq0] at h
        have e0 : tb far sz H (Int32.ofNat st) home T w 0 q (L - slN sz H q d L) = 0 := by
          show (if q = home then (0 : Int32) else -1) = 0
          rw [if_pos (hlast hdw)]
        rw [e0, if_neg (by decide)] at h
        unfold wbX7_soldBy_81
        exact ⟨fun _ => h, fun z => absurd z (by decide)⟩
    refine ⟨fun y => h34 (fun z => absurd (edw.mpr z) y), fun y => ⟨fun z => h34 (fun _ => eqh.mp z), fun z => ?_⟩⟩
    have hdw := edw.mp y
    have eq0 : w - (d + 1) = 0 := by omega
    rw [eq0] at h
    have e0 : tb far sz H (Int32.ofNat st) home T w 0 q (L - slN sz H q d L) = -1 := by
      show (if q = home then (0 : Int32) else -1) = -1
      rw [if_neg (fun z2 => z (eqh.mpr z2))]
    rw [e0, if_pos rfl] at h
    exact h
theorem m_table {Q : Int32 → St → Prop} {K187 : Int32 → Int32 → Int32 → St → Prop} (hr : rmR far sz H T w g) (hT6 : T ≤ 6) (hw7 : w ≤ 7) (hw1 : 1 ≤ w) (hz : ∀ q, q < T → 0 ≤ (sz q).toInt ∧ (sz q).toInt ≤ 99) (hp : pack ≤ 40) (hh : home < T) (h : ∀ A, (∀ d t L, d < w → t < T → L ≤ pack → A (246 * d + 41 * t + L) = tb far sz H (Int32.ofNat st) home T w (w - d) t L) → K187 (Int32.ofNat home) (Int32.ofNat st) (Int32.ofNat pack) (updR g 55 A)) : ∃ n : Nat, wlX7_round_66 K187 Q n (Int32.ofNat home) (Int32.ofNat st) (Int32.ofNat pack) (Int32.ofNat w - 1) g := by
  have hS0 : g = updR g 55 (g 55) := by rw [updR_self]
  have hrA : ∀ A, rmR far sz H T w (updR g 55 A) := fun A => hr
  refine ilX7_round_66 (fun x3 x4 x5 x6 f => ∃ d, d ≤ w ∧ x3 = Int32.ofNat home ∧ x4 = Int32.ofNat st ∧ x5 = Int32.ofNat pack ∧ x6 = Int32.ofNat d - 1 ∧ ∃ A, f = updR g 55 A ∧ TM far sz H (Int32.ofNat st) home T w pack A d T 0) (fun _ _ _ x6 _ => (x6 + 1).toNatClampNeg) ?_ _ _ _ _ _ ⟨w, Nat.le_refl _, rfl, rfl, rfl, rfl, g 55, hS0, fun d t L hd _ _ hc => by omega⟩
  intro K2 x3 x4 x5 x6 f hP hK2
  obtain ⟨d, hd, rfl, rfl, rfl, rfl, A, rfl, hA⟩ := hP
  unfold wbX7_round_66
  rw [m1_lt (by omega)]
  refine ⟨fun q => ?_, fun q => ?_⟩
  · subst q
    exact h A (fun d t' L hd ht' hL => hA d t' L hd ht' hL (by omega))
  · obtain ⟨D, rfl⟩ : ∃ D, d = D + 1 := ⟨d - 1, by omega⟩
    have eD : Int32.ofNat (D + 1) - 1 = Int32.ofNat D := n_pred (by omega)
    rw [eD]
    refine ijX7_round_74_7 T 0 (by omega) (by omega) (fun t' x3 x4 x5 x6 f => x3 = Int32.ofNat home ∧ x4 = Int32.ofNat st ∧ x5 = Int32.ofNat pack ∧ x6 = Int32.ofNat D ∧ ∃ A, f = updR g 55 A ∧ TM far sz H (Int32.ofNat st) home T w pack A D t' 0) ?_ _ _ _ _ _ ⟨rfl, rfl, rfl, rfl, A, rfl, TM_lay hA⟩
    intro K3 t' x3 x4 x5 x6 f _ ht' hP hK3
    obtain ⟨rfl, rfl, rfl, rfl, A, rfl, hA⟩ := hP
    unfold wbX7_round_74
    rw [(hrA A).1]
    refine w_upto (by omega) ht' (fun q => ?_) (fun hlt => ?_)
    · subst q
      intro x6 e6
      refine hK2 _ _ _ _ _ ⟨D, by omega, rfl, rfl, rfl, ?_, A, rfl, hA⟩ ?_
      · rw [e6, Int32.sub_eq_add_neg]
      · have e5 : x6 + 1 = Int32.ofNat D := by
          rw [e6, Int32.add_assoc]
          exact Int32.add_zero _
        rw [e5, eD, n_suc, n_clamp (by omega), n_clamp (by omega)]
        omega
    · refine ijX7_round_86_8 (pack + 1) 0 (by omega) (by omega) (fun L x3 x4 x5 x6 x7 f => x3 = Int32.ofNat home ∧ x4 = Int32.ofNat st ∧ x5 = Int32.ofNat pack ∧ x6 = Int32.ofNat D ∧ x7 = Int32.ofNat t' ∧ ∃ A, f = updR g 55 A ∧ TM far sz H (Int32.ofNat st) home T w pack A D t' L) ?_ _ _ _ _ _ _ ⟨rfl, rfl, rfl, rfl, rfl, A, rfl, hA⟩
      intro K4 L x3 x4 x5 x6 x7 f _ hL hP hK4
      obtain ⟨rfl, rfl, rfl, rfl, rfl, A, rfl, hA⟩ := hP
      unfold wbX7_round_86
      have hltL := n_ltI (a := pack) (b := L) (by omega) (by omega)
      refine ⟨fun q => ?_, fun q => ?_⟩
      · have hL1 : L = pack + 1 := by
          have := hltL.mp q
          omega
        subst hL1
        intro x7 e7
        rw [n_suc] at e7
        subst e7
        exact hK3 _ _ _ _ _ hlt ⟨rfl, rfl, rfl, rfl, A, rfl, TM_row hA⟩
      · have hLp : L ≤ pack := by
          have : ¬ pack < L := fun y => q (hltL.mpr y)
          omega
        refine icX7_round_99_10 T 0 (by omega) (by omega) (fun _ => True) (fun _ => Int32.ofNat home) (fun _ => Int32.ofNat st) (fun _ => Int32.ofNat pack) (fun _ => Int32.ofNat D) (fun _ => Int32.ofNat t') (fun _ => Int32.ofNat L) (fun n => bsN far sz H (Int32.ofNat st) (tb far sz H (Int32.ofNat st) home T w (w - (D + 1))) D t' L n) (fun _ => updR g 55 A) trivial ?_
        intro K5 n _ hn _ hK5
        unfold wbX7_round_99
        rw [(hrA A).1]
        refine w_upto (by omega) hn (fun q => ?_) (fun hlt2 => ?_)
        · subst q
          rw [m_ix, n_clamp (by omega)]
          refine ⟨n_in (by omega) (by decide), fun f17 e17 x8 e8 => ?_⟩
          rw [n_suc] at e8
          subst e8
          rw [updR_upd2'] at e17
          refine hK4 _ _ _ _ _ _ (by omega) ⟨rfl, rfl, rfl, rfl, rfl, _, e17, TM_put hA hT6 hp hlt hLp ?_⟩
          exact (tb_d (by omega)).symm
        · refine pX7_soldBy (hrA A) hT6 hw7 hz (by omega) hlt hlt2 (by omega) hh (fun hD l hl => ?_) ?_
          · rw [updR_s]
            exact hA (D + 1) n l (by omega) hlt2 (by omega) (by omega)
          · have hgo : ∀ v, v = bsN far sz H (Int32.ofNat st) (tb far sz H (Int32.ofNat st) home T w (w - (D + 1))) D t' L (n + 1) → ∀ K6, wbX7_round_139 K5 K6 Q (Int32.ofNat home) (Int32.ofNat st) (Int32.ofNat pack) (Int32.ofNat D) (Int32.ofNat t') (Int32.ofNat L) (Int32.ofNat n) v (updR g 55 A) := by
              intro v hv K6 x e
              rw [n_suc] at e
              subst e
              rw [hv]
              exact hK5 hlt2 trivial
            refine ⟨fun y => hgo _ ?_ _, fun y => hgo _ ?_ _⟩
            · show _ = if _ ≤ _ then _ else _
              rw [if_pos y]
            · show _ = if _ ≤ _ then _ else _
              rw [if_neg y]
end
