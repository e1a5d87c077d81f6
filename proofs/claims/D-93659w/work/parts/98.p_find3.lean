/-! PLAIN LAYER: find in the reference: dayIn, others, keptWorth, worthWay, keeps -/
set_option maxRecDepth 100000
theorem din_tab : ∀ d, d < 7 → ∀ j, j < 7 → j ≤ d → ((i_shr (i_shl 1 (Int32.ofNat d)) (Int32.ofNat j) = 1) ↔ j = d) := by
  intro d hd j hj
  have : ∀ d, d < 7 → ∀ j, j < 7 → (!decide (j ≤ d) || (decide (i_shr (i_shl 1 (Int32.ofNat d)) (Int32.ofNat j) = 1) == decide (j = d))) = true := by decide +kernel
  have h := this d hd j hj
  intro hle
  rw [decide_eq_true hle] at h
  simpa using h
theorem pX7_dayIn {f : St} {d : Nat} {Q : Int32 → St → Prop} (hd : d < 7) (h : Q (Int32.ofNat d) f) : wX7_dayIn f (i_shl 1 (Int32.ofNat d)) Q := by
  unfold wX7_dayIn
  refine icX7_dayIn_2_1 d 0 (by omega) (by omega) (fun _ => True) (fun _ => i_shl 1 (Int32.ofNat d)) (fun _ => f) trivial ?_
  intro K j _ hj _ hK
  unfold wbX7_dayIn_2
  rw [din_tab d hd j (by omega) hj]
  refine ⟨fun q => by rw [q]; exact h, fun q x e => ?_⟩
  rw [n_suc] at e
  subst e
  exact hK (by omega) trivial
theorem barV_rows {f f' : St} {w a c : Nat} (h2 : f 2 = f' 2) (h4 : f 4 = f' 4) (h51 : f 51 = f' 51) (h52 : f 52 = f' 52) (h6 : f 99 6 = f' 99 6) : barV f w a c = barV f' w a c := by
  rw [barV_A, barV_A, h2, h4, h51, h52, h6]
theorem mOk_of' {g g1 g2 : St} {l : List Nat} {T w : Nat} (hlk : lkM g l T g1) (hT6 : T ≤ 6) (hw : g 99 6 = Int32.ofNat w) (hw2 : 2 ≤ w) (hw7 : w ≤ 7) (h2 : g2 2 = g1 2) (h4 : g2 4 = g1 4) (h51 : g2 51 = g1 51) (h0 : g2 99 0 = Int32.ofNat T) (h6 : g2 99 6 = Int32.ofNat w) : mOk (bA g l (g1 39)) T w g2 := by
  refine ⟨h0, h6, fun f hf a t Q' hat ht hq => ?_⟩
  have e6 : f 99 6 = Int32.ofNat w := by rw [hf 99 (by decide)]; exact h6
  refine pX7_doBar (w := w) (by omega) (by omega) e6 hw7 hw2 ?_
  have e99 : g1 99 6 = Int32.ofNat w := by rw [hlk.1 99 (by decide) (by decide) (by decide) (by decide)]; exact hw
  rw [barV_rows (f' := updR g1 52 (f 52)) ((hf 2 (by decide)).trans h2) ((hf 4 (by decide)).trans h4) ((hf 51 (by decide)).trans h51) rfl (e6.trans e99.symm), doBar_A hlk (fun r hr => updR_n hr) hw hw7 hat ht, updR_s]
  exact hq
section
variable {g f : St} {T w : Nat} {D : Nat → Nat}
theorem pX7_others {i n : Nat} {G : Nat → Int32} {Q : Int32 → St → Prop} (hT : f 99 0 = Int32.ofNat T) (hT6 : T ≤ 6) (hi : i < 12) (hn : n ≤ 6) (h18 : f 18 i = Int32.ofNat n) (hG : ∀ t, t < n → G t = f 19 (6 * i + t)) (hD : ∀ t, t < T → D t < 7) (h52 : ∀ t, t < T → f 52 t = i_shl 1 (Int32.ofNat (D t))) (h : Q (Int32.ofNat (mvN n G D T)) f) : wX7_others f (Int32.ofNat i) Q := by
  unfold wX7_others
  refine icX7_others_4_3 T 0 (by omega) (by omega) (fun _ => True) (fun _ => Int32.ofNat i) (fun t => Int32.ofNat (mvN n G D t)) (fun _ => f) trivial ?_
  intro K t _ ht _ hK
  unfold wbX7_others_4
  rw [hT, n_clamp (n := i) (by omega), h18]
  refine w_upto (by omega) ht (fun q => ?_) (fun hlt => ?_)
  · subst q
    exact h
  have hle := n_leI (a := n) (b := t) (by omega) (by omega)
  have i1 : (6 : Int32) * Int32.ofNat i + Int32.ofNat t = Int32.ofNat (6 * i + t) := n_ix
  have h50 : ¬ (t < n ∧ G t = Int32.ofNat (D t)) → wbX7_others_50 K Q (Int32.ofNat i) (Int32.ofNat t) (Int32.ofNat (mvN n G D t)) f := by
    intro hc x2 e2 x3 e3
    rw [n_suc] at e3
    subst e3
    have : x2 = Int32.ofNat (mvN n G D (t + 1)) := by
      rw [e2, n_suc]
      show _ = Int32.ofNat (mvN n G D t + (if _ then 0 else 1))
      rw [if_neg hc]
    rw [this]
    exact hK hlt trivial
  rw [i1, n_clamp (n := 6 * i + t) (by omega), n_clamp (n := t) (by omega), h52 t hlt]
  refine ⟨n_in hi (by decide), fun q => h50 (fun c => by have := hle.mp q; omega), fun q => ⟨n_in (by omega) (by decide), n_in (by omega) (by decide), pX7_dayIn (hD t hlt) ?_⟩⟩
  have htn : t < n := by
    have : ¬ n ≤ t := fun z => q (hle.mpr z)
    omega
  rw [← hG t htn]
  refine ⟨fun z => h50 (fun c => z c.2), fun z x2 e2 x3 e3 => ?_⟩
  rw [n_suc] at e3
  subst e3
  have : x2 = Int32.ofNat (mvN n G D (t + 1)) := by
    rw [e2, Int32.add_zero]
    show _ = Int32.ofNat (mvN n G D t + (if _ then 0 else 1))
    rw [if_pos ⟨htn, z⟩, Nat.add_zero]
  rw [this]
  exact hK hlt trivial
/-- what is kept of days' worth -/
def memR (g : St) (l : List Nat) (T w : Nat) (f : St) : Prop := ∀ t d k n, t < T → d < w → k ≤ 99 → n ≤ 6 → ¬ f 54 (((t * 7 + d) * 100 + k) * 7 + n) = 0 → f 53 (((t * 7 + d) * 100 + k) * 7 + n) = worthV g l t (Int32.ofNat d) (Int32.ofNat k) (Int32.ofNat n)
/-- but for what is kept -/
def mkR (f f' : St) : Prop := ∀ r, r ≠ 49 → r ≠ 50 → r ≠ 53 → r ≠ 54 → f' r = f r
theorem mkR_tr {f f' f2 : St} (h1 : mkR f f') (h2 : mkR f' f2) : mkR f f2 := fun r a1 a2 a3 a4 => (h2 r a1 a2 a3 a4).trans (h1 r a1 a2 a3 a4)
theorem pX7_keptWorth {l : List Nat} {t d k n : Nat} {Q : Int32 → St → Prop} (h1 : f 1 = g 1) (h3 : f 3 = g 3) (h6 : f 99 6 = g 99 6) (hl : partL f 1 l) (hT6 : T ≤ 6) (hw7 : w ≤ 7) (ht : t < T) (hd : d < w) (hk : k ≤ 99) (hn : n ≤ 6) (hm : memR g l T w f) (h : ∀ f', mkR f f' → memR g l T w f' → Q (worthV g l t (Int32.ofNat d) (Int32.ofNat k) (Int32.ofNat n)) f') : wX7_keptWorth f (Int32.ofNat t) (Int32.ofNat d) (Int32.ofNat k) (Int32.ofNat n) Q := by
  unfold wX7_keptWorth
  intro x5 e5
  have e5' : x5 = Int32.ofNat (((t * 7 + d) * 100 + k) * 7 + n) := by
    have e1 : Int32.ofNat t * 7 = Int32.ofNat (t * 7) := n_mul (b := 7)
    have e2 : Int32.ofNat (t * 7 + d) * 100 = Int32.ofNat ((t * 7 + d) * 100) := n_mul (b := 100)
    have e3 : Int32.ofNat ((t * 7 + d) * 100 + k) * 7 = Int32.ofNat (((t * 7 + d) * 100 + k) * 7) := n_mul (b := 7)
    rw [e5, e1, n_add, e2, n_add, e3, n_add]
  subst e5'
  have hin : vp_in (Int32.ofNat (((t * 7 + d) * 100 + k) * 7 + n)) 29400 := n_in (by omega) (by decide)
  rw [n_clamp (by omega)]
  refine ⟨hin, fun q => ⟨hin, ?_⟩, fun q => ?_⟩
  · rw [hm t d k n ht hd hk hn q]
    exact h f (fun _ _ _ _ _ => rfl) hm
  · refine pX7_worthBy (by omega) hl (fun F G => ⟨hin, fun f4 e4 => ⟨hin, fun f5 e5 => ⟨hin, ?_⟩⟩⟩)
    have ew : worthV f l t (Int32.ofNat d) (Int32.ofNat k) (Int32.ofNat n) = worthV g l t (Int32.ofNat d) (Int32.ofNat k) (Int32.ofNat n) := by
      unfold worthV
      rw [h1, h3, h6]
    rw [ew] at e4
    have e53 : ∀ j, f5 53 j = if j = ((t * 7 + d) * 100 + k) * 7 + n then worthV g l t (Int32.ofNat d) (Int32.ofNat k) (Int32.ofNat n) else f 53 j := by
      intro j
      rw [e5, upd2_o (by decide), e4, upd2_at]
      rfl
    have e54 : ∀ j, f5 54 j = if j = ((t * 7 + d) * 100 + k) * 7 + n then 1 else f 54 j := by
      intro j
      rw [e5, upd2_at, e4, upd2_o (show (54 : Nat) ≠ 53 by decide)]
      rfl
    rw [e53, if_pos rfl]
    refine h f5 (fun r a1 a2 a3 a4 => ?_) (fun t' d' k' n' b1 b2 b3 b4 b5 => ?_)
    · rw [e5, upd2_o a4, e4, upd2_o a3, updR_n a1, updR_n a2]
    · rw [e53]
      rw [e54] at b5
      by_cases c : ((t' * 7 + d') * 100 + k') * 7 + n' = ((t * 7 + d) * 100 + k) * 7 + n
      · have c1 : t' = t := by omega
        have c2 : d' = d := by omega
        have c3 : k' = k := by omega
        have c4 : n' = n := by omega
        subst c1 c2 c3 c4
        rw [if_pos rfl]
      · rw [if_neg c] at b5 ⊢
        exact hm t' d' k' n' b1 b2 b3 b4 b5
def wwI (g : St) (l : List Nat) (far : Nat → Int32) (T w : Nat) (D : Nat → Nat) : Nat → Int32
  | 0 => 0
  | t + 1 => wwI g l far T w D t + wdV g l far (dH D) T w t (D t)
theorem wwI_in {l : List Nat} {far : Nat → Int32} : ∀ n : Nat, n ≤ 6 → (-999 * (n : Int) ≤ (wwI g l far T w D n).toInt ∧ (wwI g l far T w D n).toInt ≤ 999 * n) ∧ (wwL g l far T w D n).toInt = (wwI g l far T w D n).toInt
  | 0, _ => by
    refine ⟨?_, rfl⟩
    show _ ≤ (0 : Int32).toInt ∧ (0 : Int32).toInt ≤ _
    rw [i0]; omega
  | n + 1, hn => by
    obtain ⟨ih1, ih2⟩ := wwI_in (l := l) (far := far) n (by omega)
    have hc : -999 ≤ (wdV g l far (dH D) T w n (D n)).toInt ∧ (wdV g l far (dH D) T w n (D n)).toInt ≤ 999 := clp_in
    have e : (wwI g l far T w D (n + 1)).toInt = (wwI g l far T w D n).toInt + (wdV g l far (dH D) T w n (D n)).toInt := by
      show (wwI g l far T w D n + wdV g l far (dH D) T w n (D n)).toInt = _
      rw [i_add (by omega) (by omega)]
    refine ⟨by rw [e]; omega, ?_⟩
    show (wwL g l far T w D n + (wdV g l far (dH D) T w n (D n)).toInt64).toInt = _
    rw [Int64.toInt_add, l_of, ih2, e]
    exact Int.bmod_eq_of_le (by omega) (by omega)
theorem wwL_I {l : List Nat} {far : Nat → Int32} (hT6 : T ≤ 6) : wwL g l far T w D T = (wwI g l far T w D T).toInt64 := by
  apply Int64.toInt_inj.mp
  rw [l_of]
  exact (wwI_in T hT6).2
theorem pX7_worthWay {l : List Nat} {far : Nat → Int32} {Q : Int32 → St → Prop} (h1 : f 1 = g 1) (h3 : f 3 = g 3) (hw : g 99 6 = Int32.ofNat w) (h6 : f 99 6 = g 99 6) (hl : partL f 1 l) (hT : f 99 0 = Int32.ofNat T) (hT6 : T ≤ 6) (hw2 : 2 ≤ w) (hw7 : w ≤ 7) (hfr : ∀ a c, a < T → c < T → 0 ≤ (far (6 * a + c)).toInt ∧ (far (6 * a + c)).toInt ≤ 99) (h39 : f 39 = far) (hD : ∀ t, t < T → D t < w) (h52 : ∀ t, t < T → f 52 t = i_shl 1 (Int32.ofNat (D t))) (hm : memR g l T w f) (h : ∀ f', mkR f f' → memR g l T w f' → Q (wwI g l far T w D T) f') : wX7_worthWay f Q := by
  unfold wX7_worthWay
  refine ijX7_worthWay_4_2 T 0 (by omega) (by omega) (fun t x1 f' => x1 = wwI g l far T w D t ∧ mkR f f' ∧ memR g l T w f') ?_ _ _ ⟨rfl, fun _ _ _ _ _ => rfl, hm⟩
  clear hm
  intro K t x1 f' _ ht hP hK
  obtain ⟨rfl, hmk, hm⟩ := hP
  have e52 : f' 52 = f 52 := hmk 52 (by decide) (by decide) (by decide) (by decide)
  have e99 : f' 99 = f 99 := hmk 99 (by decide) (by decide) (by decide) (by decide)
  have e39 : f' 39 = far := (hmk 39 (by decide) (by decide) (by decide) (by decide)).trans h39
  unfold wbX7_worthWay_4
  rw [e99, hT, n_clamp (n := t) (by omega), e52]
  refine w_upto (by omega) ht (fun q => ?_) (fun hlt => ?_)
  · subst q
    exact h f' hmk hm
  have hDt := hD t hlt
  rw [h52 t hlt]
  refine ⟨n_in (by omega) (by decide), pX7_dayIn (by omega) ?_⟩
  rw [e99, h6, hw]
  refine ⟨fun q => ?_, fun x4 e4 => ?_⟩
  · have := (n_eqI (a := w) (b := 0) (by omega) (by decide)).mp q
    omega
  have e : Int32.ofNat (D t) + Int32.ofNat w - 1 = Int32.ofNat (D t + w - 1) := by
    rw [n_add]
    exact n_sub (a := D t + w) (b := 1) (by omega)
  have hmE : (D t + w - 1) % w < w := Nat.mod_lt _ (by omega)
  rw [e, n_rem (by omega) (by omega)] at e4
  generalize hE : (D t + w - 1) % w = E at hmE e4
  subst e4
  refine icX7_worthWay_49_7 T 0 (by omega) (by omega) (fun _ => True) (fun _ => wwI g l far T w D t) (fun _ => Int32.ofNat t) (fun _ => Int32.ofNat (D t)) (fun _ => i_shl 1 (Int32.ofNat E)) (fun q => hrN far (dH D) t E q) (fun q => Int32.ofNat (ocN (dH D) t (D t) q)) (fun _ => f') trivial ?_
  intro K2 q _ hq _ hK2
  unfold wbX7_worthWay_49
  rw [e99, hT]
  refine w_upto (by omega) hq (fun z => ?_) (fun hltq => ?_)
  · subst z
    have hh := hrN_in (H := dH D) (e := E) hfr hlt q (Nat.le_refl _)
    obtain ⟨k, hk, ek⟩ := bN_of (m := 99) hh.1 hh.2 (by decide)
    have hoc := (ocN_le (H := dH D) (t := t) (d := D t) q).2 hlt
    rw [ek]
    have hl' : partL f' 1 l := by
      unfold partL at hl ⊢
      rw [e99, hmk 12 (by decide) (by decide) (by decide) (by decide), hmk 13 (by decide) (by decide) (by decide) (by decide)]
      exact hl
    refine pX7_keptWorth (g := g) (T := q) (w := w) ((hmk 1 (by decide) (by decide) (by decide) (by decide)).trans h1) ((hmk 3 (by decide) (by decide) (by decide) (by decide)).trans h3) (by rw [e99]; exact h6) hl' hT6 hw7 hlt hDt hk (by omega) hm (fun f2 hmk2 hm2 x1 e1 x2 e2 => ?_)
    rw [n_suc] at e2
    subst e2
    refine hK _ _ hlt ⟨?_, mkR_tr hmk hmk2, hm2⟩
    rw [e1]
    show _ = wwI g l far q w D t + wdV g l far (dH D) q w t (D t)
    unfold wdV
    rw [hE, ek, otN_oc]
  have hDq := hD q hltq
  have eqt : (Int32.ofNat q = Int32.ofNat t) ↔ q = t := n_eqI (by omega) (by omega)
  have hinq : vp_in (Int32.ofNat q) 6 := n_in (by omega) (by decide)
  have i1 : (6 : Int32) * Int32.ofNat t + Int32.ofNat q = Int32.ofNat (6 * t + q) := n_ix
  have hbE : (i_shr (dH D q) (Int32.ofNat E) &&& 1 = 1) ↔ D q = E := sbt_tab (D q) (by omega) E (by omega)
  have hbD : (i_shr (dH D q) (Int32.ofNat (D t)) &&& 1 = 1) ↔ D q = D t := sbt_tab (D q) (by omega) (D t) (by omega)
  have hsE := seq_tab (D q) (by omega) E (by omega)
  have hsD := seq_tab (D q) (by omega) (D t) (by omega)
  have h141 : ∀ v (u : Int32) (c : Int32), v = hrN far (dH D) t E (q + 1) → Int32.ofNat (ocN (dH D) t (D t) q) + c = Int32.ofNat (ocN (dH D) t (D t) (q + 1)) → ∀ K3, wbX7_worthWay_141 K2 K3 Q (wwI g l far T w D t) (Int32.ofNat t) (Int32.ofNat (D t)) (i_shl 1 (Int32.ofNat E)) v (Int32.ofNat q) c (Int32.ofNat (ocN (dH D) t (D t) q)) f' := by
    intro v u c hv hc K3 x6 e6 x7 e7
    rw [n_suc] at e7
    subst e7
    rw [e6, hc, hv]
    exact hK2 hltq trivial
  have h110 : ∀ v, v = hrN far (dH D) t E (q + 1) → ∀ K3, wbX7_worthWay_110 K2 K3 Q (wwI g l far T w D t) (Int32.ofNat t) (Int32.ofNat (D t)) (i_shl 1 (Int32.ofNat E)) (Int32.ofNat (ocN (dH D) t (D t) q)) (Int32.ofNat q) v f' := by
    intro v hv K3
    unfold wbX7_worthWay_110 wbX7_worthWay_140
    rw [n_clamp (n := q) (by omega), n_clamp (n := t) (by omega), e52, h52 q hltq, h52 t hlt]
    refine ⟨fun z => h141 _ 0 _ hv ?_ _, fun z => ⟨hinq, n_in (by omega) (by decide), fun y => h141 _ 0 _ hv ?_ _, fun y => h141 _ 0 _ hv ?_ _⟩⟩
    · rw [Int32.add_zero]
      show _ = Int32.ofNat (if q = t then _ else _)
      rw [if_pos (eqt.mp z)]
    · rw [Int32.add_zero]
      show _ = Int32.ofNat (if q = t then _ else if _ then _ else _)
      rw [if_neg (fun c => z (eqt.mpr c)), if_neg (fun c => y (hsD.mpr (hbD.mp c)))]
    · rw [n_suc]
      show _ = Int32.ofNat (if q = t then _ else if _ then _ else _)
      rw [if_neg (fun c => z (eqt.mpr c)), if_pos (hbD.mpr (hsD.mp y))]
  rw [i1, n_clamp (n := q) (by omega), n_clamp (n := 6 * t + q) (by omega), e52, e39, h52 q hltq]
  unfold wbX7_worthWay_108
  refine ⟨fun z => h110 _ ?_ _, fun z => ⟨hinq, fun y => h110 _ ?_ _, fun y => ⟨n_in (by omega) (by decide), fun c => h110 _ ?_ _, fun c => ⟨n_in (by omega) (by decide), h110 _ ?_ _⟩⟩⟩⟩
  · show _ = if q = t then _ else _
    rw [if_pos (eqt.mp z)]
  · show _ = if q = t then _ else if _ then _ else _
    rw [if_neg (fun c => z (eqt.mpr c)), if_neg (fun c => y (hsE.mpr (hbE.mp c)))]
  · show _ = if q = t then _ else if _ then (if _ then _ else _) else _
    rw [if_neg (fun c2 => z (eqt.mpr c2)), if_pos (hbE.mpr (hsE.mp y)), if_pos c]
  · show _ = if q = t then _ else if _ then (if _ then _ else _) else _
    rw [if_neg (fun c2 => z (eqt.mpr c2)), if_pos (hbE.mpr (hsE.mp y)), if_neg c]
theorem pX7_keeps {Q : St → Prop} (hT : f 99 0 = Int32.ofNat T) (hT6 : T ≤ 6) (hD : ∀ t, t < T → D t < 7) (h52 : ∀ t, t < T → f 52 t = i_shl 1 (Int32.ofNat (D t))) (h22 : rIn 6 (f 22) 0 6) (h : ∀ F, (∀ i, i < T → F i = Int32.ofNat (D i)) → rIn 6 F 0 6 → Q (updR (upd2 (upd2 f 99 20 1) 99 21 (Int32.ofNat T)) 22 F)) : wX7_keeps f Q := by
  unfold wX7_keeps
  intro f1 e1 f2 e2
  have e10 : f1 99 0 = Int32.ofNat T := by rw [e1]; exact hT
  rw [e10] at e2
  have e2' : f2 = upd2 (upd2 f 99 20 1) 99 21 (Int32.ofNat T) := by rw [e2, e1]
  subst e2'
  have h0 : upd2 (upd2 f 99 20 1) 99 21 (Int32.ofNat T) = updR (upd2 (upd2 f 99 20 1) 99 21 (Int32.ofNat T)) 22 (f 22) := by
    have : f 22 = (upd2 (upd2 f 99 20 1) 99 21 (Int32.ofNat T)) 22 := rfl
    rw [this, updR_self]
  refine ijX7_keeps_15_1 T 0 (by omega) (by omega) (fun t f' => ∃ F, f' = updR (upd2 (upd2 f 99 20 1) 99 21 (Int32.ofNat T)) 22 F ∧ (∀ i, i < t → F i = Int32.ofNat (D i)) ∧ rIn 6 F 0 6) ?_ _ ⟨f 22, h0, fun i hi => absurd hi (Nat.not_lt_zero _), h22⟩
  intro K t f' _ ht hP hK
  obtain ⟨F, rfl, hF, hFr⟩ := hP
  have e0 : (updR (upd2 (upd2 f 99 20 1) 99 21 (Int32.ofNat T)) 22 F) 99 0 = Int32.ofNat T := hT
  unfold wbX7_keeps_15
  rw [e0, n_clamp (n := t) (by omega)]
  refine w_upto (by omega) ht (fun q => ?_) (fun hlt => ?_)
  · subst q
    exact h F hF hFr
  have e52 : (updR (upd2 (upd2 f 99 20 1) 99 21 (Int32.ofNat T)) 22 F) 52 t = i_shl 1 (Int32.ofNat (D t)) := h52 t hlt
  rw [e52]
  have hDt := hD t hlt
  refine ⟨n_in (by omega) (by decide), pX7_dayIn (by omega) ⟨n_in (by omega) (by decide), fun f5 e5 x1 e1 => ?_⟩⟩
  rw [n_suc] at e1
  subst e1
  rw [updR_upd2'] at e5
  refine hK _ hlt ⟨_, e5, fun i hi => ?_, rIn_upd hFr (by rw [n_toInt (by omega)]; omega) (by rw [n_toInt (by omega)]; omega)⟩
  by_cases c : i = t
  · subst c; exact upd_s
  · rw [upd_n c]; exact hF i (by omega)
end
