/-! PLAIN LAYER: wholeWorth, moved; meets by aims 2 and 3 -/
set_option maxRecDepth 100000
/-- days D as bits -/
def dH (D : Nat → Nat) (i : Nat) : Int32 := i_shl 1 (Int32.ofNat (D i))
def wwL (g : St) (l : List Nat) (far : Nat → Int32) (T w : Nat) (D : Nat → Nat) : Nat → Int64
  | 0 => 0
  | t + 1 => wwL g l far T w D t + (wdV g l far (dH D) T w t (D t)).toInt64
def mvN (nt : Nat) (G : Nat → Int32) (D : Nat → Nat) : Nat → Nat
  | 0 => 0
  | t + 1 => mvN nt G D t + (if t < nt ∧ G t = Int32.ofNat (D t) then 0 else 1)
theorem mvN_le {nt : Nat} {G : Nat → Int32} {D : Nat → Nat} : ∀ n, mvN nt G D n ≤ n
  | 0 => Nat.le_refl _
  | n + 1 => by
    have ih := mvN_le (nt := nt) (G := G) (D := D) n
    unfold mvN
    by_cases c : n < nt ∧ G n = Int32.ofNat (D n)
    · rw [if_pos c]; omega
    · rw [if_neg c]; omega
section
variable {b o : Nat} {cs ad : Nat → Nat} {vs : Nat → Option Nat} {S0 : XS} {g : St} {T w : Nat}
theorem pX0_wholeWorth {l : List Nat} {far : Nat → Int32} {D : Nat → Nat} {f : XS} {Q : Int64 → XS → Prop} (hTX : f.1 99 6 = Int32.ofNat T) (hT6 : T ≤ 6) (hwX : f.1 99 7 = Int32.ofNat w) (hw2 : 2 ≤ w) (hw7 : w ≤ 7) (hD : ∀ i, i < T → D i < w) (h14 : ∀ i, i < T → f.1 14 i = i_shl 1 (Int32.ofNat (D i))) (h19 : ∀ i, i < T → f.1 19 i = Int32.ofNat (D i)) (hfar : ∀ a c, a < T → c < T → f.1 5 (6 * a + c) = far (6 * a + c)) (h23 : ∀ t d q n, t < T → d < w → q ≤ T → n < 6 → f.1 23 (((t * 7 + d) * 7 + q) * 6 + n) = tlV g l far T t d q n) (h : Q (wwL g l far T w D T) f) : wX0_wholeWorth b cs ad vs o f Q := by
  unfold wX0_wholeWorth
  refine icX0_wholeWorth_4_3 T 0 (by omega) (by omega) (fun _ => True) (fun t => wwL g l far T w D t) (fun _ => f) trivial ?_
  intro K t _ ht _ hK
  unfold wbX0_wholeWorth_4
  rw [hTX]
  refine w_upto (by omega) ht (fun q => ?_) (fun hlt => ?_)
  · subst q
    exact h
  have hDt := hD t hlt
  have hin : vp_in (Int32.ofNat t) 6 := n_in (by omega) (by decide)
  rw [n_clamp (n := t) (by omega), h14 t hlt, h19 t hlt, hwX]
  refine ⟨hin, fun _ => ⟨hin, fun q => ?_, fun x4 e4 x5 e5 => ?_⟩, fun q => absurd q (shl_ne0 (by omega))⟩
  · have := (n_eqI (a := w) (b := 0) (by omega) (by decide)).mp q
    omega
  have e : Int32.ofNat (D t) + Int32.ofNat w - 1 = Int32.ofNat (D t + w - 1) := by
    rw [n_add]
    exact n_sub (a := D t + w) (b := 1) (by omega)
  have hm : (D t + w - 1) % w < w := Nat.mod_lt _ (by omega)
  rw [e, n_rem (by omega) (by omega)] at e4
  generalize hE : (D t + w - 1) % w = E at hm e4
  subst e4
  subst e5
  refine ijX0_wholeWorth_58_7 T 0 (by omega) (by omega) (fun q x1 x3 x4 x5 x6 f' => x1 = wwL g l far T w D t ∧ x3 = Int32.ofNat t ∧ x4 = i_shl 1 (Int32.ofNat E) ∧ (∃ nr, nr ≤ T ∧ x5 = Int32.ofNat nr ∧ hrN far (dH D) t E q = if nr = T then 99 else far (6 * t + nr)) ∧ x6 = Int32.ofNat (ocN (dH D) t (D t) q) ∧ f' = f) ?_ _ _ _ _ _ _ ⟨rfl, rfl, rfl, ⟨T, Nat.le_refl _, rfl, by rw [if_pos rfl]; rfl⟩, rfl, rfl⟩
  intro K2 q x1 x3 x4 x5 x6 f' _ hq hP hK2
  obtain ⟨rfl, rfl, rfl, ⟨nr, hnr, rfl, hhr⟩, rfl, rfl⟩ := hP
  unfold wbX0_wholeWorth_58
  rw [hTX]
  refine w_upto (by omega) hq (fun z => ?_) (fun hltq => ?_)
  · subst z
    have hoc := (ocN_le (H := dH D) (t := t) (d := D t) q).2 hlt
    rw [n_clamp (n := t) (by omega), h19 t hlt]
    have ei : (((Int32.ofNat t * 7 + Int32.ofNat (D t)) * 7 + Int32.ofNat nr) * 6 + Int32.ofNat (ocN (dH D) t (D t) q)) = Int32.ofNat (((t * 7 + D t) * 7 + nr) * 6 + ocN (dH D) t (D t) q) := by
      have e1 : Int32.ofNat t * 7 = Int32.ofNat (t * 7) := n_mul (b := 7)
      have e2 : Int32.ofNat (t * 7 + D t) * 7 = Int32.ofNat ((t * 7 + D t) * 7) := n_mul (b := 7)
      have e3 : Int32.ofNat ((t * 7 + D t) * 7 + nr) * 6 = Int32.ofNat (((t * 7 + D t) * 7 + nr) * 6) := n_mul (b := 6)
      rw [e1, n_add, e2, n_add, e3, n_add]
    rw [ei, n_clamp (by omega), h23 t (D t) nr _ hlt hDt hnr (by omega)]
    refine ⟨hin, n_in (by omega) (by decide), fun x1 e1 => ?_⟩
    intro x3 e3
    rw [n_suc] at e3
    subst e3
    have e1' : x1 = wwL g l far q w D (t + 1) := by
      rw [e1]
      show _ = wwL g l far q w D t + (wdV g l far (dH D) q w t (D t)).toInt64
      unfold wdV tlV
      rw [hE, hhr, otN_oc]
    rw [e1']
    exact hK hlt trivial
  have hDq := hD q hltq
  have eqt : (Int32.ofNat q = Int32.ofNat t) ↔ q = t := n_eqI (by omega) (by omega)
  have hinq : vp_in (Int32.ofNat q) 6 := n_in (by omega) (by decide)
  have i1 : (6 : Int32) * Int32.ofNat t + Int32.ofNat q = Int32.ofNat (6 * t + q) := n_ix
  have i2 : (6 : Int32) * Int32.ofNat t + Int32.ofNat nr = Int32.ofNat (6 * t + nr) := n_ix
  have enr : (Int32.ofNat nr = Int32.ofNat T) ↔ nr = T := n_eqI (by omega) (by omega)
  have hbE : (i_shr (dH D q) (Int32.ofNat E) &&& 1 = 1) ↔ D q = E := sbt_tab (D q) (by omega) E (by omega)
  have hbD : (i_shr (dH D q) (Int32.ofNat (D t)) &&& 1 = 1) ↔ D q = D t := sbt_tab (D q) (by omega) (D t) (by omega)
  -- behind the choice of the nearest
  have h149 : ∀ nr', nr' ≤ T → hrN far (dH D) t E (q + 1) = (if nr' = T then 99 else far (6 * t + nr')) → ¬ q = t → ∀ K3, wbX0_wholeWorth_149 b cs ad vs o K2 K3 Q (wwL g l far T w D t) (Int32.ofNat t) (i_shl 1 (Int32.ofNat E)) (Int32.ofNat nr') (Int32.ofNat (ocN (dH D) t (D t) q)) (Int32.ofNat q) f' := by
    intro nr' hnr' hh hqt K3
    unfold wbX0_wholeWorth_149 wbX0_wholeWorth_168
    rw [n_clamp (n := q) (by omega), n_clamp (n := t) (by omega), h14 q hltq, h14 t hlt]
    have hs := seq_tab (D q) (by omega) (D t) (by omega)
    refine ⟨hinq, hin, fun y x7 e7 => ?_, fun y x6 e6 x7 e7 => ?_⟩
    · rw [n_suc] at e7
      subst e7
      refine hK2 _ _ _ _ _ _ hltq ⟨rfl, rfl, rfl, ⟨nr', hnr', rfl, hh⟩, ?_, rfl⟩
      show _ = Int32.ofNat (if q = t then _ else if _ then _ else _)
      rw [if_neg hqt, if_neg (fun z => y (hs.mpr (hbD.mp z)))]
    · rw [n_suc] at e7 e6
      subst e7
      refine hK2 _ _ _ _ _ _ hltq ⟨rfl, rfl, rfl, ⟨nr', hnr', rfl, hh⟩, ?_, rfl⟩
      show _ = Int32.ofNat (if q = t then _ else if _ then _ else _)
      rw [if_neg hqt, if_pos (hbD.mpr (hs.mp y)), e6]
  refine ⟨fun z => ⟨hinq, ?_⟩, fun z => ?_⟩
  · have hqt : ¬ q = t := fun y => z (eqt.mpr y)
    have hstep : hrN far (dH D) t E (q + 1) = if i_shr (dH D q) (Int32.ofNat E) &&& 1 = 1 then (if hrN far (dH D) t E q ≤ far (6 * t + q) then hrN far (dH D) t E q else far (6 * t + q)) else hrN far (dH D) t E q := by
      show (if q = t then _ else _) = _
      rw [if_neg hqt]
    rw [n_clamp (n := q) (by omega), h14 q hltq, snz_tab (D q) (by omega) E (by omega), i1, i2, n_clamp (n := 6 * t + q) (by omega), hfar t q hlt hltq]
    refine ⟨fun y => h149 nr hnr (by rw [hstep, if_neg (fun c => y (hbE.mp c))]; exact hhr) hqt _, fun y => ?_⟩
    have hy : i_shr (dH D q) (Int32.ofNat E) &&& 1 = 1 := hbE.mpr (Classical.not_not.mp y)
    rw [if_pos hy] at hstep
    refine ⟨fun c => ?_, fun c => ?_⟩
    · have hnT : ¬ nr = T := fun c2 => c (enr.mpr c2)
      rw [if_neg hnT] at hhr
      rw [n_clamp (n := 6 * t + nr) (by omega), hfar t nr hlt (by omega)]
      refine ⟨n_in (by omega) (by decide), n_in (by omega) (by decide), fun c3 => h149 nr hnr ?_ hqt _, fun c3 => ?_⟩
      · rw [hstep, hhr, if_pos c3, if_neg hnT]
      · unfold wbX0_wholeWorth_145
        refine h149 q (by omega) ?_ hqt _
        rw [hstep, hhr, if_neg c3, if_neg (by omega)]
    · have hnT := enr.mp c
      rw [if_pos hnT] at hhr
      refine ⟨n_in (by omega) (by decide), fun c3 => h149 nr hnr ?_ hqt _, fun c3 => ?_⟩
      · rw [hstep, hhr, if_pos c3, if_pos hnT]
      · unfold wbX0_wholeWorth_145
        refine h149 q (by omega) ?_ hqt _
        rw [hstep, hhr, if_neg c3, if_neg (by omega)]
  · have hqt := eqt.mp z
    intro x7 e7
    rw [n_suc] at e7
    subst e7
    refine hK2 _ _ _ _ _ _ hltq ⟨rfl, rfl, rfl, ⟨nr, hnr, rfl, ?_⟩, ?_, rfl⟩
    · show (if q = t then _ else _) = _
      rw [if_pos hqt]
      exact hhr
    · show _ = Int32.ofNat (if q = t then _ else _)
      rw [if_pos hqt]
theorem pX0_moved {i a k n : Nat} {G : Nat → Int32} {D : Nat → Nat} {f : XS} {Q : Int32 → XS → Prop} (hfr : f.2.1.2 = some a) (hg : gvAt o cs f.2.2.1 g i a k n G) (hTX : f.1 99 6 = Int32.ofNat T) (hT6 : T ≤ 6) (h19 : ∀ i, i < T → f.1 19 i = Int32.ofNat (D i)) (h : Q (Int32.ofNat (mvN n G D T)) f) : wX0_moved b cs ad vs o f Q := by
  obtain ⟨ha, hk6, hn, ⟨da, hda, hOb, hdD⟩, h17, h18, hD⟩ := hg
  have hgo : gOk (3 + k) = true := by
    have : k = 0 ∨ k = 1 ∨ k = 2 ∨ k = 3 ∨ k = 4 ∨ k = 5 := by omega
    rcases this with q | q | q | q | q | q <;> subst q <;> rfl
  unfold wX0_moved
  refine icX0_moved_4_2 T 0 (by omega) (by omega) (fun _ => True) (fun t => Int32.ofNat (mvN n G D t)) (fun _ => f) trivial ?_
  intro K t _ ht _ hK
  unfold wbX0_moved_4
  rw [hTX]
  refine w_upto (by omega) ht (fun q => ?_) (fun hlt => ?_)
  · subst q
    exact h
  have hle := n_leI (a := n) (b := t) (by omega) (by omega)
  have h41 : ¬ (t < n ∧ G t = Int32.ofNat (D t)) → wbX0_moved_41 b cs ad vs o K Q (Int32.ofNat (mvN n G D t)) (Int32.ofNat t) f := by
    intro hc x1 e1 x2 e2
    rw [n_suc] at e1 e2
    subst e2
    have : x1 = Int32.ofNat (mvN n G D (t + 1)) := by
      rw [e1]
      show _ = Int32.ofNat (mvN n G D t + (if _ then 0 else 1))
      rw [if_neg hc]
    rw [this]
    exact hK hlt trivial
  refine ⟨a, hfr, ha, _, _, _, _, hOb, hgo, fun q => h41 (fun c => by have := hle.mp q; omega), fun q => ⟨a, hfr, ha, _, _, _, _, hOb, hgo, da, rfl, hda, n, G, hdD, ?_⟩⟩
  have htn : t < n := by
    have : ¬ n ≤ t := fun z => q (hle.mpr z)
    omega
  rw [n_clamp (by omega), h19 t hlt]
  refine ⟨n_in htn (by omega), n_in (by omega) (by decide), fun z x2 e2 => ?_, fun z => h41 (fun c => z c.2)⟩
  rw [n_suc] at e2
  subst e2
  have : Int32.ofNat (mvN n G D t) = Int32.ofNat (mvN n G D (t + 1)) := by
    show _ = Int32.ofNat (mvN n G D t + (if _ then 0 else 1))
    rw [if_pos ⟨htn, z⟩, Nat.add_zero]
  rw [this]
  exact hK hlt trivial
theorem mt_2 {l : List Nat} {far : Nat → Int32} (hT6 : T ≤ 6) (hw2 : 2 ≤ w) (hw7 : w ≤ 7) (h21 : S0.1 99 21 = Int32.ofNat 2) (h6 : S0.1 99 6 = Int32.ofNat T) (h7 : S0.1 99 7 = Int32.ofNat w) (hfar : ∀ a c, a < T → c < T → S0.1 5 (6 * a + c) = far (6 * a + c)) (h23 : ∀ t d q n, t < T → d < w → q ≤ T → n < 6 → S0.1 23 (((t * 7 + d) * 7 + q) * 6 + n) = tlV g l far T t d q n) : mtOk b o cs ad vs S0 T w (i_shl 1 (Int32.ofNat T) - 1) 2 (fun P => wwL g l far T w (dyO P) T) := by
  intro P A f Q hl hPw hA hb hp h
  unfold wX0_meets
  intro f1 e1
  have hb1 := sx_inc hb e1
  have e21 : f1.1 99 21 = 2 := by rw [hb1.2.1 21 (by decide) (by decide)]; exact h21
  have hp1 : sxP (iS (i_shl 1 (Int32.ofNat T) - 1)) T P f1 := by rw [e1]; exact hp
  rw [e21]
  refine ⟨fun q => absurd q (by decide), fun _ => ⟨fun q => absurd q (by decide), fun _ => ⟨fun _ => ?_, fun q => absurd rfl q⟩⟩⟩
  refine pX0_wholeWorth (g := g) (l := l) (far := far) (D := dyO P) (w := w) (T := T) (by rw [hb1.2.1 6 (by decide) (by decide)]; exact h6) hT6 (by rw [hb1.2.1 7 (by decide) (by decide)]; exact h7) hw2 hw7 (fun i hi => dyO_lt hPw (by omega)) (fun i hi => by rw [hp1.1 i hi]; exact hO_all hT6 hl hi) (fun i hi => hp1.2.1 i (by omega)) (fun a c ha hc => by rw [hb1.1 5 (by decide) (by decide) (by decide) (by decide) (by decide)]; exact hfar a c ha hc) (fun t d q n a1 a2 a3 a4 => by rw [hb1.1 23 (by decide) (by decide) (by decide) (by decide) (by decide)]; exact h23 t d q n a1 a2 a3 a4) ?_
  refine x_meets76 (aim := 2) (by decide) (by decide) hT6 h21 hl hb1 hp1 (fun f' hb' hp' => ?_)
  exact h f' hb' hp'
theorem mt_3 {i a k n : Nat} {G : Nat → Int32} (hT6 : T ≤ 6) (h21 : S0.1 99 21 = Int32.ofNat 3) (h6 : S0.1 99 6 = Int32.ofNat T) (hfr : S0.2.1.2 = some a) (hg : gvAt o cs S0.2.2.1 g i a k n G) : mtOk b o cs ad vs S0 T w (i_shl 1 (Int32.ofNat T) - 1) 3 (fun P => (-(Int32.ofNat (mvN n G (dyO P) T))).toInt64) := by
  intro P A f Q hl hPw hA hb hp h
  unfold wX0_meets
  intro f1 e1
  have hb1 := sx_inc hb e1
  have e21 : f1.1 99 21 = 3 := by rw [hb1.2.1 21 (by decide) (by decide)]; exact h21
  have hp1 : sxP (iS (i_shl 1 (Int32.ofNat T) - 1)) T P f1 := by rw [e1]; exact hp
  rw [e21]
  refine ⟨fun q => absurd q (by decide), fun _ => ⟨fun q => absurd q (by decide), fun _ => ⟨fun q => absurd q (by decide), fun _ => ?_⟩⟩⟩
  refine pX0_moved (g := g) (i := i) (a := a) (k := k) (n := n) (G := G) (D := dyO P) (T := T) (by rw [hb1.2.2.1]; exact hfr) (by rw [hb1.2.2.2.1]; exact hg) (by rw [hb1.2.1 6 (by decide) (by decide)]; exact h6) hT6 (fun i hi => hp1.2.1 i (by omega)) (fun x1 ex => ?_)
  subst ex
  refine x_meets76 (aim := 3) (by decide) (by decide) hT6 h21 hl hb1 hp1 (fun f' hb' hp' => ?_)
  exact h f' hb' hp'
end
