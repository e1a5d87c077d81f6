/-! PLAIN LAYER: what a town's days are worth: worthAt, worthNow, worthIn -/
set_option maxRecDepth 100000
theorem anz_tab : ∀ a, a < 128 → ∀ e, e < 7 → ((Int32.ofNat a &&& i_shl 1 (Int32.ofNat e) = 0) ↔ ¬ (i_shr (Int32.ofNat a) (Int32.ofNat e) &&& 1 = 1)) := by decide +kernel
def btI (x : Int32) (d : Nat) : Prop := i_shr x (Int32.ofNat d) &&& 1 = 1
/-- the nearest town that has the day e, among the first n -/
def hrN (far H : Nat → Int32) (t e : Nat) : Nat → Int32
  | 0 => 99
  | o + 1 => if o = t then hrN far H t e o else if i_shr (H o) (Int32.ofNat e) &&& 1 = 1 then (if hrN far H t e o ≤ far (6 * t + o) then hrN far H t e o else far (6 * t + o)) else hrN far H t e o
def otN (H : Nat → Int32) (t d : Nat) : Nat → Int32
  | 0 => 0
  | o + 1 => if o = t then otN H t d o else if i_shr (H o) (Int32.ofNat d) &&& 1 = 1 then otN H t d o + 1 else otN H t d o
/-- what day d is worth to t -/
def wdV (g : St) (l : List Nat) (far H : Nat → Int32) (T w t d : Nat) : Int32 := worthV g l t (Int32.ofNat d) (hrN far H t ((d + w - 1) % w) T) (otN H t d T)
def wsN (g : St) (l : List Nat) (far H : Nat → Int32) (T w t : Nat) : Nat → Int32
  | 0 => 0
  | d + 1 => if i_shr (H t) (Int32.ofNat d) &&& 1 = 1 then wsN g l far H T w t d + wdV g l far H T w t d else wsN g l far H T w t d
def mnN (H : Nat → Int32) (t : Nat) : Nat → Nat
  | 0 => 0
  | d + 1 => if i_shr (H t) (Int32.ofNat d) &&& 1 = 1 then mnN H t d + 1 else mnN H t d
/-- what it comes to by kinds -/
def kdV (k : Nat) (v : Int32) : Int32 := if k = 2 then v / 2 else if k = 3 then v - 2 else if k = 4 then v - 2 else if k = 5 then v + 1 else v
def waV (g : St) (l : List Nat) (far H : Nat → Int32) (T w k t : Nat) : Int32 := kdV k (if H t = 0 ∧ (k = 1 ∨ k = 5) then -1 else wsN g l far H T w t w)
theorem hrN_congr {far far' H H' : Nat → Int32} {t e T : Nat} (ht : t < T) (hf : ∀ a c, a < T → c < T → far (6 * a + c) = far' (6 * a + c)) (hH : ∀ o, o < T → H o = H' o) : ∀ n, n ≤ T → hrN far H t e n = hrN far' H' t e n
  | 0, _ => rfl
  | n + 1, hn => by
    unfold hrN
    rw [hrN_congr ht hf hH n (by omega), hH n (by omega), hf t n ht (by omega)]
theorem otN_congr {H H' : Nat → Int32} {t d T : Nat} (hH : ∀ o, o < T → H o = H' o) : ∀ n, n ≤ T → otN H t d n = otN H' t d n
  | 0, _ => rfl
  | n + 1, hn => by
    unfold otN
    rw [otN_congr hH n (by omega), hH n (by omega)]
theorem wsN_congr {g : St} {l : List Nat} {far far' H H' : Nat → Int32} {T w t : Nat} (ht : t < T) (hf : ∀ a c, a < T → c < T → far (6 * a + c) = far' (6 * a + c)) (hH : ∀ o, o < T → H o = H' o) : ∀ n, wsN g l far H T w t n = wsN g l far' H' T w t n
  | 0 => rfl
  | n + 1 => by
    unfold wsN wdV
    rw [wsN_congr ht hf hH n, hH t ht, hrN_congr ht hf hH T (Nat.le_refl _), otN_congr hH T (Nat.le_refl _)]
theorem waV_congr {g : St} {l : List Nat} {far far' H H' : Nat → Int32} {T w k t : Nat} (ht : t < T) (hf : ∀ a c, a < T → c < T → far (6 * a + c) = far' (6 * a + c)) (hH : ∀ o, o < T → H o = H' o) : waV g l far H T w k t = waV g l far' H' T w k t := by
  unfold waV
  rw [wsN_congr ht hf hH w, hH t ht]
theorem mnN_z {w h : Nat} {H : Nat → Int32} {t : Nat} (hw7 : w ≤ 7) (eh : H t = Int32.ofNat h) (hh : h < 2 ^ w) : ∀ n, n ≤ w → (mnN H t n = 0 ↔ ∀ d, d < n → h.testBit d = false)
  | 0, _ => by simp [mnN]
  | n + 1, hn => by
    have ih := mnN_z hw7 eh hh n (by omega)
    have hb := bit_tab h (hd_lt hw7 hh) n (by omega)
    unfold mnN
    rw [eh]
    by_cases q : h.testBit n = true
    · rw [if_pos (hb.mpr q)]
      constructor
      · intro z; omega
      · intro z
        rw [z n (by omega)] at q
        exact absurd q (by decide)
    · rw [if_neg (fun z => q (hb.mp z)), ih]
      constructor
      · intro z d hd
        by_cases e : d = n
        · subst e; simpa using q
        · exact z d (by omega)
      · intro z d hd
        exact z d (by omega)
theorem mnN_0 {w : Nat} {H : Nat → Int32} {t : Nat} (hw7 : w ≤ 7) (hH : hd w (H t)) : mnN H t w = 0 ↔ H t = 0 := by
  obtain ⟨h, hh, eh⟩ := hH
  rw [mnN_z hw7 eh hh w (Nat.le_refl _), eh]
  constructor
  · intro z
    have : h = 0 := by
      apply Nat.eq_of_testBit_eq
      intro d
      rw [Nat.zero_testBit]
      by_cases hd : d < w
      · exact z d hd
      · exact Nat.testBit_lt_two_pow (Nat.lt_of_lt_of_le hh (Nat.pow_le_pow_right (by decide) (by omega)))
    subst this
    rfl
  · intro z
    have : h = 0 := (n_eqI (a := h) (b := 0) (by have := hd_lt hw7 hh; omega) (by decide)).mp z
    subst this
    intro d _
    exact Nat.zero_testBit d
theorem mnN_le {H : Nat → Int32} {t : Nat} : ∀ n, mnN H t n ≤ n
  | 0 => Nat.le_refl _
  | n + 1 => by
    have ih := mnN_le (H := H) (t := t) n
    unfold mnN
    by_cases q : i_shr (H t) (Int32.ofNat n) &&& 1 = 1
    · rw [if_pos q]; omega
    · rw [if_neg q]; omega
section
variable {b o : Nat} {cs ad : Nat → Nat} {vs : Nat → Option Nat} {S : XS} {g : St} {T w : Nat}
/-- what the worth of a day needs of the class's state -/
def dxR (o : Nat) (cs : Nat → Nat) (S : XS) (g : St) (r : Nat) (l : List Nat) : Prop := rEq 6 (S.1 0) (g 1) ∧ rEq 6 (S.1 2) (g 3) ∧ S.1 99 7 = g 99 6 ∧ S.1 99 13 = Int32.ofNat r ∧ r < 6 ∧ txR o cs S r 1 l ∧ okL l 0 1
theorem dxR_S {S' : XS} {r : Nat} {l : List Nat} (hx : xS S S') (h : dxR o cs S g r l) : dxR o cs S' g r l := by
  obtain ⟨h1, h3, h4, h5, h6, h7, h8⟩ := h
  unfold dxR
  rw [xS_n hx (show (0 : Nat) ≠ 12 by decide) (by decide), xS_n hx (show (2 : Nat) ≠ 12 by decide) (by decide), xS_n hx (show (99 : Nat) ≠ 12 by decide) (by decide)]
  exact ⟨h1, h3, h4, h5, h6, wX_Z (xS_2 hx) h7, h8⟩
theorem dxr_of (hI : RI S.1 g) (hM : MI g) (hR : RT o cs S g) : ∃ (r : Nat) (l : List Nat), dxR o cs S g r l ∧ partL g 1 l := by
  obtain ⟨r, l, hr6, er, htx, hpl⟩ := RT_at hR hM 1 (by decide)
  obtain ⟨⟨a1, a2, a3, a4, a5, a6⟩, ⟨r0, r1, r2, r3, r4⟩, -⟩ := hI
  have hok : okL l 0 1 := by
    obtain ⟨_, _, _, _, _, _, _, _, h7⟩ := hpl
    exact h7
  exact ⟨r, l, ⟨r0, r2, a2, a4.trans er, hr6, htx, hok⟩, hpl⟩
theorem pX0_sayW {r t : Nat} {l : List Nat} {d hours others : Int32} {Q : Int32 → XS → Prop} (hc : dxR o cs S g r l) (ht : t < 6) (h : ∀ S', xS S S' → S'.1 14 = S.1 14 → Q (worthV g l t d hours others) S') : wX0_saysWorth b cs ad vs o S (Int32.ofNat t) d hours others Q := by
  obtain ⟨h1, h3, h4, h5, h6, h7, h8⟩ := hc
  refine pX0_saysWorth ht h5 h6 h7 h8 ?_
  have e : clp (nV (nm6 (fun _ => 0) hours (S.1 0 t) others d (b3 (S.1 2 t = d)) (S.1 99 7)) l) = worthV g l t d hours others := by
    unfold worthV
    rw [h1 t ht, h3 t ht, h4]
  rw [e]
  exact h _ ⟨_, _, x12⟩ rfl
theorem pX0_hoursAhead {far H : Nat → Int32} {t d : Nat} {Q : Int32 → XS → Prop} (hTX : S.1 99 6 = Int32.ofNat T) (hT6 : T ≤ 6) (hwX : S.1 99 7 = Int32.ofNat w) (hw2 : 2 ≤ w) (hw7 : w ≤ 7) (ht : t < T) (hd' : d < w) (hH : ∀ o, o < T → hd w (S.1 14 o)) (hfar : ∀ a c, a < T → c < T → S.1 5 (6 * a + c) = far (6 * a + c)) (h : Q (hrN far (S.1 14) t ((d + w - 1) % w) T) S) : wX0_hoursAhead b cs ad vs o S (Int32.ofNat t) (Int32.ofNat d) Q := by
  unfold wX0_hoursAhead
  rw [hwX]
  have e : Int32.ofNat d + Int32.ofNat w - 1 = Int32.ofNat (d + w - 1) := by
    rw [n_add]
    exact n_sub (a := d + w) (b := 1) (by omega)
  have hm : (d + w - 1) % w < w := Nat.mod_lt _ (by omega)
  generalize hE : (d + w - 1) % w = E at hm h
  refine ⟨fun q => ?_, fun x3 e3 => ?_⟩
  · have := (n_eqI (a := w) (b := 0) (by omega) (by decide)).mp q
    omega
  · rw [e, n_rem (by omega) (by omega), hE] at e3
    subst e3
    refine icX0_hoursAhead_23_5 T 0 (by omega) (by omega) (fun _ => True) (fun _ => Int32.ofNat t) (fun _ => i_shl 1 (Int32.ofNat E)) (fun n => hrN far (S.1 14) t E n) (fun _ => S) trivial ?_
    intro K n _ hn _ hK
    unfold wbX0_hoursAhead_23
    rw [hTX, n_clamp (n := n) (by omega)]
    refine w_upto (by omega) hn (fun q => ?_) (fun hlt => ?_)
    · subst q
      exact h
    · have hgo : ∀ v, v = hrN far (S.1 14) t E (n + 1) → wbX0_hoursAhead_69 b cs ad vs o K Q (Int32.ofNat t) (i_shl 1 (Int32.ofNat E)) v (Int32.ofNat n) S := by
        intro v hv x e
        rw [n_suc] at e
        subst e
        rw [hv]
        exact hK hlt trivial
      have eq : (Int32.ofNat n = Int32.ofNat t) ↔ n = t := n_eqI (by omega) (by omega)
      have i1 : (6 : Int32) * Int32.ofNat t + Int32.ofNat n = Int32.ofNat (6 * t + n) := n_ix
      obtain ⟨a, ha, ea⟩ := hH n hlt
      have hz := anz_tab a (hd_lt hw7 ha) E (by omega)
      rw [← ea] at hz
      rw [i1, n_clamp (n := 6 * t + n) (by omega), hfar t n ht hlt]
      refine ⟨fun q => hgo _ ?_, fun q => ⟨n_in (by omega) (by decide), fun z => hgo _ ?_, fun z => ⟨n_in (by omega) (by decide), fun x4 e4 => hgo _ ?_⟩⟩⟩
      · show _ = if n = t then _ else _
        rw [if_pos (eq.mp q)]
      · show _ = if n = t then _ else if _ then _ else _
        rw [if_neg (fun y => q (eq.mpr y)), if_neg (hz.mp z)]
      · have z' : i_shr (S.1 14 n) (Int32.ofNat E) &&& 1 = 1 := by
          by_cases y : i_shr (S.1 14 n) (Int32.ofNat E) &&& 1 = 1
          · exact y
          · exact absurd (hz.mpr y) z
        show _ = if n = t then _ else if _ then _ else _
        rw [if_neg (fun y => q (eq.mpr y)), if_pos z', e4, i_min_of]
theorem pX0_others {t d : Nat} {Q : Int32 → XS → Prop} (hTX : S.1 99 6 = Int32.ofNat T) (hT6 : T ≤ 6) (ht : t < T) (h : Q (otN (S.1 14) t d T) S) : wX0_others b cs ad vs o S (Int32.ofNat t) (Int32.ofNat d) Q := by
  unfold wX0_others
  refine icX0_others_5_4 T 0 (by omega) (by omega) (fun _ => True) (fun _ => Int32.ofNat t) (fun _ => Int32.ofNat d) (fun n => otN (S.1 14) t d n) (fun _ => S) trivial ?_
  intro K n _ hn _ hK
  unfold wbX0_others_5
  rw [hTX, n_clamp (n := n) (by omega)]
  refine w_upto (by omega) hn (fun q => ?_) (fun hlt => ?_)
  · subst q
    exact h
  · have hgo : ∀ v, v = otN (S.1 14) t d (n + 1) → wbX0_others_38 b cs ad vs o K Q (Int32.ofNat t) (Int32.ofNat d) v (Int32.ofNat n) S := by
      intro v hv x e
      rw [n_suc] at e
      subst e
      rw [hv]
      exact hK hlt trivial
    have eq : (Int32.ofNat n = Int32.ofNat t) ↔ n = t := n_eqI (by omega) (by omega)
    refine ⟨fun q => hgo _ ?_, fun q => ⟨n_in (by omega) (by decide), fun z => hgo _ ?_, fun z x3 e3 => hgo _ ?_⟩⟩
    · show _ = if n = t then _ else _
      rw [if_pos (eq.mp q)]
    · show _ = if n = t then _ else if _ then _ else _
      rw [if_neg (fun y => q (eq.mpr y)), if_neg z]
    · show _ = if n = t then _ else if _ then _ else _
      rw [if_neg (fun y => q (eq.mpr y)), if_pos z, e3]
/-- what the object's kind makes of it -/
theorem p_worth {i a k n m : Nat} {D : Nat → Int32} {v : Int32} {Q : Int32 → cW → Prop} (hg : gvAt o cs S.2.2.1 g i a k n D) (hm : m < 100) (h : Q (kdV k (if m = 0 ∧ (k = 1 ∨ k = 5) then -1 else v)) (wX o cs S)) : gv_worth b cs ad vs (wX o cs S) a v (Int32.ofNat m) Q := by
  obtain ⟨ha, hk, hn, ⟨da, hda, hO, hdD⟩, h17, h18, hD⟩ := hg
  have hO' := (wX_at (cs := cs) (S := S) ha).trans hO
  have hm0 : (Int32.ofNat m = 0) ↔ m = 0 := n_eqI (b := 0) (by omega) (by decide)
  have hkk : k = 0 ∨ k = 1 ∨ k = 2 ∨ k = 3 ∨ k = 4 ∨ k = 5 := by omega
  unfold kdV at h
  rcases hkk with q | q | q | q | q | q <;> subst q
  · rw [if_neg (by decide), if_neg (by decide), if_neg (by decide), if_neg (by decide), if_neg (by omega)] at h
    exact Or.inl ⟨_, hO', h⟩
  · rw [if_neg (by decide), if_neg (by decide), if_neg (by decide), if_neg (by decide)] at h
    refine Or.inr (Or.inl ⟨_, hO', fun z => ⟨_, _, _, hO', ?_⟩, fun z => ?_⟩)
    · rw [if_neg (fun y => z (hm0.mpr y.1))] at h
      exact h
    · rw [if_pos ⟨hm0.mp z, Or.inl rfl⟩] at h
      exact h
  · rw [if_pos rfl, if_neg (by omega)] at h
    exact Or.inr (Or.inr (Or.inl ⟨_, hO', _, _, _, hO', h⟩))
  · rw [if_neg (by decide), if_pos rfl, if_neg (by omega)] at h
    exact Or.inr (Or.inr (Or.inr (Or.inl ⟨_, hO', _, _, _, hO', h⟩)))
  · rw [if_neg (by decide), if_neg (by decide), if_pos rfl, if_neg (by omega)] at h
    exact Or.inr (Or.inr (Or.inr (Or.inr (Or.inl ⟨_, hO', _, _, _, hO', h⟩))))
  · rw [if_neg (by decide), if_neg (by decide), if_neg (by decide), if_pos rfl] at h
    refine Or.inr (Or.inr (Or.inr (Or.inr (Or.inr ⟨_, hO', _, _, _, hO', fun z => ⟨_, _, _, hO', ?_⟩, fun z => ?_⟩))))
    · rw [if_neg (fun y => z (hm0.mpr y.1))] at h
      exact h
    · rw [if_pos ⟨hm0.mp z, Or.inr rfl⟩] at h
      exact h
theorem pX0_worthAt {i a k n r t : Nat} {D : Nat → Int32} {l : List Nat} {far : Nat → Int32} {Q : Int32 → XS → Prop} (hg : gvAt o cs S.2.2.1 g i a k n D) (hc : dxR o cs S g r l) (hTX : S.1 99 6 = Int32.ofNat T) (hT6 : T ≤ 6) (hw : g 99 6 = Int32.ofNat w) (hw2 : 2 ≤ w) (hw7 : w ≤ 7) (ht : t < T) (hH : ∀ o, o < T → hd w (S.1 14 o)) (hfar : ∀ a c, a < T → c < T → S.1 5 (6 * a + c) = far (6 * a + c)) (h : ∀ S', xS S S' → S'.1 14 = S.1 14 → Q (waV g l far (S.1 14) T w k t) S') : wX0_worthAt b cs ad vs o S a (Int32.ofNat t) Q := by
  unfold wX0_worthAt
  refine ijX0_worthAt_8_5 w 0 (by omega) (by omega) (fun d x1 x2 x3 x4 f => x1 = a ∧ x2 = Int32.ofNat t ∧ x3 = wsN g l far (S.1 14) T w t d ∧ x4 = Int32.ofNat (mnN (S.1 14) t d) ∧ xS S f ∧ f.1 14 = S.1 14) ?_ _ _ _ _ _ ⟨rfl, rfl, rfl, rfl, xS.rf, rfl⟩
  intro K d x1 x2 x3 x4 f _ hd' hP hK
  obtain ⟨rfl, rfl, rfl, rfl, hx, h14⟩ := hP
  have hcf := dxR_S hx hc
  have hwX : f.1 99 7 = Int32.ofNat w := hcf.2.2.1.trans hw
  have hTf : f.1 99 6 = Int32.ofNat T := by rw [xS_n hx (show (99 : Nat) ≠ 12 by decide) (by decide)]; exact hTX
  unfold wbX0_worthAt_8
  rw [hwX, n_clamp (n := t) (by omega), h14]
  refine w_upto (by omega) hd' (fun q => ?_) (fun hlt => ?_)
  · subst q
    have hgf : gvAt o cs f.2.2.1 g i x1 k n D := by rw [xS_2 hx]; exact hg
    have hmn := mnN_le (H := S.1 14) (t := t) d
    refine p_worth hgf (by omega) ⟨f, rfl, ?_⟩
    have := h f hx h14
    unfold waV at this
    have e : (mnN (S.1 14) t d = 0 ∧ (k = 1 ∨ k = 5)) ↔ (S.1 14 t = 0 ∧ (k = 1 ∨ k = 5)) := by rw [mnN_0 hw7 (hH t ht)]
    simp only [e]
    exact this
  · refine ⟨n_in (by omega) (by decide), fun q => ?_, fun q => ?_⟩
    · have hb := and1_ne.mp q
      refine pX0_hoursAhead (far := far) (H := S.1 14) hTf hT6 hwX hw2 hw7 ht hlt (by rw [h14]; exact hH) (fun a c h1 h2 => by rw [xS_n hx (show (5 : Nat) ≠ 12 by decide) (by decide)]; exact hfar a c h1 h2) ?_
      refine pX0_others hTf hT6 ht ?_
      refine pX0_sayW hcf (by omega) (fun f2 hx2 h142 x3 e3 x4 e4 => ?_)
      intro x5 e5
      rw [n_suc] at e5 e4
      subst e5
      refine hK _ _ _ _ _ hlt ⟨rfl, rfl, ?_, ?_, hx.tr hx2, h142.trans h14⟩
      · rw [e3]
        show _ = if i_shr (S.1 14 t) (Int32.ofNat d) &&& 1 = 1 then _ else _
        rw [if_pos hb, h14]
        rfl
      · rw [e4]
        show _ = Int32.ofNat (if i_shr (S.1 14 t) (Int32.ofNat d) &&& 1 = 1 then _ else _)
        rw [if_pos hb]
    · have hb : ¬ i_shr (S.1 14 t) (Int32.ofNat d) &&& 1 = 1 := fun z => and1_ne.mpr z q
      intro x5 e5
      rw [n_suc] at e5
      subst e5
      refine hK _ _ _ _ _ hlt ⟨rfl, rfl, ?_, ?_, hx, h14⟩
      · show _ = if i_shr (S.1 14 t) (Int32.ofNat d) &&& 1 = 1 then _ else _
        rw [if_neg hb]
      · show _ = Int32.ofNat (if i_shr (S.1 14 t) (Int32.ofNat d) &&& 1 = 1 then _ else _)
        rw [if_neg hb]
end
