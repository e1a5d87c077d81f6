/-! PLAIN LAYER: givings of the class: the list and its objects; the days of a town (printed by mk86.py) -/
set_option maxRecDepth 100000
/-- the giving i: an object of kind k at a, n towns, days D -/
def gvAt (o : Nat) (cs : Nat → Nat) (Z : cP) (g : St) (i a k n : Nat) (D : Nat → Int32) : Prop :=
  xF o a ∧ k < 6 ∧ n ≤ 6 ∧ (∃ da, xF o da ∧ Z a = some (.inr (3 + k, vp_V [.int (Int32.ofNat i), .int (Int32.ofNat n), .ref da])) ∧ Z da = some (.inl (cs 1, n, .inl D))) ∧ g 17 i = Int32.ofNat k ∧ g 18 i = Int32.ofNat n ∧ ∀ t, t < n → D t = g 19 (6 * i + t) ∧ 0 ≤ (D t).toInt ∧ (D t).toInt ≤ 7
/-- the list of givings -/
def GLn (o : Nat) (cs ad : Nat → Nat) (Z : cP) (g : St) (G : Nat) : Prop := ∃ mc : Int32, (G = 0 ∧ Z (o + 9) = some (.inr (16, vp_V [.int mc, .ref (ad 42), .int (Int32.ofNat 0)]))) ∨
  (∃ (e N : Nat) (c : Nat → Option Nat), xF o e ∧ G ≤ N ∧ (N = 10 ∨ N = 15) ∧ N ≤ 15 ∧ e ≠ o + 9 ∧ Z (o + 9) = some (.inr (16, vp_V [.int mc, .ref e, .int (Int32.ofNat G)])) ∧ Z e = some (.inl (cs 4, N, .inr (.inr (.inr (.inr c))))) ∧ ∀ i, i < G → ∃ (a k n : Nat) (D : Nat → Int32), c i = some a ∧ gvAt o cs Z g i a k n D)
def GL (o : Nat) (cs ad : Nat → Nat) (S : XS) (g : St) : Prop := ∃ G : Nat, G ≤ 12 ∧ g 99 16 = Int32.ofNat G ∧ GLn o cs ad S.2.2.1 g G
theorem xF9 {o : Nat} : xF o (o + 9) := Or.inl rfl
theorem and1 (x : Int32) : x &&& 1 = 0 ∨ x &&& 1 = 1 := by
  have h : ∀ y : BitVec 32, y &&& 1#32 = 0#32 ∨ y &&& 1#32 = 1#32 := by
    intro y
    have e : (y &&& 1#32).toNat = y.toNat % 2 := by
      rw [BitVec.toNat_and]
      exact Nat.and_one_is_mod _
    have : y.toNat % 2 = 0 ∨ y.toNat % 2 = 1 := by omega
    rcases this with q | q
    · exact Or.inl (BitVec.eq_of_toNat_eq (by rw [e, q]; rfl))
    · exact Or.inr (BitVec.eq_of_toNat_eq (by rw [e, q]; rfl))
  rcases h x.toBitVec with q | q
  · exact Or.inl (Int32.toBitVec_inj.mp q)
  · exact Or.inr (Int32.toBitVec_inj.mp q)
theorem and1_ne {x : Int32} : ¬ x &&& 1 = 0 ↔ x &&& 1 = 1 := by
  constructor
  · intro h
    exact (and1 x).resolve_left h
  · intro h q
    rw [q] at h
    exact absurd h (by decide)
section
variable {b o : Nat} {cs ad : Nat → Nat} {vs : Nat → Option Nat} {S : XS} {g : St}
theorem GLn_sz {G : Nat} {Z : cP} (h : GLn o cs ad Z g G) : ∃ (y : Int32) (v : Value), Z (o + 9) = some (.inr (16, vp_V [.int y, v, .int (Int32.ofNat G)])) := by
  obtain ⟨mc, ⟨rfl, h⟩ | ⟨e, N, c, -, -, -, -, -, h, -⟩⟩ := h
  · exact ⟨_, _, h⟩
  · exact ⟨_, _, h⟩
theorem pX_size {G : Nat} {Q : Int32 → cW → Prop} (h : GLn o cs ad S.2.2.1 g G) (hq : Q (Int32.ofNat G) (wX o cs S)) : xF o (o + 9) ∧ ∃ (y : Int32) (v : Value) (y' : Int32), S.2.2.1 (o + 9) = some (.inr (16, vp_V [.int y, v, .int y'])) ∧ wJ2_size b cs ad vs (wX o cs S) (o + 9) Q := by
  obtain ⟨y, v, hz⟩ := GLn_sz h
  exact ⟨xF9, y, v, _, hz, y, v, _, (wX_at xF9).trans hz, hq⟩
theorem pX0_isGiving_y {G k : Nat} {Q : Int32 → XS → Prop} (h : GLn o cs ad S.2.2.1 g G) (hG : G ≤ 12) (hk : k < G) (hq : Q 1 S) : wX0_isGiving b cs ad vs o S (Int32.ofNat k) Q := by
  unfold wX0_isGiving
  refine pX_size h ⟨S, rfl, pX0_in ?_⟩
  have e : ((Int32.ofNat G).toInt64 - 1).toInt = (G : Int) - 1 := by
    rw [Int64.toInt_sub, l_of, n_toInt (by omega), show (1 : Int64).toInt = 1 by decide]
    exact Int.bmod_eq_of_le (by omega) (by omega)
  rw [l_of, n_toInt (by omega), e, l0, if_pos (by omega)]
  exact ⟨vz1, hq⟩
theorem pX0_isGiving_n {G : Nat} {x : Int32} {Q : Int32 → XS → Prop} (h : GLn o cs ad S.2.2.1 g G) (hG : G ≤ 12) (hk : ¬ isN x G) (hq : Q 0 S) : wX0_isGiving b cs ad vs o S x Q := by
  unfold wX0_isGiving
  refine pX_size h ⟨S, rfl, pX0_in ?_⟩
  have e : ((Int32.ofNat G).toInt64 - 1).toInt = (G : Int) - 1 := by
    rw [Int64.toInt_sub, l_of, n_toInt (by omega), show (1 : Int64).toInt = 1 by decide]
    exact Int.bmod_eq_of_le (by omega) (by omega)
  rw [l_of, e, l0, if_neg (fun q => hk ((isN_of (by omega)).mp q))]
  exact ⟨vz0, hq⟩
theorem pX_get {G i : Nat} {R : Nat → XS → Prop} (h : GLn o cs ad S.2.2.1 g G) (hG : G ≤ 12) (hi : i < G) (hq : ∀ (a k n : Nat) (D : Nat → Int32), gvAt o cs S.2.2.1 g i a k n D → R a S) : xF o (o + 9) ∧ ∃ (y : Int32) (v : Value) (y' : Int32), S.2.2.1 (o + 9) = some (.inr (16, vp_V [.int y, v, .int y'])) ∧ wJ2_get b cs ad vs (wX o cs S) (o + 9) (Int32.ofNat i) (fun r w => ∃ f1 : XS, w = wX o cs f1 ∧ ∃ (ci : Nat) (cV : Nat → Value), (wX o cs f1).1 r = some (.inr (ci, cV)) ∧ gOk ci = true ∧ R r f1) := by
  obtain ⟨mc, ⟨rfl, -⟩ | ⟨e, N, c, he, hN, -, hN15, -, hz, hc, hall⟩⟩ := h
  · omega
  obtain ⟨a, k, n, D, hci, hg⟩ := hall i hi
  have hz' : (wX o cs S).1 (o + 9) = _ := (wX_at xF9).trans hz
  refine ⟨xF9, _, _, _, hz, ?_⟩
  unfold wJ2_get wJ16_checkIndex wJ5_checkIndex wJ2_elementData
  refine ⟨_, _, _, hz', fun q => absurd q (n_nn (by omega)), fun _ => ⟨fun _ => ?_, fun q => absurd ((n_ltI (by omega) (by omega)).mpr hi) q⟩⟩
  refine ⟨_, _, _, hz', _, _, _, hz', e, rfl, N, c, (wX_at he).trans hc, n_in (by omega) (by omega), a, ?_, S, rfl, ?_⟩
  · rw [n_clamp (by omega)]
    exact hci
  · have hg0 := hg
    obtain ⟨ha, hk, -, ⟨da, -, hO, -⟩, -⟩ := hg
    refine ⟨_, _, (wX_at ha).trans hO, ?_, hq a k n D hg0⟩
    have : k = 0 ∨ k = 1 ∨ k = 2 ∨ k = 3 ∨ k = 4 ∨ k = 5 := by omega
    rcases this with q | q | q | q | q | q <;> subst q <;> rfl
/-- the days by the row alone -/
def dB (n : Nat) (D : Nat → Int32) (W : Int32) (t : Nat) : Int32 := if n ≤ t then 0 else if W ≤ D t then 0 else i_shl 1 (D t)

theorem p8_days_c3 {f : cW} {a da n t : Nat} {y x2 W : Int32} {D : Nat → Int32} {Q : Int32 → cW → Prop} (hA : f.1 a = some (.inr (3, vp_V [.int y, .int (Int32.ofNat n), .ref da]))) (hD : f.1 da = some (.inl (cs 1, n, .inl D))) (hn : n ≤ 6) (ht : t < 6) (h : Q (dB n D W t) f) : wX8_daysOf_c3 b cs ad vs f a (Int32.ofNat t) x2 W Q := by
  unfold wX8_daysOf_c3
  have hu := n_leI (a := n) (b := t) (by omega) (by omega)
  unfold dB at h
  refine ⟨_, _, _, hA, fun q => ?_, fun q => ⟨da, rfl, n, D, hD, ?_⟩⟩
  · rw [if_pos (hu.mp q)] at h
    exact h
  · have hlt : t < n := by
      have : ¬ n ≤ t := fun z => q (hu.mpr z)
      omega
    rw [if_neg (by omega)] at h
    rw [n_clamp (by omega)]
    refine ⟨n_in hlt (by omega), fun q2 => ?_, fun q2 => ⟨da, rfl, n, D, hD, n_in hlt (by omega), ?_⟩⟩
    · rw [if_pos q2] at h
      exact h
    · rw [if_neg q2] at h
      exact h

theorem p8_days_c4 {f : cW} {a da n t : Nat} {y x2 W : Int32} {D : Nat → Int32} {Q : Int32 → cW → Prop} (hA : f.1 a = some (.inr (4, vp_V [.int y, .int (Int32.ofNat n), .ref da]))) (hD : f.1 da = some (.inl (cs 1, n, .inl D))) (hn : n ≤ 6) (ht : t < 6) (h : Q (dB n D W t) f) : wX8_daysOf_c4 b cs ad vs f a (Int32.ofNat t) x2 W Q := by
  unfold wX8_daysOf_c4
  have hu := n_leI (a := n) (b := t) (by omega) (by omega)
  unfold dB at h
  refine ⟨_, _, _, hA, fun q => ?_, fun q => ⟨da, rfl, n, D, hD, ?_⟩⟩
  · rw [if_pos (hu.mp q)] at h
    exact h
  · have hlt : t < n := by
      have : ¬ n ≤ t := fun z => q (hu.mpr z)
      omega
    rw [if_neg (by omega)] at h
    rw [n_clamp (by omega)]
    refine ⟨n_in hlt (by omega), fun q2 => ?_, fun q2 => ⟨da, rfl, n, D, hD, n_in hlt (by omega), ?_⟩⟩
    · rw [if_pos q2] at h
      exact h
    · rw [if_neg q2] at h
      exact h

theorem p8_days_c5 {f : cW} {a da n t : Nat} {y x2 W : Int32} {D : Nat → Int32} {Q : Int32 → cW → Prop} (hA : f.1 a = some (.inr (5, vp_V [.int y, .int (Int32.ofNat n), .ref da]))) (hD : f.1 da = some (.inl (cs 1, n, .inl D))) (hn : n ≤ 6) (ht : t < 6) (h : Q (dB n D W t) f) : wX8_daysOf_c5 b cs ad vs f a (Int32.ofNat t) x2 W Q := by
  unfold wX8_daysOf_c5
  have hu := n_leI (a := n) (b := t) (by omega) (by omega)
  unfold dB at h
  refine ⟨_, _, _, hA, fun q => ?_, fun q => ⟨da, rfl, n, D, hD, ?_⟩⟩
  · rw [if_pos (hu.mp q)] at h
    exact h
  · have hlt : t < n := by
      have : ¬ n ≤ t := fun z => q (hu.mpr z)
      omega
    rw [if_neg (by omega)] at h
    rw [n_clamp (by omega)]
    refine ⟨n_in hlt (by omega), fun q2 => ?_, fun q2 => ⟨da, rfl, n, D, hD, n_in hlt (by omega), ?_⟩⟩
    · rw [if_pos q2] at h
      exact h
    · rw [if_neg q2] at h
      exact h

theorem p8_days_c6 {f : cW} {a da n t : Nat} {y x2 W : Int32} {D : Nat → Int32} {Q : Int32 → cW → Prop} (hA : f.1 a = some (.inr (6, vp_V [.int y, .int (Int32.ofNat n), .ref da]))) (hD : f.1 da = some (.inl (cs 1, n, .inl D))) (hn : n ≤ 6) (ht : t < 6) (h : Q (dB n D W t) f) : wX8_daysOf_c6 b cs ad vs f a (Int32.ofNat t) x2 W Q := by
  unfold wX8_daysOf_c6
  have hu := n_leI (a := n) (b := t) (by omega) (by omega)
  unfold dB at h
  refine ⟨_, _, _, hA, fun q => ?_, fun q => ⟨da, rfl, n, D, hD, ?_⟩⟩
  · rw [if_pos (hu.mp q)] at h
    exact h
  · have hlt : t < n := by
      have : ¬ n ≤ t := fun z => q (hu.mpr z)
      omega
    rw [if_neg (by omega)] at h
    rw [n_clamp (by omega)]
    refine ⟨n_in hlt (by omega), fun q2 => ?_, fun q2 => ⟨da, rfl, n, D, hD, n_in hlt (by omega), ?_⟩⟩
    · rw [if_pos q2] at h
      exact h
    · rw [if_neg q2] at h
      exact h

theorem p8_days_c7 {f : cW} {a da n t : Nat} {y x2 W : Int32} {D : Nat → Int32} {Q : Int32 → cW → Prop} (hA : f.1 a = some (.inr (7, vp_V [.int y, .int (Int32.ofNat n), .ref da]))) (hD : f.1 da = some (.inl (cs 1, n, .inl D))) (hn : n ≤ 6) (ht : t < 6) (h : Q (dB n D W t) f) : wX8_daysOf_c7 b cs ad vs f a (Int32.ofNat t) x2 W Q := by
  unfold wX8_daysOf_c7
  have hu := n_leI (a := n) (b := t) (by omega) (by omega)
  unfold dB at h
  refine ⟨_, _, _, hA, fun q => ?_, fun q => ⟨da, rfl, n, D, hD, ?_⟩⟩
  · rw [if_pos (hu.mp q)] at h
    exact h
  · have hlt : t < n := by
      have : ¬ n ≤ t := fun z => q (hu.mpr z)
      omega
    rw [if_neg (by omega)] at h
    rw [n_clamp (by omega)]
    refine ⟨n_in hlt (by omega), fun q2 => ?_, fun q2 => ⟨da, rfl, n, D, hD, n_in hlt (by omega), ?_⟩⟩
    · rw [if_pos q2] at h
      exact h
    · rw [if_neg q2] at h
      exact h

theorem p8_days_c8 {f : cW} {a da n t : Nat} {y x2 W : Int32} {D : Nat → Int32} {Q : Int32 → cW → Prop} (hA : f.1 a = some (.inr (8, vp_V [.int y, .int (Int32.ofNat n), .ref da]))) (hD : f.1 da = some (.inl (cs 1, n, .inl D))) (hn : n ≤ 6) (ht : t < 6) (h : Q (dB n D W t) f) : wX8_daysOf_c8 b cs ad vs f a (Int32.ofNat t) x2 W Q := by
  unfold wX8_daysOf_c8
  have hu := n_leI (a := n) (b := t) (by omega) (by omega)
  unfold dB at h
  refine ⟨_, _, _, hA, fun q => ?_, fun q => ⟨da, rfl, n, D, hD, ?_⟩⟩
  · rw [if_pos (hu.mp q)] at h
    exact h
  · have hlt : t < n := by
      have : ¬ n ≤ t := fun z => q (hu.mpr z)
      omega
    rw [if_neg (by omega)] at h
    rw [n_clamp (by omega)]
    refine ⟨n_in hlt (by omega), fun q2 => ?_, fun q2 => ⟨da, rfl, n, D, hD, n_in hlt (by omega), ?_⟩⟩
    · rw [if_pos q2] at h
      exact h
    · rw [if_neg q2] at h
      exact h

theorem shl1_ne {x : Int32} (h0 : 0 ≤ x.toInt) (h1 : x.toInt ≤ 6) : ¬ i_shl 1 x = 0 := by
  obtain ⟨d, hd, rfl⟩ := bN_of (m := 6) h0 h1 (by decide)
  have : d = 0 ∨ d = 1 ∨ d = 2 ∨ d = 3 ∨ d = 4 ∨ d = 5 ∨ d = 6 := by omega
  rcases this with q | q | q | q | q | q | q <;> subst q <;> decide
/-- the reference's days by kind and row -/
theorem daysV_of {i t k n w : Nat} {D : Nat → Int32} {x3 : Int32} (hk : k < 6) (hn : n ≤ 6) (h17 : g 17 i = Int32.ofNat k) (h18 : g 18 i = Int32.ofNat n) (hD : ∀ t, t < n → D t = g 19 (6 * i + t) ∧ 0 ≤ (D t).toInt ∧ (D t).toInt ≤ 7) (ht : t < 6) (hw : g 99 6 = Int32.ofNat w) (hw2 : 2 ≤ w) (hw7 : w ≤ 7) :
    daysV g i t x3 = if dB n D (g 99 6) t = 0 then 0 else if k = 2 then dB n D (g 99 6) t ||| i_shl 1 (i_rem (D t + g 99 6 / 2) (g 99 6)) else if k = 3 then i_shl 1 (i_rem (D t + x3) (g 99 6)) else if k = 4 then (if i_rem x3 2 = 0 then i_shl 1 (i_rem (D t + x3) (g 99 6)) else i_shl 1 (i_rem (D t + (x3 + 2)) (g 99 6))) else dB n D (g 99 6) t := by
  have hu := n_leI (a := n) (b := t) (by omega) (by omega)
  have eW : (g 99 6 - 1).toInt = (w : Int) - 1 := by rw [hw]; exact i_dec (by omega)
  have eW0 : (g 99 6).toInt = w := by rw [hw]; exact n_toInt (by omega)
  unfold daysV
  rw [eW, i0]
  by_cases hnt : n ≤ t
  · have e1 : dayT g i t = -1 := by
      unfold dayT
      rw [h18, if_pos (hu.mpr hnt)]
    have e2 : dB n D (g 99 6) t = 0 := by unfold dB; rw [if_pos hnt]
    rw [e1, e2, im1, if_neg (by omega), if_pos rfl]
  · obtain ⟨d1, d2, d3⟩ := hD t (by omega)
    have e1 : dayT g i t = D t := by
      unfold dayT
      rw [h18, if_neg (fun q => hnt (hu.mp q)), d1]
    rw [e1]
    by_cases hWD : g 99 6 ≤ D t
    · have := i_le.mp hWD
      have e2 : dB n D (g 99 6) t = 0 := by unfold dB; rw [if_neg hnt, if_pos hWD]
      rw [e2, if_neg (by omega), if_pos rfl]
    · have h1 : ¬ (w : Int) ≤ (D t).toInt := fun q => hWD (i_le.mpr (by omega))
      have e2 : dB n D (g 99 6) t = i_shl 1 (D t) := by unfold dB; rw [if_neg hnt, if_neg hWD]
      rw [e2, if_pos (by omega), if_neg (shl1_ne d2 (by omega))]
      have : k = 0 ∨ k = 1 ∨ k = 2 ∨ k = 3 ∨ k = 4 ∨ k = 5 := by omega
      rcases this with q | q | q | q | q | q <;> subst q <;> rw [h17]
      · rfl
      · rfl
      · rfl
      · rfl
      · rw [if_neg (show ¬ Int32.ofNat 4 = 2 by decide), if_neg (show ¬ Int32.ofNat 4 = 3 by decide), if_pos (show Int32.ofNat 4 = 4 by decide), if_neg (show ¬ (4 : Nat) = 2 by decide), if_neg (show ¬ (4 : Nat) = 3 by decide), if_pos (rfl : (4 : Nat) = 4)]
        by_cases hr : i_rem x3 2 = 0
        · rw [if_pos hr, if_pos hr, Int32.add_zero]
        · rw [if_neg hr, if_neg hr, Int32.add_assoc]
      · rfl
theorem p_daysOf {i a k n t w : Nat} {D : Nat → Int32} {x3 W : Int32} {Q : Int32 → cW → Prop} (hg : gvAt o cs S.2.2.1 g i a k n D) (ht : t < 6) (hw : g 99 6 = Int32.ofNat w) (hw2 : 2 ≤ w) (hw7 : w ≤ 7) (hW : W = g 99 6) (h : Q (daysV g i t x3) (wX o cs S)) : gv_daysOf b cs ad vs (wX o cs S) a (Int32.ofNat t) x3 W Q := by
  obtain ⟨ha, hk, hn, ⟨da, hda, hO, hdD⟩, h17, h18, hD⟩ := hg
  have hO' := (wX_at (cs := cs) (S := S) ha).trans hO
  have hdD' := (wX_at (cs := cs) (S := S) hda).trans hdD
  subst hW
  have hw0 : ¬ g 99 6 = 0 := by
    rw [hw]
    intro q
    have := (n_eqI (a := w) (b := 0) (by omega) (by decide)).mp q
    omega
  rw [daysV_of hk hn h17 h18 hD ht hw hw2 hw7] at h
  have hin : ¬ dB n D (g 99 6) t = 0 → vp_in (Int32.ofNat t) n := by
    intro q
    unfold dB at q
    by_cases hnt : n ≤ t
    · rw [if_pos hnt] at q
      exact absurd rfl q
    · exact n_in (by omega) (by omega)
  have ec : (Int32.ofNat t).toNatClampNeg = t := n_clamp (by omega)
  have hkk : k = 0 ∨ k = 1 ∨ k = 2 ∨ k = 3 ∨ k = 4 ∨ k = 5 := by omega
  rcases hkk with q | q | q | q | q | q <;> subst q
  · refine Or.inl ⟨_, hO', p8_days_c3 hO' hdD' hn ht ?_⟩
    by_cases hz : dB n D (g 99 6) t = 0
    · rw [if_pos hz] at h; rw [hz]; exact h
    · rw [if_neg hz] at h; exact h
  · refine Or.inr (Or.inl ⟨_, hO', p8_days_c4 hO' hdD' hn ht ?_⟩)
    by_cases hz : dB n D (g 99 6) t = 0
    · rw [if_pos hz] at h; rw [hz]; exact h
    · rw [if_neg hz] at h; exact h
  · refine Or.inr (Or.inr (Or.inl ⟨_, hO', _, _, _, hO', p8_days_c5 hO' hdD' hn ht ⟨fun hz => ?_, fun hz => ?_⟩⟩))
    · rw [if_neg hz] at h
      refine ⟨_, _, _, hO', da, rfl, n, D, hdD', hin hz, hw0, ?_⟩
      rw [ec]
      exact h
    · rw [if_pos hz] at h; exact h
  · refine Or.inr (Or.inr (Or.inr (Or.inl ⟨_, hO', _, _, _, hO', p8_days_c6 hO' hdD' hn ht ⟨fun hz => ?_, fun hz => ?_⟩⟩)))
    · rw [if_neg hz] at h
      refine ⟨_, _, _, hO', da, rfl, n, D, hdD', hin hz, hw0, ?_⟩
      rw [ec]
      exact h
    · rw [if_pos hz] at h; exact h
  · refine Or.inr (Or.inr (Or.inr (Or.inr (Or.inl ⟨_, hO', ?_⟩))))
    have hgo : ∀ x : Int32, (∀ Z : Prop, (Z → ¬ dB n D (g 99 6) t = 0 → True) → True) → (¬ dB n D (g 99 6) t = 0 → Q (i_shl 1 (i_rem (D t + x) (g 99 6))) (wX o cs S)) → (dB n D (g 99 6) t = 0 → Q 0 (wX o cs S)) → wbX12_daysOf_c7_15 b cs ad vs Q (g 99 6) x (Int32.ofNat t) a (wX o cs S) := by
      intro x _ h1 h2
      refine ⟨_, _, _, hO', _, _, _, hO', p8_days_c7 hO' hdD' hn ht ⟨fun hz => ?_, fun hz => h2 hz⟩⟩
      refine ⟨_, _, _, hO', da, rfl, n, D, hdD', hin hz, hw0, ?_⟩
      rw [ec]
      exact h1 hz
    refine ⟨fun hr => hgo _ (fun _ _ => trivial) (fun hz => ?_) (fun hz => ?_), fun hr => hgo _ (fun _ _ => trivial) (fun hz => ?_) (fun hz => ?_)⟩
    · rw [if_neg hz, if_neg (by decide), if_neg (by decide), if_pos rfl, if_neg hr] at h; exact h
    · rw [if_pos hz] at h; exact h
    · rw [if_neg hz, if_neg (by decide), if_neg (by decide), if_pos rfl, if_pos hr] at h; exact h
    · rw [if_pos hz] at h; exact h
  · refine Or.inr (Or.inr (Or.inr (Or.inr (Or.inr ⟨_, hO', p8_days_c8 hO' hdD' hn ht ?_⟩))))
    by_cases hz : dB n D (g 99 6) t = 0
    · rw [if_pos hz] at h; rw [hz]; exact h
    · rw [if_neg hz] at h; exact h
theorem p_moves {i a k n : Nat} {D : Nat → Int32} {Q : Int32 → cW → Prop} (hg : gvAt o cs S.2.2.1 g i a k n D) (h : Q (if k = 5 then 0 else 1) (wX o cs S)) : gv_moves b cs ad vs (wX o cs S) a Q := by
  obtain ⟨ha, hk, hn, ⟨da, hda, hO, hdD⟩, h17, h18, hD⟩ := hg
  have hO' := (wX_at (cs := cs) (S := S) ha).trans hO
  have hkk : k = 0 ∨ k = 1 ∨ k = 2 ∨ k = 3 ∨ k = 4 ∨ k = 5 := by omega
  rcases hkk with q | q | q | q | q | q <;> subst q
  · exact Or.inl ⟨_, hO', h⟩
  · exact Or.inr (Or.inl ⟨_, hO', h⟩)
  · exact Or.inr (Or.inr (Or.inl ⟨_, hO', h⟩))
  · exact Or.inr (Or.inr (Or.inr (Or.inl ⟨_, hO', h⟩)))
  · exact Or.inr (Or.inr (Or.inr (Or.inr (Or.inl ⟨_, hO', h⟩))))
  · exact Or.inr (Or.inr (Or.inr (Or.inr (Or.inr ⟨_, hO', h⟩))))
theorem p_kind {i a k n : Nat} {D : Nat → Int32} {Q : Int32 → cW → Prop} (hg : gvAt o cs S.2.2.1 g i a k n D) (h : Q (Int32.ofNat k) (wX o cs S)) : gv_kind b cs ad vs (wX o cs S) a Q := by
  obtain ⟨ha, hk, hn, ⟨da, hda, hO, hdD⟩, h17, h18, hD⟩ := hg
  have hO' := (wX_at (cs := cs) (S := S) ha).trans hO
  have hkk : k = 0 ∨ k = 1 ∨ k = 2 ∨ k = 3 ∨ k = 4 ∨ k = 5 := by omega
  rcases hkk with q | q | q | q | q | q <;> subst q
  · exact Or.inl ⟨_, hO', h⟩
  · exact Or.inr (Or.inl ⟨_, hO', h⟩)
  · exact Or.inr (Or.inr (Or.inl ⟨_, hO', h⟩))
  · exact Or.inr (Or.inr (Or.inr (Or.inl ⟨_, hO', h⟩)))
  · exact Or.inr (Or.inr (Or.inr (Or.inr (Or.inl ⟨_, hO', _, _, _, hO', h⟩))))
  · exact Or.inr (Or.inr (Or.inr (Or.inr (Or.inr ⟨_, hO', _, _, _, hO', h⟩))))
/-- what the class needs of the state for market: week, feasts -/
def fsR (S : XS) (g : St) : Prop := S.1 99 7 = g 99 6 ∧ S.1 99 10 = g 99 7 ∧ rEq (nn (g 99 7)) (S.1 8) (g 8) ∧ rEq (nn (g 99 7)) (S.1 9) (g 9)
theorem pX0_market {i a k n t w F : Nat} {D : Nat → Int32} {x3 : Int32} {Q : Int32 → XS → Prop} (hg : gvAt o cs S.2.2.1 g i a k n D) (hs : fsR S g) (ht : t < 6) (hw : g 99 6 = Int32.ofNat w) (hw2 : 2 ≤ w) (hw7 : w ≤ 7) (hF : g 99 7 = Int32.ofNat F) (hF10 : F ≤ 10) (h : Q (marketV g i t x3) S) : wX0_market b cs ad vs o S a (Int32.ofNat t) x3 Q := by
  obtain ⟨s1, s2, s3, s4⟩ := hs
  have hw0 : ¬ g 99 6 = 0 := by
    rw [hw]
    intro q
    have := (n_eqI (a := w) (b := 0) (by omega) (by decide)).mp q
    omega
  rw [hF, nn_of (by omega)] at s3 s4
  unfold wX0_market
  refine p_daysOf hg ht hw hw2 hw7 s1 ⟨S, rfl, p_moves hg ⟨S, rfl, ?_⟩⟩
  have hk := hg.2.1
  have h17 := hg.2.2.2.2.1
  unfold marketV at h
  rw [hF, nn_of (by omega), h17] at h
  by_cases hk5 : k = 5
  · subst hk5
    rw [if_pos (show Int32.ofNat 5 = 5 by decide)] at h
    rw [if_pos (rfl : (5 : Nat) = 5)]
    exact w0 h
  · have z5 : ¬ Int32.ofNat k = 5 := fun q => hk5 ((n_eqI (a := k) (b := 5) (by omega) (by decide)).mp q)
    rw [if_neg z5] at h
    rw [if_neg hk5]
    refine w1 ?_
    refine icX0_market_25_5 F 0 (by omega) (by omega) (fun _ => True) (fun _ => x3) (fun k => mkN g x3 (daysV g i t x3) k) (fun _ => S) trivial ?_
    intro K j _ hj _ hK
    unfold wbX0_market_25
    rw [s2, hF, n_clamp (n := j) (by omega)]
    refine w_upto (by omega) hj (fun q => ?_) (fun hlt => ?_)
    · subst q
      exact h
    · have hin : vp_in (Int32.ofNat j) 10 := n_in (by omega) (by decide)
      rw [s3 j hlt, s4 j hlt, s1]
      have hgo : ∀ v, v = mkS g x3 j (mkN g x3 (daysV g i t x3) j) → wbX0_market_114 b cs ad vs o K Q x3 v (Int32.ofNat j) S := by
        intro v hv
        unfold wbX0_market_114
        intro x e
        rw [n_suc] at e
        subst e
        rw [hv]
        exact hK hlt trivial
      refine ⟨hin, fun q1 => hgo _ (by unfold mkS; rw [if_neg q1]), fun q1 => ⟨hin, fun q2 => hgo _ (by unfold mkS; rw [if_pos q1, if_pos q2]), fun q2 => ⟨hin, fun q3 => ⟨hin, fun x4 e4 => ⟨hin, hw0, fun x5 e5 => hgo _ ?_⟩⟩, fun q3 => hgo _ ?_⟩⟩⟩
      · unfold mkS
        rw [if_pos q1, if_neg q2, if_pos (and1_ne.mp q3), e5, e4]
      · unfold mkS
        rw [if_pos q1, if_neg q2, if_neg (fun z => and1_ne.mpr z q3)]
end
