/-! PLAIN LAYER: giving: the object made, the days looked through (printed by mk99c.py) -/
set_option maxRecDepth 100000
section
variable {b o : Nat} {cs ad : Nat → Nat} {vs : Nat → Option Nat} {S : XS} {g : St}
theorem p8_init_c3 {f : cW} {x0 x2 n : Nat} {x1 y1 y2 : Int32} {v : Value} {D : Nat → Int32} {Q : cW → Prop} (hA : f.1 x0 = some (.inr (3, vp_V [.int y1, .int y2, v]))) (hne : x2 ≠ x0) (hD : f.1 x2 = some (.inl (cs 1, n, .inl D))) (h : Q (updP f.1 x0 (.inr (3, vp_V [.int x1, .int (Int32.ofNat n), .ref x2])), f.2)) : wX8_init_c3 b cs ad vs f x0 x1 x2 Q := by
  unfold wX8_init_c3
  refine ⟨_, _, _, hA, fun f5 e5 => ⟨n, D, ?_, fun f11 e11 f14 e14 => ?_⟩⟩
  · rw [e5]
    show updP f.1 x0 _ x2 = _
    rw [updP_ne hne]
    exact hD
  · rw [e14, e11, e5]
    simp only [updP_updP]
    exact h
theorem p8_init_c4 {f : cW} {x0 x2 n : Nat} {x1 y1 y2 : Int32} {v : Value} {D : Nat → Int32} {Q : cW → Prop} (hA : f.1 x0 = some (.inr (4, vp_V [.int y1, .int y2, v]))) (hne : x2 ≠ x0) (hD : f.1 x2 = some (.inl (cs 1, n, .inl D))) (h : Q (updP f.1 x0 (.inr (4, vp_V [.int x1, .int (Int32.ofNat n), .ref x2])), f.2)) : wX8_init_c4 b cs ad vs f x0 x1 x2 Q := by
  unfold wX8_init_c4
  refine ⟨_, _, _, hA, fun f5 e5 => ⟨n, D, ?_, fun f11 e11 f14 e14 => ?_⟩⟩
  · rw [e5]
    show updP f.1 x0 _ x2 = _
    rw [updP_ne hne]
    exact hD
  · rw [e14, e11, e5]
    simp only [updP_updP]
    exact h
theorem p8_init_c5 {f : cW} {x0 x2 n : Nat} {x1 y1 y2 : Int32} {v : Value} {D : Nat → Int32} {Q : cW → Prop} (hA : f.1 x0 = some (.inr (5, vp_V [.int y1, .int y2, v]))) (hne : x2 ≠ x0) (hD : f.1 x2 = some (.inl (cs 1, n, .inl D))) (h : Q (updP f.1 x0 (.inr (5, vp_V [.int x1, .int (Int32.ofNat n), .ref x2])), f.2)) : wX8_init_c5 b cs ad vs f x0 x1 x2 Q := by
  unfold wX8_init_c5
  refine ⟨_, _, _, hA, fun f5 e5 => ⟨n, D, ?_, fun f11 e11 f14 e14 => ?_⟩⟩
  · rw [e5]
    show updP f.1 x0 _ x2 = _
    rw [updP_ne hne]
    exact hD
  · rw [e14, e11, e5]
    simp only [updP_updP]
    exact h
theorem p8_init_c6 {f : cW} {x0 x2 n : Nat} {x1 y1 y2 : Int32} {v : Value} {D : Nat → Int32} {Q : cW → Prop} (hA : f.1 x0 = some (.inr (6, vp_V [.int y1, .int y2, v]))) (hne : x2 ≠ x0) (hD : f.1 x2 = some (.inl (cs 1, n, .inl D))) (h : Q (updP f.1 x0 (.inr (6, vp_V [.int x1, .int (Int32.ofNat n), .ref x2])), f.2)) : wX8_init_c6 b cs ad vs f x0 x1 x2 Q := by
  unfold wX8_init_c6
  refine ⟨_, _, _, hA, fun f5 e5 => ⟨n, D, ?_, fun f11 e11 f14 e14 => ?_⟩⟩
  · rw [e5]
    show updP f.1 x0 _ x2 = _
    rw [updP_ne hne]
    exact hD
  · rw [e14, e11, e5]
    simp only [updP_updP]
    exact h
theorem p8_init_c7 {f : cW} {x0 x2 n : Nat} {x1 y1 y2 : Int32} {v : Value} {D : Nat → Int32} {Q : cW → Prop} (hA : f.1 x0 = some (.inr (7, vp_V [.int y1, .int y2, v]))) (hne : x2 ≠ x0) (hD : f.1 x2 = some (.inl (cs 1, n, .inl D))) (h : Q (updP f.1 x0 (.inr (7, vp_V [.int x1, .int (Int32.ofNat n), .ref x2])), f.2)) : wX8_init_c7 b cs ad vs f x0 x1 x2 Q := by
  unfold wX8_init_c7
  refine ⟨_, _, _, hA, fun f5 e5 => ⟨n, D, ?_, fun f11 e11 f14 e14 => ?_⟩⟩
  · rw [e5]
    show updP f.1 x0 _ x2 = _
    rw [updP_ne hne]
    exact hD
  · rw [e14, e11, e5]
    simp only [updP_updP]
    exact h
theorem p8_init_c8 {f : cW} {x0 x2 n : Nat} {x1 y1 y2 : Int32} {v : Value} {D : Nat → Int32} {Q : cW → Prop} (hA : f.1 x0 = some (.inr (8, vp_V [.int y1, .int y2, v]))) (hne : x2 ≠ x0) (hD : f.1 x2 = some (.inl (cs 1, n, .inl D))) (h : Q (updP f.1 x0 (.inr (8, vp_V [.int x1, .int (Int32.ofNat n), .ref x2])), f.2)) : wX8_init_c8 b cs ad vs f x0 x1 x2 Q := by
  unfold wX8_init_c8
  refine ⟨_, _, _, hA, fun f5 e5 => ⟨n, D, ?_, fun f11 e11 f14 e14 => ?_⟩⟩
  · rw [e5]
    show updP f.1 x0 _ x2 = _
    rw [updP_ne hne]
    exact hD
  · rw [e14, e11, e5]
    simp only [updP_updP]
    exact h
theorem p_made {k da n : Nat} {x1 : Int32} {D : Nat → Int32} {Q : Nat → cW → Prop} (hk : k < 6) (hF : xF o S.2.2.2.1) (hb : bud b (wX o cs S) 3) (hda : xF o da) (hne : da ≠ S.2.2.2.1) (hD : S.2.2.1 da = some (.inl (cs 1, n, .inl D))) (h : Q S.2.2.2.1 (wX o cs (xNew S (.inr (3 + k, vp_V [.int x1, .int (Int32.ofNat n), .ref da])) 3))) : wX0_made b cs ad vs (wX o cs S) (Int32.ofNat k) x1 da Q := by
  have hw : ∀ e : cE, wNew (wX o cs S) e 3 = wX o cs (xNew S e 3) := fun e => wX_new hF
  have key : ∀ (a : Nat) (f2 : cW) (e e' : cE), a = (wX o cs S).2.1 → f2 = wNew (wX o cs S) e 3 → (f2.1 a = some e ∧ f2.1 da = some (.inl (cs 1, n, .inl D)) ∧ da ≠ a ∧ a = S.2.2.2.1 ∧ (updP f2.1 a e', f2.2) = wX o cs (xNew S e' 3)) := by
    intro a f2 e e' ea e2
    have ea' : a = S.2.2.2.1 := ea
    subst e2
    refine ⟨?_, ?_, ?_, ea', ?_⟩
    · rw [ea']; exact updP_eq
    · show updP (wX o cs S).1 S.2.2.2.1 e da = _
      rw [updP_ne hne, wX_at hda]
      exact hD
    · rw [ea']; exact hne
    · rw [← hw e', ea']
      show (updP (updP (wX o cs S).1 S.2.2.2.1 e) S.2.2.2.1 e', _) = _
      rw [updP_updP]
      rfl
  unfold wX0_made
  have z01 : ¬ Int32.ofNat 1 = 0 := by decide
  have z02 : ¬ Int32.ofNat 2 = 0 := by decide
  have z12 : ¬ Int32.ofNat 2 = 1 := by decide
  have z03 : ¬ Int32.ofNat 3 = 0 := by decide
  have z13 : ¬ Int32.ofNat 3 = 1 := by decide
  have z23 : ¬ Int32.ofNat 3 = 2 := by decide
  have z04 : ¬ Int32.ofNat 4 = 0 := by decide
  have z14 : ¬ Int32.ofNat 4 = 1 := by decide
  have z24 : ¬ Int32.ofNat 4 = 2 := by decide
  have z34 : ¬ Int32.ofNat 4 = 3 := by decide
  have z05 : ¬ Int32.ofNat 5 = 0 := by decide
  have z15 : ¬ Int32.ofNat 5 = 1 := by decide
  have z25 : ¬ Int32.ofNat 5 = 2 := by decide
  have z35 : ¬ Int32.ofNat 5 = 3 := by decide
  have z45 : ¬ Int32.ofNat 5 = 4 := by decide
  have : k = 0 ∨ k = 1 ∨ k = 2 ∨ k = 3 ∨ k = 4 ∨ k = 5 := by omega
  rcases this with q | q | q | q | q | q <;> subst q
  · refine ⟨fun _ => ⟨hb, fun a f2 ea e2 => ?_⟩, fun q => absurd rfl q⟩
    obtain ⟨k1, k2, k3, k4, k5⟩ := key a f2 _ (.inr (3 + 0, vp_V [.int x1, .int (Int32.ofNat n), .ref da])) ea e2
    skip
    refine p8_init_c3 k1 k3 k2 ?_
    rw [show (3 : Nat) = 3 + 0 from rfl, k5, k4]
    exact h
  · refine ⟨fun q => absurd q z01, fun _ => ⟨fun _ => ⟨hb, fun a f2 ea e2 => ?_⟩, fun q => absurd rfl q⟩⟩
    obtain ⟨k1, k2, k3, k4, k5⟩ := key a f2 _ (.inr (3 + 1, vp_V [.int x1, .int (Int32.ofNat n), .ref da])) ea e2
    unfold wX9_init_c4
    refine p8_init_c4 k1 k3 k2 ?_
    rw [show (4 : Nat) = 3 + 1 from rfl, k5, k4]
    exact h
  · refine ⟨fun q => absurd q z02, fun _ => ⟨fun q => absurd q z12, fun _ => ⟨fun _ => ⟨hb, fun a f2 ea e2 => ?_⟩, fun q => absurd rfl q⟩⟩⟩
    obtain ⟨k1, k2, k3, k4, k5⟩ := key a f2 _ (.inr (3 + 2, vp_V [.int x1, .int (Int32.ofNat n), .ref da])) ea e2
    unfold wX10_init_c5
    refine p8_init_c5 k1 k3 k2 ?_
    rw [show (5 : Nat) = 3 + 2 from rfl, k5, k4]
    exact h
  · refine ⟨fun q => absurd q z03, fun _ => ⟨fun q => absurd q z13, fun _ => ⟨fun q => absurd q z23, fun _ => ⟨fun _ => ⟨hb, fun a f2 ea e2 => ?_⟩, fun q => absurd rfl q⟩⟩⟩⟩
    obtain ⟨k1, k2, k3, k4, k5⟩ := key a f2 _ (.inr (3 + 3, vp_V [.int x1, .int (Int32.ofNat n), .ref da])) ea e2
    unfold wX11_init_c6
    refine p8_init_c6 k1 k3 k2 ?_
    rw [show (6 : Nat) = 3 + 3 from rfl, k5, k4]
    exact h
  · refine ⟨fun q => absurd q z04, fun _ => ⟨fun q => absurd q z14, fun _ => ⟨fun q => absurd q z24, fun _ => ⟨fun q => absurd q z34, fun _ => ⟨fun _ => ⟨hb, fun a f2 ea e2 => ?_⟩, fun q => absurd rfl q⟩⟩⟩⟩⟩
    obtain ⟨k1, k2, k3, k4, k5⟩ := key a f2 _ (.inr (3 + 4, vp_V [.int x1, .int (Int32.ofNat n), .ref da])) ea e2
    unfold wX12_init_c7
    refine p8_init_c7 k1 k3 k2 ?_
    rw [show (7 : Nat) = 3 + 4 from rfl, k5, k4]
    exact h
  · refine ⟨fun q => absurd q z05, fun _ => ⟨fun q => absurd q z15, fun _ => ⟨fun q => absurd q z25, fun _ => ⟨fun q => absurd q z35, fun _ => ⟨fun q => absurd q z45, fun _ => ⟨hb, fun a f2 ea e2 => ?_⟩⟩⟩⟩⟩⟩
    obtain ⟨k1, k2, k3, k4, k5⟩ := key a f2 _ (.inr (3 + 5, vp_V [.int x1, .int (Int32.ofNat n), .ref da])) ea e2
    unfold wX13_init_c8 wX9_init_c8
    refine p8_init_c8 k1 k3 k2 ?_
    rw [show (8 : Nat) = 3 + 5 from rfl, k5, k4]
    exact h
/-- the greatest number that a giving of kind k takes -/
def mst (k : Nat) (W : Int32) : Int32 := if k = 1 ∨ k = 5 then 7 else W - 1
theorem p_most {k a : Nat} {W : Int32} {f : cW} {V : Nat → Value} {Q : Int32 → cW → Prop} (hk : k < 6) (ha : f.1 a = some (.inr (3 + k, V))) (h : Q (mst k W) f) : gv_mostTold b cs ad vs f a W Q := by
  unfold gv_mostTold
  have : k = 0 ∨ k = 1 ∨ k = 2 ∨ k = 3 ∨ k = 4 ∨ k = 5 := by omega
  rcases this with q | q | q | q | q | q <;> subst q
  · exact Or.inl ⟨V, ha, h⟩
  · exact Or.inr (Or.inl ⟨V, ha, h⟩)
  · exact Or.inr (Or.inr (Or.inl ⟨V, ha, h⟩))
  · exact Or.inr (Or.inr (Or.inr (Or.inl ⟨V, ha, h⟩)))
  · exact Or.inr (Or.inr (Or.inr (Or.inr (Or.inl ⟨V, ha, h⟩))))
  · exact Or.inr (Or.inr (Or.inr (Or.inr (Or.inr (⟨V, ha, h⟩)))))
theorem m_isNumber {k : Nat} {v : Int32} {Q : Int32 → St → Prop} (hk : k < 6) (h : Q (if 0 ≤ v.toInt ∧ v.toInt ≤ (mst k (g 99 6)).toInt then 1 else 0) g) : wX7_isNumber g (Int32.ofNat k) v Q := by
  have hv : ∀ (c : Prop) [Decidable c], vz (if c then (1 : Int32) else 0) := by
    intro c _
    by_cases hc : c
    · rw [if_pos hc]; exact vz1
    · rw [if_neg hc]; exact vz0
  unfold wX7_isNumber wbX7_isNumber_12 wbX7_isNumber_23
  have h1 := n_eqI (a := k) (b := 1) (by omega) (by decide)
  have h5 := n_eqI (a := k) (b := 5) (by omega) (by decide)
  refine ⟨fun q => ?_, fun q => ⟨fun q5 => ?_, fun q5 => ?_⟩⟩
  · have := h1.mp q
    unfold mst at h
    rw [if_pos (Or.inl this)] at h
    refine pX7_in ?_
    rw [i0]
    exact ⟨hv _, h⟩
  · have n1 : ¬ k = 1 := fun z => q (h1.mpr z)
    have n5 : ¬ k = 5 := fun z => q5 (h5.mpr z)
    unfold mst at h
    rw [if_neg (show ¬ (k = 1 ∨ k = 5) by omega)] at h
    refine pX7_in ?_
    rw [i0]
    exact ⟨hv _, h⟩
  · have := h5.mp q5
    unfold mst at h
    rw [if_pos (Or.inr this)] at h
    refine pX7_in ?_
    rw [i0]
    exact ⟨hv _, h⟩
theorem mst_le {k w : Nat} (hw : g 99 6 = Int32.ofNat w) (hw2 : 2 ≤ w) (hw7 : w ≤ 7) : (mst k (g 99 6)).toInt ≤ 7 := by
  unfold mst
  by_cases c : k = 1 ∨ k = 5
  · rw [if_pos c]; decide
  · rw [if_neg c, hw, i_dec (by omega)]
    omega
/-- days so far -/
def dF (v : Nat → Int32) (k i : Nat) : Int32 := if i < k then v i else 0
theorem dF_s {v : Nat → Int32} {k : Nat} : upd (dF v k) k (v k) = dF v (k + 1) := by
  funext i
  unfold upd dF
  by_cases c : i = k
  · rw [if_pos c, if_pos (by omega), c]
  · rw [if_neg c]
    by_cases c2 : i < k
    · rw [if_pos c2, if_pos (by omega)]
    · rw [if_neg c2, if_neg (by omega)]
/-- the class looks through the numbers -/
theorem x_look {k s T a da w : Nat} {V : Nat → Value} {K : Nat → XS → Prop} {Q : Int32 → XS → Prop} (hk : k < 6) (hs : s < 4) (hT : T ≤ 6) (eT : S.1 99 6 = Int32.ofNat T) (hW : S.1 99 7 = Int32.ofNat w) (hw2 : 2 ≤ w) (hw7 : w ≤ 7) (ha : xF o a) (hda : xF o da) (hne : a ≠ da) (hA : S.2.2.1 a = some (.inr (3 + k, V)))
    (h1 : (∀ j, j < T → 0 ≤ (S.1 (70 + s) j).toInt ∧ (S.1 (70 + s) j).toInt ≤ (mst k (S.1 99 7)).toInt) → K a (S.1, S.2.1, updP S.2.2.1 da (.inl (cs 1, T, .inl (dF (S.1 (70 + s)) T))), S.2.2.2))
    (h2 : ∀ j, j < T → ¬ (0 ≤ (S.1 (70 + s) j).toInt ∧ (S.1 (70 + s) j).toInt ≤ (mst k (S.1 99 7)).toInt) → (∀ i, i < j → 0 ≤ (S.1 (70 + s) i).toInt ∧ (S.1 (70 + s) i).toInt ≤ (mst k (S.1 99 7)).toInt) → Q (-2) (S.1, S.2.1, updP S.2.2.1 da (.inl (cs 1, T, .inl (dF (S.1 (70 + s)) j))), S.2.2.2))
    (hD : S.2.2.1 da = some (.inl (cs 1, T, .inl (dF (S.1 (70 + s)) 0)))) : ∃ n : Nat, wlX0_giving_79 b cs ad vs o K Q n s da a (0 : Int32) S := by
  have e0 : S = (S.1, S.2.1, updP S.2.2.1 da (.inl (cs 1, T, .inl (dF (S.1 (70 + s)) 0))), S.2.2.2) := by rw [updP_same hD]
  have hm7 : (mst k (S.1 99 7)).toInt ≤ 7 := by
    unfold mst
    by_cases c : k = 1 ∨ k = 5
    · rw [if_pos c]; decide
    · rw [if_neg c, hW, i_dec (by omega)]
      omega
  rw [e0]
  refine icX0_giving_79_6 T 0 (by omega) (by omega) (fun j => ∀ i, i < j → 0 ≤ (S.1 (70 + s) i).toInt ∧ (S.1 (70 + s) i).toInt ≤ (mst k (S.1 99 7)).toInt) (fun _ => s) (fun _ => da) (fun _ => a) (fun j => (S.1, S.2.1, updP S.2.2.1 da (.inl (cs 1, T, .inl (dF (S.1 (70 + s)) j))), S.2.2.2)) (fun i hi => absurd hi (by omega)) ?_
  intro K' j _ hj hP hK
  unfold wbX0_giving_79
  show ((S.1 99 6) ≤ _ → _) ∧ (¬ (S.1 99 6) ≤ _ → _)
  rw [eT]
  refine w_upto (by omega) hj (fun q => ?_) (fun hlt => ?_)
  · subst q
    exact h1 hP
  refine ⟨hs, hs, n_in (by omega) (by decide), p_most (V := V) hk ?_ ⟨_, rfl, pX0_in ?_⟩⟩
  · rw [wX_at ha]
    show updP S.2.2.1 da _ a = _
    rw [updP_ne hne]
    exact hA
  · rw [l_of, l0, l_of, n_clamp (by omega)]
    show (¬ (if 0 ≤ (S.1 (70 + s) j).toInt ∧ (S.1 (70 + s) j).toInt ≤ (mst k (S.1 99 7)).toInt then (1 : Int32) else 0) = 0 → _) ∧ ((if 0 ≤ (S.1 (70 + s) j).toInt ∧ (S.1 (70 + s) j).toInt ≤ (mst k (S.1 99 7)).toInt then (1 : Int32) else 0) = 0 → _)
    by_cases c : 0 ≤ (S.1 (70 + s) j).toInt ∧ (S.1 (70 + s) j).toInt ≤ (mst k (S.1 99 7)).toInt
    · rw [if_pos c]
      refine w1 ⟨hs, hs, n_in (by omega) (by decide), hda, T, dF (S.1 (70 + s)) j, updP_eq, n_in hlt (by omega), fun f38 e38 x6 e6 => ?_⟩
      rw [n_suc] at e6
      subst e6
      have ev : vp_nar .byte (i_b (S.1 (70 + s) j)) = S.1 (70 + s) j := by
        obtain ⟨d, hd, ed⟩ := bN_of (m := 7) c.1 (by omega) (by decide)
        rw [ed]
        have : d = 0 ∨ d = 1 ∨ d = 2 ∨ d = 3 ∨ d = 4 ∨ d = 5 ∨ d = 6 ∨ d = 7 := by omega
        rcases this with q | q | q | q | q | q | q | q <;> subst q <;> decide
      have e38' : f38 = (S.1, S.2.1, updP S.2.2.1 da (.inl (cs 1, T, .inl (dF (S.1 (70 + s)) (j + 1)))), S.2.2.2) := by
        rw [e38]
        show (S.1, S.2.1, updP (updP S.2.2.1 da _) da (.inl (cs 1, T, .inl (upd (dF (S.1 (70 + s)) j) j (vp_nar .byte (i_b (S.1 (70 + s) j)))))), _) = _
        rw [updP_updP, ev, dF_s]
      rw [e38']
      refine hK hlt (fun i hi => ?_)
      by_cases ci : i = j
      · rw [ci]; exact c
      · exact hP i (by omega)
    · rw [if_neg c]
      exact w0 (h2 j hlt c hP)
/-- the reference looks through the numbers -/
theorem m_look {k s T : Nat} {Q : Int32 → St → Prop} {K : Int32 → Int32 → Int32 → St → Prop} (hk : k < 6) (hs : s < 4) (hT : T ≤ 6) (eT : g 99 0 = Int32.ofNat T)
    (h : K (Int32.ofNat k) (Int32.ofNat s) (if ∀ j, j < T → 0 ≤ (g 38 (40 * s + j)).toInt ∧ (g 38 (40 * s + j)).toInt ≤ (mst k (g 99 6)).toInt then 1 else 0) g) : ∃ n : Nat, wlX7_giving_56 K Q n (Int32.ofNat k) (Int32.ofNat s) (1 : Int32) (0 : Int32) g := by
  refine ijX7_giving_56_4 T 0 (by omega) (by omega) (fun j x1 x2 x3 f => x1 = Int32.ofNat k ∧ x2 = Int32.ofNat s ∧ f = g ∧ x3 = if ∀ i, i < j → 0 ≤ (g 38 (40 * s + i)).toInt ∧ (g 38 (40 * s + i)).toInt ≤ (mst k (g 99 6)).toInt then 1 else 0) ?_ _ _ _ _ ⟨rfl, rfl, rfl, ?_⟩
  · rintro K' j x1 x2 x3 f _ hj ⟨rfl, rfl, rfl, hx3⟩ hK
    unfold wbX7_giving_56
    rw [eT]
    refine w_upto (by omega) hj (fun q => ?_) (fun hlt => ?_)
    · subst q
      rw [hx3]
      exact h
    by_cases c : ∀ i, i < j → 0 ≤ (f 38 (40 * s + i)).toInt ∧ (f 38 (40 * s + i)).toInt ≤ (mst k (f 99 6)).toInt
    · rw [if_pos c] at hx3
      subst hx3
      refine ⟨fun q => absurd q (by decide), fun _ => ?_⟩
      rw [show (40 : Int32) = Int32.ofNat 40 from rfl, n_mul, n_add, n_clamp (by omega)]
      refine ⟨n_in (by omega) (by decide), m_isNumber hk (fun x4 e4 => ?_)⟩
      rw [n_suc] at e4
      subst e4
      refine hK _ _ _ _ hlt ⟨rfl, rfl, rfl, ?_⟩
      by_cases c2 : 0 ≤ (f 38 (40 * s + j)).toInt ∧ (f 38 (40 * s + j)).toInt ≤ (mst k (f 99 6)).toInt
      · rw [if_pos c2, if_pos]
        intro i hi
        by_cases ci : i = j
        · rw [ci]; exact c2
        · exact c i (by omega)
      · rw [if_neg c2, if_neg]
        intro q
        exact c2 (q j (by omega))
    · rw [if_neg c] at hx3
      subst hx3
      refine ⟨fun _ => ?_, fun q => absurd rfl q⟩
      rw [if_neg] at h
      · exact h
      · intro q
        exact c (fun i hi => q i (by omega))
  · rw [if_pos]
    intro i hi
    exact absurd hi (by omega)
/-- the reference's new row -/
def rw19 (g : St) (s G k : Nat) : Nat → Int32 := fun i => if 6 * G ≤ i ∧ i < 6 * G + k then g 38 (40 * s + (i - 6 * G)) else g 19 i
theorem m_row {s T G : Nat} {Q : Int32 → St → Prop} {K : St → Prop} (hs : s < 4) (hT : T ≤ 6) (hG : G < 12) (eT : g 99 0 = Int32.ofNat T) (eG : g 99 16 = Int32.ofNat G) (h : K (updR g 19 (rw19 g s G T))) : ∃ n : Nat, wlX7_giving_138 K Q n (Int32.ofNat s) (0 : Int32) g := by
  have e0 : g = updR g 19 (rw19 g s G 0) := by
    have : rw19 g s G 0 = g 19 := by
      funext i
      unfold rw19
      rw [if_neg (by omega)]
    rw [this, updR_self]
  conv => rw [e0]
  refine icX7_giving_138_4 T 0 (by omega) (by omega) (fun _ => True) (fun _ => Int32.ofNat s) (fun j => updR g 19 (rw19 g s G j)) trivial ?_
  intro K' j _ hj _ hK
  unfold wbX7_giving_138
  show ((g 99 0) ≤ _ → _) ∧ (¬ (g 99 0) ≤ _ → _)
  rw [eT]
  refine w_upto (by omega) hj (fun q => ?_) (fun hlt => ?_)
  · subst q
    exact h
  show vp_in _ _ ∧ vp_in (6 * g 99 16 + _) _ ∧ ∀ f_10 : St, f_10 = upd2 (updR g 19 (rw19 g s G j)) 19 (Int32.toNatClampNeg (6 * g 99 16 + _)) (g 38 _) → _
  rw [eG, show (40 : Int32) = Int32.ofNat 40 from rfl, show (6 : Int32) = Int32.ofNat 6 from rfl, n_mul, n_add, n_mul, n_add, n_clamp (by omega), n_clamp (by omega)]
  refine ⟨n_in (by omega) (by decide), n_in (by omega) (by decide), fun f10 e10 x4 e4 => ?_⟩
  rw [n_suc] at e4
  subst e4
  have e10' : f10 = updR g 19 (rw19 g s G (j + 1)) := by
    rw [e10, updR_upd2']
    congr 1
    funext i
    unfold upd rw19
    by_cases c : i = 6 * G + j
    · rw [if_pos c, if_pos (by omega), c, show 6 * G + j - 6 * G = j by omega]
    · rw [if_neg c]
      by_cases c2 : 6 * G ≤ i ∧ i < 6 * G + j
      · rw [if_pos c2, if_pos (by omega)]
      · rw [if_neg c2, if_neg (by omega)]
  rw [e10']
  exact hK hlt trivial
end
