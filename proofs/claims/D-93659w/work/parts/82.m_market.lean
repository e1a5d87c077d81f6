/-! PLAIN LAYER: days of a town by a giving, feasts: the reference -/
set_option maxRecDepth 100000
def dayT (g : St) (i t : Nat) : Int32 := if g 18 i ≤ Int32.ofNat t then -1 else g 19 (6 * i + t)
def daysV (g : St) (i t : Nat) (x3 : Int32) : Int32 :=
  if (0 : Int32).toInt ≤ (dayT g i t).toInt ∧ (dayT g i t).toInt ≤ (g 99 6 - 1).toInt then
    (if g 17 i = 2 then (i_shl 1 (dayT g i t)) ||| (i_shl 1 (i_rem (dayT g i t + g 99 6 / 2) (g 99 6))) else if g 17 i = 3 then i_shl 1 (i_rem (dayT g i t + x3) (g 99 6))
     else if g 17 i = 4 then (if i_rem x3 2 = 0 then i_shl 1 (i_rem (dayT g i t + x3 + 0) (g 99 6)) else i_shl 1 (i_rem (dayT g i t + x3 + 2) (g 99 6))) else i_shl 1 (dayT g i t))
  else 0
def mkS (g : St) (x3 : Int32) (k : Nat) (set : Int32) : Int32 :=
  if g 8 k = x3 then (if g 99 6 ≤ g 9 k then set else if (i_shr set (g 9 k)) &&& 1 = 1 then (set &&& ((i_shl 1 (g 9 k)) ^^^ (-1))) ||| (i_shl 1 (i_rem (g 9 k + 1) (g 99 6))) else set) else set
def mkN (g : St) (x3 set : Int32) : Nat → Int32
  | 0 => set
  | k + 1 => mkS g x3 k (mkN g x3 set k)
def marketV (g : St) (i t : Nat) (x3 : Int32) : Int32 := if g 17 i = 5 then daysV g i t x3 else mkN g x3 (daysV g i t x3) (nn (g 99 7))
section
variable {g : St} {Q : Int32 → St → Prop} {i t w F : Nat} {x3 : Int32}
theorem pX7_isGiving_y {k G : Nat} (hG : g 99 16 = Int32.ofNat G) (hG12 : G ≤ 12) (hk : k < G) (h : Q 1 g) : wX7_isGiving g (Int32.ofNat k) Q := by
  unfold wX7_isGiving
  refine pX7_in ?_
  rw [hG, i_dec (by omega), i0, if_pos ((isN_of (by omega)).mpr ⟨k, hk, rfl⟩)]
  exact ⟨vz1, h⟩
theorem pX7_isGiving_n {x : Int32} {G : Nat} (hG : g 99 16 = Int32.ofNat G) (hG12 : G ≤ 12) (hk : ¬ isN x G) (h : Q 0 g) : wX7_isGiving g x Q := by
  unfold wX7_isGiving
  refine pX7_in ?_
  rw [hG, i_dec (by omega), i0, if_neg (fun q => hk ((isN_of (by omega)).mp q))]
  exact ⟨vz0, h⟩
theorem pX7_daysOf (hi : i < 12) (ht : t < 6) (hw0 : ¬ g 99 6 = 0) (h : Q (daysV g i t x3) g) : wX7_daysOf g (Int32.ofNat i) (Int32.ofNat t) x3 Q := by
  have hin : vp_in (Int32.ofNat i) 12 := n_in hi (by decide)
  have e1 : (6 : Int32) * Int32.ofNat i + Int32.ofNat t = Int32.ofNat (6 * i + t) := n_ix
  unfold wX7_daysOf
  rw [e1, n_clamp (n := i) (by omega), n_clamp (n := 6 * i + t) (by omega)]
  have hgo : ∀ v, v = dayT g i t → wbX7_daysOf_25 Q (Int32.ofNat i) x3 v g := by
    intro v hv
    unfold daysV at h
    rw [← hv] at h
    unfold wbX7_daysOf_25
    refine pX7_in ?_
    rw [n_clamp (n := i) (by omega)]
    by_cases hc : (0 : Int32).toInt ≤ v.toInt ∧ v.toInt ≤ (g 99 6 - 1).toInt
    · rw [if_pos hc] at h ⊢
      refine w1 ⟨hin, fun h2 => ⟨hw0, ?_⟩, fun h2 => ⟨fun h3 => ⟨hw0, ?_⟩, fun h3 => ⟨fun h4 => ⟨fun h5 => ⟨hw0, ?_⟩, fun h5 => ⟨hw0, ?_⟩⟩, fun h4 => ?_⟩⟩⟩
      · rw [if_pos h2] at h; exact h
      · rw [if_neg h2, if_pos h3] at h; exact h
      · rw [if_neg h2, if_neg h3, if_pos h4, if_neg h5] at h; exact h
      · rw [if_neg h2, if_neg h3, if_pos h4, if_pos h5] at h; exact h
      · rw [if_neg h2, if_neg h3, if_neg h4] at h; exact h
    · rw [if_neg hc] at h ⊢
      exact w0 h
  exact ⟨hin, fun q => hgo _ (by unfold dayT; rw [if_pos q]), fun q => ⟨n_in (by omega) (by decide), hgo _ (by unfold dayT; rw [if_neg q])⟩⟩
theorem pX7_market (hi : i < 12) (ht : t < 6) (hw0 : ¬ g 99 6 = 0) (hF : g 99 7 = Int32.ofNat F) (hF10 : F ≤ 10) (h : Q (marketV g i t x3) g) : wX7_market g (Int32.ofNat i) (Int32.ofNat t) x3 Q := by
  unfold wX7_market
  refine pX7_daysOf hi ht hw0 ?_
  have hin : vp_in (Int32.ofNat i) 12 := n_in hi (by decide)
  unfold marketV at h
  rw [hF, nn_of (by omega)] at h
  by_cases h5 : g 17 i = 5
  · rw [if_pos h5] at h
    refine icX7_market_12_5 0 0 (by decide) (by omega) (fun _ => True) (fun _ => Int32.ofNat i) (fun _ => x3) (fun _ => daysV g i t x3) (fun _ => g) trivial ?_
    intro K k _ hk _ hK
    unfold wbX7_market_12
    rw [n_clamp (n := i) (by omega)]
    exact ⟨fun _ => h, fun _ => ⟨hin, fun _ => h, fun q => absurd h5 q⟩⟩
  · rw [if_neg h5] at h
    refine icX7_market_12_5 F 0 (by omega) (by omega) (fun _ => True) (fun _ => Int32.ofNat i) (fun _ => x3) (fun k => mkN g x3 (daysV g i t x3) k) (fun _ => g) trivial ?_
    intro K k _ hk _ hK
    unfold wbX7_market_12
    rw [hF, n_clamp (n := i) (by omega), n_clamp (n := k) (by omega)]
    refine w_upto (by omega) hk (fun q => ?_) (fun hlt => ⟨hin, fun q => absurd q h5, fun _ => ⟨n_in (by omega) (by decide), fun x6 e6 => ⟨n_in (by omega) (by decide), ?_⟩⟩⟩)
    · subst q
      exact h
    · subst e6
      have hgo : ∀ v, v = mkS g x3 k (mkN g x3 (daysV g i t x3) k) → wbX7_market_94 K Q (Int32.ofNat i) x3 v (Int32.ofNat k) g := by
        intro v hv
        unfold wbX7_market_94
        intro x e
        rw [n_suc] at e
        subst e
        rw [hv]
        exact hK hlt trivial
      refine ⟨fun q1 => hgo _ (by unfold mkS; rw [if_neg q1]), fun q1 => ⟨fun q2 => hgo _ (by unfold mkS; rw [if_pos q1, if_pos q2]), fun q2 => ⟨fun q3 => hgo _ (by unfold mkS; rw [if_pos q1, if_neg q2, if_neg q3]), fun q3 => ⟨hw0, fun x4 e4 => hgo _ (by unfold mkS; rw [if_pos q1, if_neg q2, if_pos q3]; exact e4)⟩⟩⟩⟩
end
