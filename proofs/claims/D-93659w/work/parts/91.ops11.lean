/-! PLAIN LAYER: count, givingTold, marketOf, bar, lawful -/
set_option maxRecDepth 100000
section
variable {b o : Nat} {cs ad : Nat → Nat} {vs : Nat → Option Nat} {S : XS} {g : St} {T w : Nat}
theorem op_count (hI : RI S.1 g) (hM : MI g) (hG : GL o cs ad S g) (x : Int32) : wX0_count b cs ad vs o S x (fun r S' => wX7_count g x (fun r' g' => r = r' ∧ OK1 S g S' g')) := by
  have hO := OK1.rf hI hM
  obtain ⟨G, hG12, eG, hL⟩ := hG
  obtain ⟨⟨a1, a2, a3, a4, a5, a6⟩, -⟩ := hI
  unfold wX0_count
  have hm : ∀ Q : Int32 → St → Prop, Q (if x = 0 then g 99 0 else if x = 1 then g 99 6 else if x = 2 then g 99 7 else if x = 3 then g 99 16 else if x = 4 then g 99 14 else if x = 5 then g 99 15 else if x = 6 then g 99 11 else -2) g → wX7_count g x Q := by
    intro Q h
    unfold wX7_count
    refine ⟨fun q => ?_, fun q => ⟨fun q1 => ?_, fun q1 => ⟨fun q2 => ?_, fun q2 => ⟨fun q3 => ?_, fun q3 => ⟨fun q4 => ?_, fun q4 => ⟨fun q5 => ?_, fun q5 => ⟨fun q6 => ?_, fun q6 => ?_⟩⟩⟩⟩⟩⟩⟩
    · rw [if_pos q] at h; exact h
    · rw [if_neg q, if_pos q1] at h; exact h
    · rw [if_neg q, if_neg q1, if_pos q2] at h; exact h
    · rw [if_neg q, if_neg q1, if_neg q2, if_pos q3] at h; exact h
    · rw [if_neg q, if_neg q1, if_neg q2, if_neg q3, if_pos q4] at h; exact h
    · rw [if_neg q, if_neg q1, if_neg q2, if_neg q3, if_neg q4, if_pos q5] at h; exact h
    · rw [if_neg q, if_neg q1, if_neg q2, if_neg q3, if_neg q4, if_neg q5, if_pos q6] at h; exact h
    · rw [if_neg q, if_neg q1, if_neg q2, if_neg q3, if_neg q4, if_neg q5, if_neg q6] at h; exact h
  refine ⟨fun q => hm _ ?_, fun q => ⟨fun q1 => hm _ ?_, fun q1 => ⟨fun q2 => hm _ ?_, fun q2 => ⟨fun q3 => pX_size hL ⟨S, rfl, hm _ ?_⟩, fun q3 => ⟨fun q4 => hm _ ?_, fun q4 => ⟨fun q5 => hm _ ?_, fun q5 => ⟨fun q6 => hm _ ?_, fun q6 => hm _ ?_⟩⟩⟩⟩⟩⟩⟩
  · rw [if_pos q]; exact ⟨a1, hO⟩
  · rw [if_neg q, if_pos q1]; exact ⟨a2, hO⟩
  · rw [if_neg q, if_neg q1, if_pos q2]; exact ⟨a3, hO⟩
  · rw [if_neg q, if_neg q1, if_neg q2, if_pos q3]; exact ⟨eG.symm, hO⟩
  · rw [if_neg q, if_neg q1, if_neg q2, if_neg q3, if_pos q4]; exact ⟨a5, hO⟩
  · rw [if_neg q, if_neg q1, if_neg q2, if_neg q3, if_neg q4, if_pos q5]; exact ⟨a4, hO⟩
  · rw [if_neg q, if_neg q1, if_neg q2, if_neg q3, if_neg q4, if_neg q5, if_pos q6]; exact ⟨a6, hO⟩
  · rw [if_neg q, if_neg q1, if_neg q2, if_neg q3, if_neg q4, if_neg q5, if_neg q6]; exact ⟨rfl, hO⟩
theorem op_givingTold (hI : RI S.1 g) (hM : MI g) (hG : GL o cs ad S g) (x y : Int32) : wX0_givingTold b cs ad vs o S x y (fun r S' => wX7_givingTold g x y (fun r' g' => r = r' ∧ OK1 S g S' g')) := by
  have hO := OK1.rf hI hM
  obtain ⟨G, hG12, eG, hL⟩ := hG
  unfold wX0_givingTold
  by_cases hx : isN x G
  · obtain ⟨i, hi, rfl⟩ := hx
    refine pX0_isGiving_y hL hG12 hi (w1 (pX_get hL hG12 hi (fun a k n D hg => ?_)))
    have hin : vp_in (Int32.ofNat i) 12 := n_in (by omega) (by decide)
    have hg0 := hg
    obtain ⟨ha, hk6, hn, ⟨da, hda, hOb, hdD⟩, h17, h18, hD⟩ := hg
    have hm : ∀ Q : Int32 → St → Prop, Q (if y = 0 then g 17 i else if y = 1 then g 18 i else if y = 2 then (if g 17 i = 5 then 0 else 1) else -7) g → wX7_givingTold g (Int32.ofNat i) y Q := by
      intro Q h
      unfold wX7_givingTold
      refine pX7_isGiving_y eG hG12 hi (w1 ?_)
      rw [n_clamp (by omega)]
      refine ⟨fun q => ⟨fun q1 => ⟨fun q2 => ?_, fun q2 => ⟨hin, fun q5 => ?_, fun q5 => ?_⟩⟩, fun q1 => ⟨hin, ?_⟩⟩, fun q => ⟨hin, ?_⟩⟩
      · rw [if_neg q, if_neg q1, if_neg q2] at h; exact h
      · rw [if_neg q, if_neg q1, if_pos q2, if_neg q5] at h; exact h
      · rw [if_neg q, if_neg q1, if_pos q2, if_pos q5] at h; exact h
      · rw [if_neg q, if_pos q1] at h; exact h
      · rw [if_pos q] at h; exact h
    refine ⟨fun q => p_kind hg0 ⟨S, rfl, hm _ ?_⟩, fun q => ⟨fun q1 => ⟨ha, _, _, _, _, hOb, ?_, hm _ ?_⟩, fun q1 => ⟨fun q2 => p_moves hg0 ⟨S, rfl, ?_⟩, fun q2 => hm _ ?_⟩⟩⟩
    · rw [if_pos q]; exact ⟨h17.symm, hO⟩
    · have : k = 0 ∨ k = 1 ∨ k = 2 ∨ k = 3 ∨ k = 4 ∨ k = 5 := by omega
      rcases this with q | q | q | q | q | q <;> subst q <;> rfl
    · rw [if_neg q, if_pos q1]; exact ⟨h18.symm, hO⟩
    · by_cases hk5 : k = 5
      · subst hk5
        rw [if_pos (rfl : (5 : Nat) = 5)]
        refine w0' (hm _ ?_)
        rw [if_neg q, if_neg q1, if_pos q2, if_pos (show g 17 i = 5 from h17)]
        exact ⟨rfl, hO⟩
      · rw [if_neg hk5]
        refine w1' (hm _ ?_)
        rw [if_neg q, if_neg q1, if_pos q2, if_neg (show ¬ g 17 i = 5 from fun z => hk5 ((n_eqI (a := k) (b := 5) (by omega) (by decide)).mp (h17.symm.trans z)))]
        exact ⟨rfl, hO⟩
    · rw [if_neg q, if_neg q1, if_neg q2]; exact ⟨rfl, hO⟩
  · refine pX0_isGiving_n hL hG12 hx (w0 ?_)
    unfold wX7_givingTold
    exact pX7_isGiving_n eG hG12 hx (w0 ⟨rfl, hO⟩)
theorem isW_of {x : Int32} : (0 ≤ x.toInt ∧ x.toInt ≤ 99) ↔ isN x 100 := by
  have := isN_of (x := x) (n := 100) (by decide)
  constructor
  · intro h
    exact this.mp ⟨h.1, by omega⟩
  · intro h
    have := this.mpr h
    omega
theorem pX0_isWeek_y {k : Nat} {Q : Int32 → XS → Prop} (hk : k < 100) (h : Q 1 S) : wX0_isWeek b cs ad vs o S (Int32.ofNat k) Q := by
  unfold wX0_isWeek
  refine pX0_in ?_
  rw [l_of, l0, show (99 : Int64).toInt = 99 by decide, if_pos (isW_of.mpr ⟨k, hk, rfl⟩)]
  exact ⟨vz1, h⟩
theorem pX0_isWeek_n {x : Int32} {Q : Int32 → XS → Prop} (hk : ¬ isN x 100) (h : Q 0 S) : wX0_isWeek b cs ad vs o S x Q := by
  unfold wX0_isWeek
  refine pX0_in ?_
  rw [l_of, l0, show (99 : Int64).toInt = 99 by decide, if_neg (fun q => hk (isW_of.mp q))]
  exact ⟨vz0, h⟩
theorem pX7_isWeek_y {k : Nat} {Q : Int32 → St → Prop} (hk : k < 100) (h : Q 1 g) : wX7_isWeek g (Int32.ofNat k) Q := by
  unfold wX7_isWeek
  refine pX7_in ?_
  rw [i0, show (99 : Int32).toInt = 99 by decide, if_pos (isW_of.mpr ⟨k, hk, rfl⟩)]
  exact ⟨vz1, h⟩
theorem pX7_isWeek_n {x : Int32} {Q : Int32 → St → Prop} (hk : ¬ isN x 100) (h : Q 0 g) : wX7_isWeek g x Q := by
  unfold wX7_isWeek
  refine pX7_in ?_
  rw [i0, show (99 : Int32).toInt = 99 by decide, if_neg (fun q => hk (isW_of.mp q))]
  exact ⟨vz0, h⟩
theorem RI_fs (hI : RI S.1 g) : fsR S g := ⟨hI.1.2.1, hI.1.2.2.1, hI.2.2.1.1, hI.2.2.1.2⟩
theorem op_marketOf (hI : RI S.1 g) (hM : MI g) (hG : GL o cs ad S g) (x y z : Int32) : wX0_marketOf b cs ad vs o S x y z (fun r S' => wX7_marketOf g x y z (fun r' g' => r = r' ∧ OK1 S g S' g')) := by
  have hO := OK1.rf hI hM
  have hfs := RI_fs hI
  obtain ⟨G, hG12, eG, hL⟩ := hG
  obtain ⟨⟨a1, a2, a3, a4, a5, a6⟩, -⟩ := hI
  obtain ⟨⟨⟨T, hT6, hT⟩, ⟨w, hw2, hw7, hw⟩, ⟨F, hF10, hF⟩, -⟩, -⟩ := hM
  have hw0 : ¬ g 99 6 = 0 := by
    rw [hw]
    intro q
    have := (n_eqI (a := w) (b := 0) (by omega) (by decide)).mp q
    omega
  unfold wX0_marketOf wbX0_marketOf_24
  by_cases hx : isN x G
  · obtain ⟨i, hi, rfl⟩ := hx
    refine pX0_isGiving_y hL hG12 hi (w1' ?_)
    by_cases hy : isN y T
    · obtain ⟨t, ht, rfl⟩ := hy
      refine pX0_isTown_y (a1.trans hT) hT6 ht (w1' ?_)
      by_cases hz : isN z 100
      · obtain ⟨wk, hwk, rfl⟩ := hz
        refine pX0_isWeek_y hwk (w1 (pX_get hL hG12 hi (fun a k n D hg => pX0_market hg hfs (by omega) hw hw2 hw7 hF hF10 ?_)))
        unfold wX7_marketOf
        exact pX7_isGiving_y eG hG12 hi (w1' (pX7_isTown_y hT hT6 ht (w1' (pX7_isWeek_y hwk (w1' (pX7_market (by omega) (by omega) hw0 hF hF10 ⟨rfl, hO⟩))))))
      · refine pX0_isWeek_n hz (w0 ?_)
        unfold wX7_marketOf
        exact pX7_isGiving_y eG hG12 hi (w1' (pX7_isTown_y hT hT6 ht (w1' (pX7_isWeek_n hz (w0' ⟨rfl, hO⟩)))))
    · refine pX0_isTown_n (a1.trans hT) hT6 hy (w0' ?_)
      unfold wX7_marketOf
      exact pX7_isGiving_y eG hG12 hi (w1' (pX7_isTown_n hT hT6 hy (w0' ⟨rfl, hO⟩)))
  · refine pX0_isGiving_n hL hG12 hx (w0' ?_)
    unfold wX7_marketOf
    exact pX7_isGiving_n eG hG12 hx (w0' ⟨rfl, hO⟩)
end
