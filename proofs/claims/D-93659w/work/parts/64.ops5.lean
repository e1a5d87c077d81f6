/-! PLAIN LAYER: image -/
set_option maxRecDepth 100000
/-- the first k of s, then d -/
def cp (s d : Nat → Int32) (k : Nat) : Nat → Int32 := fun i => if i < k then s i else d i
theorem cp_0 {s d : Nat → Int32} : cp s d 0 = d := by
  funext i
  simp [cp]
theorem cp_step {s d : Nat → Int32} {k : Nat} : upd (cp s d k) k (s k) = cp s d (k + 1) := by
  funext i
  unfold upd cp
  by_cases h : i = k
  · subst h
    simp
  · by_cases h2 : i < k
    · simp [h, h2, Nat.lt_succ_of_lt h2]
    · have : ¬ i < k + 1 := by omega
      simp [h, h2, this]
theorem cp_eq {s d : Nat → Int32} {k : Nat} : rEq k (cp s d k) s := fun i hi => by simp [cp, hi]
theorem cpy_cp {s d : Nat → Int32} {n : Nat} : va_cpy s d 0 0 n = cp s d n := by
  funext k
  unfold va_cpy cp
  by_cases h : k < n
  · rw [if_pos ⟨Nat.zero_le _, by omega⟩, if_pos h]
    simp
  · rw [if_neg (by omega), if_neg h]
theorem rEq.tr {n : Nat} {F G H : Nat → Int32} (h1 : rEq n F G) (h2 : rEq n G H) : rEq n F H := fun i hi => (h1 i hi).trans (h2 i hi)
theorem rEq.sy {n : Nat} {F G : Nat → Int32} (h : rEq n F G) : rEq n G F := fun i hi => (h i hi).symm
theorem rEq.le {n m : Nat} {F G : Nat → Int32} (h : rEq n F G) (hm : m ≤ n) : rEq m F G := fun i hi => h i (by omega)
theorem rIn.eq {n : Nat} {F G : Nat → Int32} {lo hi : Int} (h : rIn n F lo hi) (e : rEq n G F) : rIn n G lo hi := fun i hi => by rw [e i hi]; exact h i hi
theorem upd2_c {f : St} {r r' i : Nat} {F : Nat → Int32} {v : Int32} (h : r' ≠ r) : upd2 (updR f r F) r' i v = updR (upd2 f r' i v) r F := by
  funext a
  by_cases h1 : a = r
  · subst h1
    simp [upd2, updR, Ne.symm h]
  · by_cases h2 : a = r'
    · subst h2
      simp [upd2, updR, h1]
    · simp [upd2, updR, h1, h2]
def gI (g : St) : St := upd2 (upd2 (upd2 (upd2 (upd2 g 99 25 1) 99 26 (g 99 0)) 99 27 (g 99 6)) 99 28 (g 99 7)) 99 29 (g 99 15)
def gI1 (g : St) (k : Nat) : St := updR (updR (updR (gI g) 30 (cp (g 2) (g 30) k)) 31 (cp (g 3) (g 31) k)) 32 (cp (g 4) (g 32) k)
def gI2 (g : St) (k : Nat) : St := updR (gI1 g 6) 33 (cp (g 5) (g 33) k)
def gI3 (g : St) (k : Nat) : St := updR (updR (gI2 g 36) 34 (cp (g 8) (g 34) k)) 35 (cp (g 9) (g 35) k)
theorem pX7_image {g : St} {Q : Int32 → St → Prop} (h : Q (g 99 0) (gI3 g 10)) : wX7_image g Q := by
  unfold wX7_image
  intro f1 e1 f2 e2 f3 e3 f4 e4 f5 e5
  have e : f5 = gI1 g 0 := by
    rw [e5, e4, e3, e2, e1]
    unfold gI1
    rw [cp_0, cp_0, cp_0]
    have s1 : g 30 = (gI g) 30 := rfl
    have s2 : g 31 = (updR (gI g) 30 ((gI g) 30)) 31 := rfl
    have s3 : g 32 = (updR (updR (gI g) 30 ((gI g) 30)) 31 ((updR (gI g) 30 ((gI g) 30)) 31)) 32 := rfl
    rw [s1, s2, s3, updR_self, updR_self, updR_self]
    rfl
  rw [e]
  refine icX7_image_39_1 6 0 (by decide) (by omega) (fun _ => True) (gI1 g) trivial ?_
  intro K k _ hk _ hK
  unfold wbX7_image_39
  refine w_upto (T := 6) (by decide) hk (fun q => ?_) (fun hlt => ?_)
  · subst q
    have e2 : gI1 g 6 = gI2 g 0 := by
      unfold gI2
      rw [cp_0, show g 33 = (gI1 g 6) 33 from rfl, updR_self]
    rw [e2]
    refine icX7_image_89_1 36 0 (by decide) (by omega) (fun _ => True) (gI2 g) trivial ?_
    intro K k _ hk _ hK
    unfold wbX7_image_89
    refine w_upto (T := 36) (by decide) hk (fun q => ?_) (fun hlt => ?_)
    · subst q
      have e3 : gI2 g 36 = gI3 g 0 := by
        unfold gI3
        rw [cp_0, cp_0, show g 34 = (gI2 g 36) 34 from rfl, updR_self, show g 35 = (gI2 g 36) 35 from rfl, updR_self]
      rw [e3]
      refine icX7_image_115_1 10 0 (by decide) (by omega) (fun _ => True) (gI3 g) trivial ?_
      intro K k _ hk _ hK
      unfold wbX7_image_115
      refine w_upto (T := 10) (by decide) hk (fun q => ?_) (fun hlt => ?_)
      · subst q
        exact h
      · have hin : vp_in (Int32.ofNat k) 10 := n_in hlt (by decide)
        rw [n_clamp (by omega)]
        refine ⟨hin, hin, fun f6 q6 => ⟨hin, hin, fun f7 q7 x q => ?_⟩⟩
        rw [n_suc] at q
        subst q
        have e7 : f7 = gI3 g (k + 1) := by
          rw [q7, q6]
          show upd2 (upd2 (gI3 g k) 34 k (g 8 k)) 35 k (g 9 k) = _
          unfold gI3
          rw [upd2_c (r := 35) (r' := 34) (by decide), updR_upd2', cp_step, updR_upd2', cp_step]
        rw [e7]
        exact hK hlt trivial
    · have hin : vp_in (Int32.ofNat k) 36 := n_in hlt (by decide)
      rw [n_clamp (by omega)]
      refine ⟨hin, hin, fun f6 q6 x q => ?_⟩
      rw [n_suc] at q
      subst q
      have e7 : f6 = gI2 g (k + 1) := by
        rw [q6]
        show upd2 (gI2 g k) 33 k (g 5 k) = _
        unfold gI2
        rw [updR_upd2', cp_step]
      rw [e7]
      exact hK hlt trivial
  · have hin : vp_in (Int32.ofNat k) 6 := n_in hlt (by decide)
    rw [n_clamp (by omega)]
    refine ⟨hin, hin, fun f6 q6 => ⟨hin, hin, fun f7 q7 => ⟨hin, hin, fun f8 q8 x q => ?_⟩⟩⟩
    rw [n_suc] at q
    subst q
    have e7 : f8 = gI1 g (k + 1) := by
      rw [q8, q7, q6]
      show upd2 (upd2 (upd2 (gI1 g k) 30 k (g 2 k)) 31 k (g 3 k)) 32 k (g 4 k) = _
      unfold gI1
      rw [upd2_c (r := 32) (r' := 30) (by decide), upd2_c (r := 31) (r' := 30) (by decide), updR_upd2', cp_step, upd2_c (r := 32) (r' := 31) (by decide), updR_upd2', cp_step, updR_upd2', cp_step]
    rw [e7]
    exact hK hlt trivial
section
variable {b o : Nat} {cs ad : Nat → Nat} {vs : Nat → Option Nat} {S : XS} {g : St}
theorem op_image (hI : RI S.1 g) (hM : MI g) : wX0_image b cs ad vs o S (fun r S' => wX7_image g (fun r' g' => r = r' ∧ OK1 S g S' g')) := by
  obtain ⟨⟨a1, a2, a3, a4, a5, a6⟩, ⟨r0, r1, r2, r3, r4⟩, ⟨f1, f2⟩, aF, aT, aD, aW, aG, aS⟩ := hI
  obtain ⟨⟨m1, ⟨w, hw1, hw2, hw⟩, m3, m4, m5, ⟨j, hj, ej⟩, m7⟩, ⟨n1, n2, n3, n4, n5⟩, ⟨k1, k2⟩, mT, mD, mW, mG, mS⟩ := hM
  have c6 : Int32.toNatClampNeg (6 : Int32) = 6 := by decide
  have c36 : Int32.toNatClampNeg (36 : Int32) = 36 := by decide
  have c0 : Int32.toNatClampNeg (0 : Int32) = 0 := by decide
  have z0 : ¬ (0 : Int32) < 0 := by decide
  have z6 : ¬ (6 : Int32) < 0 := by decide
  have z36 : ¬ (36 : Int32) < 0 := by decide
  unfold wX0_image
  rw [c0, c6, c36]
  simp only [cpy_cp]
  refine ⟨z0, z0, z6, by omega, by omega, fun s1 e1 => ⟨z0, z0, z6, by omega, by omega, fun s2 e2 => ⟨z0, z0, z6, by omega, by omega, fun s3 e3 => ⟨z0, z0, z36, by omega, by omega, fun s4 e4 s5 e5 s6 e6 s7 e7 s8 e8 => ?_⟩⟩⟩⟩
  subst e8 e7 e6 e5 e4 e3 e2 e1
  refine pX7_image ?_
  obtain ⟨T, hT6, hT⟩ := m1
  obtain ⟨n, hn, hF⟩ := m3
  refine ⟨a1, ⟨⟨a1, a2, a3, a4, a5, a6⟩, ⟨r0, r1, r2, r3, r4⟩, ⟨f1, f2⟩, aF, aT, aD, aW, Or.inr ⟨rfl, a1, a2, a3, a4, ?_, ?_, ?_, ?_, ?_, ?_⟩, aS⟩, ⟨⟨⟨T, hT6, hT⟩, ⟨w, hw1, hw2, hw⟩, ⟨n, hn, hF⟩, m4, m5, ⟨j, hj, ej⟩, m7⟩, ⟨n1, n2, n3, n4, n5⟩, ⟨k1, k2⟩, mT, mD, mW, Or.inr ⟨rfl, ⟨T, ?_, hT⟩, ⟨w, hw1, hw2, hw⟩, ⟨n, ?_, hF⟩, ⟨j, hj, ej⟩, ?_, ?_, ?_, ?_, ?_, ?_⟩, mS⟩, rfl, rfl, rfl, rfl, rfl, rfl, rfl, rfl⟩
  · exact (cp_eq.tr r1).tr cp_eq.sy
  · exact (cp_eq.tr r2).tr cp_eq.sy
  · exact (cp_eq.tr r3).tr cp_eq.sy
  · exact (cp_eq.tr r4).tr cp_eq.sy
  · show rEq (nn (g 99 7)) (S.1 8) (cp (g 8) (g 34) 10)
    rw [hF, nn_of (by omega)] at f1 ⊢
    exact f1.tr (cp_eq.le hn).sy
  · show rEq (nn (g 99 7)) (S.1 9) (cp (g 9) (g 35) 10)
    rw [hF, nn_of (by omega)] at f2 ⊢
    exact f2.tr (cp_eq.le hn).sy
  · show T ≤ nn (g 99 0)
    rw [hT, nn_of (by omega)]
    exact Nat.le_refl _
  · show n ≤ nn (g 99 7)
    rw [hF, nn_of (by omega)]
    exact Nat.le_refl _
  · exact n2.eq cp_eq
  · exact n3.eq cp_eq
  · exact n4.eq cp_eq
  · refine ⟨n5.1.eq cp_eq, fun a c ha hc hh => ?_⟩
    have := n5.2 a c ha hc hh
    show cp (g 5) (g 33) 36 (6 * a + c) = 0
    rw [cp_eq _ (by omega)]
    exact this
  · show rIn (nn (g 99 7)) (cp (g 8) (g 34) 10) 0 99
    rw [hF, nn_of (by omega)] at k1 ⊢
    exact k1.eq (cp_eq.le hn)
  · show rIn (nn (g 99 7)) (cp (g 9) (g 35) 10) 0 6
    rw [hF, nn_of (by omega)] at k2 ⊢
    exact k2.eq (cp_eq.le hn)
end
