/-! PLAIN LAYER: copy -/
set_option maxRecDepth 100000
/-- cells behind k of n steps of a copy from a to c -/
def cyF (G : Nat → Int32) (a c n k : Nat) : Nat → Int32 := fun i => if (if a < c then c + (n - k) ≤ i ∧ i < c + n else c ≤ i ∧ i < c + k) then G (a + (i - c)) else G i
theorem cyF_0 {G : Nat → Int32} {a c n : Nat} : cyF G a c n 0 = G := by
  funext i
  unfold cyF
  by_cases h : a < c
  · simp only [if_pos h]
    rw [if_neg (by omega)]
  · simp only [if_neg h]
    rw [if_neg (by omega)]
theorem cyF_n {G : Nat → Int32} {a c n i : Nat} : cyF G a c n n i = if c ≤ i ∧ i < c + n then G (a + (i - c)) else G i := by
  unfold cyF
  by_cases h : a < c
  · simp only [if_pos h]
    rw [Nat.sub_self, Nat.add_zero]
  · simp only [if_neg h]
theorem cyF_step {G : Nat → Int32} {a c n k x : Nat} (hk : k < n) (hx : x = if a < c then n - 1 - k else k) : upd (cyF G a c n k) (c + x) (cyF G a c n k (a + x)) = cyF G a c n (k + 1) := by
  have e : cyF G a c n k (a + x) = G (a + x) := by
    unfold cyF
    by_cases h : a < c
    · rw [if_pos h] at hx
      simp only [if_pos h]
      rw [if_neg (by omega)]
    · rw [if_neg h] at hx
      simp only [if_neg h]
      by_cases h2 : a = c
      · subst h2
        rw [if_neg (by omega)]
      · rw [if_neg (by omega)]
  rw [e]
  funext i
  unfold upd
  by_cases c1 : i = c + x
  · rw [if_pos c1]
    unfold cyF
    by_cases h : a < c
    · rw [if_pos h] at hx
      simp only [if_pos h]
      rw [if_pos (by omega), c1, show a + (c + x - c) = a + x by omega]
    · rw [if_neg h] at hx
      simp only [if_neg h]
      rw [if_pos (by omega), c1, show a + (c + x - c) = a + x by omega]
  · rw [if_neg c1]
    unfold cyF
    by_cases h : a < c
    · rw [if_pos h] at hx
      simp only [if_pos h]
      by_cases c2 : c + (n - k) ≤ i ∧ i < c + n
      · rw [if_pos c2, if_pos (by omega)]
      · rw [if_neg c2, if_neg (by omega)]
    · rw [if_neg h] at hx
      simp only [if_neg h]
      by_cases c2 : c ≤ i ∧ i < c + k
      · rw [if_pos c2, if_pos (by omega)]
      · rw [if_neg c2, if_neg (by omega)]
section
variable {b o : Nat} {cs ad : Nat → Nat} {vs : Nat → Option Nat} {S : XS} {g : St}
theorem m_copy {a c n : Nat} {Q : Int32 → St → Prop} (ha : a + n ≤ 160) (hc : c + n ≤ 160) (h : Q (Int32.ofNat n) (updR g 38 (cyF (g 38) a c n n))) : ∃ m : Nat, wlX7_copy_147 Q m (Int32.ofNat n) (Int32.ofNat a) (Int32.ofNat c) (0 : Int32) g := by
  have e0 : g = updR g 38 (cyF (g 38) a c n 0) := by rw [cyF_0, updR_self]
  conv => rw [e0]
  refine icX7_copy_147_8 n 0 (by omega) (by omega) (fun _ => True) (fun _ => Int32.ofNat n) (fun _ => Int32.ofNat a) (fun _ => Int32.ofNat c) (fun k => updR g 38 (cyF (g 38) a c n k)) trivial ?_
  intro K k _ hk _ hK
  unfold wbX7_copy_147
  refine w_upto (by omega) hk (fun q => ?_) (fun hlt => ?_)
  · subst q
    exact h
  have hle := n_leI (a := c) (b := a) (by omega) (by omega)
  have hgo : ∀ x : Nat, x = (if a < c then n - 1 - k else k) → wbX7_copy_173 K Q (Int32.ofNat n) (Int32.ofNat a) (Int32.ofNat c) (Int32.ofNat k) (Int32.ofNat x) (updR g 38 (cyF (g 38) a c n k)) := by
    intro x hx
    have hxn : x < n := by
      by_cases h1 : a < c
      · rw [if_pos h1] at hx; omega
      · rw [if_neg h1] at hx; omega
    unfold wbX7_copy_173
    rw [n_add, n_add, n_clamp (by omega), n_clamp (by omega)]
    refine ⟨n_in (by omega) (by decide), n_in (by omega) (by decide), fun f7 e7 x8 e8 => ?_⟩
    rw [n_suc] at e8
    subst e8
    have e7' : f7 = updR g 38 (cyF (g 38) a c n (k + 1)) := by
      rw [e7, updR_s, updR_upd2', cyF_step hlt hx]
    rw [e7']
    exact hK hlt trivial
  refine ⟨fun z => hgo k ?_, fun z => ?_⟩
  · have := hle.mp z
    rw [if_neg (by omega)]
  · have : ¬ c ≤ a := fun y => z (hle.mpr y)
    have e : Int32.ofNat n - 1 - Int32.ofNat k = Int32.ofNat (n - 1 - k) := by
      have e1 : Int32.ofNat n - 1 = Int32.ofNat (n - 1) := n_pred (by omega)
      rw [e1, n_sub (by omega)]
    rw [e]
    refine hgo _ ?_
    rw [if_pos (by omega)]
theorem op_copy (hI : RI S.1 g) (hM : MI g) (hz : RZ b o S) (x1 x2 x3 x4 x5 : Int32) : wX0_copy b cs ad vs o S x1 x2 x3 x4 x5 (fun r S' => wX7_copy g x1 x2 x3 x4 x5 (fun r' g' => r = r' ∧ OK3 S g S' g')) := by
  have hO := (OK1.rf hI hM).three hz
  have f3 : (3 : Int32).toInt = ((3 : Nat) : Int) := by decide
  unfold wX0_copy
  by_cases hx : isN x1 4
  · obtain ⟨s, hs, rfl⟩ := hx
    have hins : vp_in (Int32.ofNat s) 4 := n_in hs (by decide)
    refine pX0_isSheet_y hs (w1' ?_)
    by_cases hy : isN x3 4
    · obtain ⟨t, ht, rfl⟩ := hy
      have hint : vp_in (Int32.ofNat t) 4 := n_in ht (by decide)
      refine pX0_isSheet_y ht (w1 ?_)
      have hsn := sort_neg hI hM hs
      have htn := sort_neg hI hM ht
      obtain ⟨q0, q1, q2⟩ := RI_at hs hI
      obtain ⟨p0, p1, p2⟩ := RI_at ht hI
      have h37s := hM.2.2.2.2.2.2.2.2 s hs
      obtain ⟨n, hn, en⟩ := bN_of (m := 40) h37s.1 h37s.2 (by decide)
      have h37t := hM.2.2.2.2.2.2.2.2 t ht
      obtain ⟨m, hm, em⟩ := bN_of (m := 40) h37t.1 h37t.2 (by decide)
      have en' : (Int32.ofNat n).toInt = n := n_toInt (by omega)
      have em' : (Int32.ofNat m).toInt = m := n_toInt (by omega)
      by_cases h0 : 0 ≤ S.1 (60 + s) 0
      · have hne : ¬ g 36 s = -1 := fun e => (hsn.mpr e) h0
        refine p_there_y hs h0 ?_
        by_cases h1 : 0 ≤ S.1 (60 + t) 0
        · have hne1 : ¬ g 36 t = -1 := fun e => (htn.mpr e) h1
          refine p_there_y ht h1 ⟨hs, ht, ?_⟩
          rw [q0, p0]
          by_cases h2 : g 36 s = g 36 t
          · refine ⟨fun q => absurd h2 q, fun _ => ?_⟩
            -- the reference behind the sorts
            have hmR : ∀ Q : Int32 → St → Prop, ((x5 < (0 : Int32) → Q (-12 : Int32) g) ∧ (¬ x5 < (0 : Int32) → ((x2 < (0 : Int32) → Q (-12 : Int32) g) ∧ (¬ x2 < (0 : Int32) → ((x4 < (0 : Int32) → Q (-12 : Int32) g) ∧ (¬ x4 < (0 : Int32) → ((Int32.ofNat n < x2 → Q (-12 : Int32) g) ∧ (¬ Int32.ofNat n < x2 → ((Int32.ofNat m < x4 → Q (-12 : Int32) g) ∧ (¬ Int32.ofNat m < x4 → ((Int32.ofNat n - x2 < x5 → Q (-12 : Int32) g) ∧ (¬ Int32.ofNat n - x2 < x5 → ((x5 ≤ Int32.ofNat m - x4 → (∃ k : Nat, wlX7_copy_147 Q k x5 ((40 : Int32) * Int32.ofNat s + x2) ((40 : Int32) * Int32.ofNat t + x4) (0 : Int32) g)) ∧ (¬ x5 ≤ Int32.ofNat m - x4 → Q (-12 : Int32) g)))))))))))))) → wX7_copy g (Int32.ofNat s) x2 (Int32.ofNat t) x4 x5 Q := by
              intro Q h
              unfold wX7_copy
              refine pX7_in_y f3 (by decide) (by omega) (w1' (pX7_in_y f3 (by decide) (by omega) (w1 ⟨hins, ?_⟩)))
              rw [n_clamp (n := s) (by omega), n_clamp (n := t) (by omega), en, em]
              refine ⟨fun e => absurd e hne, fun _ => ⟨hint, fun _ => ⟨hins, hint, fun _ => ⟨h.1, fun a1 => ⟨(h.2 a1).1, fun a2 => ⟨((h.2 a1).2 a2).1, fun a3 => ⟨hins, (((h.2 a1).2 a2).2 a3).1, fun a4 => ⟨hint, ((((h.2 a1).2 a2).2 a3).2 a4).1, fun a5 => ⟨hins, (((((h.2 a1).2 a2).2 a3).2 a4).2 a5).1, fun a6 => ⟨hint, fun a7 => fun x6 e6 x7 e7 => ?_, (((((((h.2 a1).2 a2).2 a3).2 a4).2 a5).2 a6).2)⟩⟩⟩⟩⟩⟩⟩, fun e => absurd h2 e⟩, fun e => absurd e hne1⟩⟩
              subst e6
              subst e7
              exact ((((((h.2 a1).2 a2).2 a3).2 a4).2 a5).2 a6).1 a7
            unfold wbX0_copy_49
            refine p_need_y (by decide) ⟨S, rfl, ?_⟩
            -- the places are no good
            have hbad : wX7_copy g (Int32.ofNat s) x2 (Int32.ofNat t) x4 x5 (fun r' g' => (-12 : Int32) = r' ∧ OK3 S g (sOd S (-12)) g') → wbX0_copy_97 b cs ad vs o (fun r S' => wX7_copy g (Int32.ofNat s) x2 (Int32.ofNat t) x4 x5 (fun r' g' => r = r' ∧ OK3 S g S' g')) x2 x4 x5 s t S := by
              intro h
              unfold wbX0_copy_97 wbX0_copy_98
              exact p_need_n hz ⟨RZ_F hz, _, _, _, _, _, _, _, sOd_at, h⟩
            have hOd := OK3_od (code := -12) hz hI hM
            rw [q1, p1, en, em]
            have i12 := fun (x : Int32) => i_lt (x := x) (y := 0)
            refine ⟨fun c5 => hbad (hmR _ ⟨fun _ => ⟨rfl, hOd⟩, fun q => absurd c5 q⟩), fun c5 => ⟨fun c2 => hbad (hmR _ ⟨fun q => absurd q c5, fun _ => ⟨fun _ => ⟨rfl, hOd⟩, fun q => absurd c2 q⟩⟩), fun c2 => ⟨fun c4 => hbad (hmR _ ⟨fun q => absurd q c5, fun _ => ⟨fun q => absurd q c2, fun _ => ⟨fun _ => ⟨rfl, hOd⟩, fun q => absurd c4 q⟩⟩⟩), fun c4 => ?_⟩⟩⟩
            have hc5 : 0 ≤ x5.toInt := by
              have : ¬ x5.toInt < (0 : Int32).toInt := fun q => c5 (i_lt.mpr q)
              rw [i0] at this
              omega
            have hc2 : 0 ≤ x2.toInt := by
              have : ¬ x2.toInt < (0 : Int32).toInt := fun q => c2 (i_lt.mpr q)
              rw [i0] at this
              omega
            have hc4 : 0 ≤ x4.toInt := by
              have : ¬ x4.toInt < (0 : Int32).toInt := fun q => c4 (i_lt.mpr q)
              rw [i0] at this
              omega
            have b5 : x5.toInt < 2147483648 := Int32.toInt_lt x5
            have b2 : x2.toInt < 2147483648 := Int32.toInt_lt x2
            have b4 : x4.toInt < 2147483648 := Int32.toInt_lt x4
            have s1 : (Int32.ofNat n - x5).toInt = n - x5.toInt := by rw [i_sub (by omega) (by omega), en']
            have s2 : (Int32.ofNat m - x5).toInt = m - x5.toInt := by rw [i_sub (by omega) (by omega), em']
            have s3 : (Int32.ofNat n - x2).toInt = n - x2.toInt := by rw [i_sub (by omega) (by omega), en']
            have s4 : (Int32.ofNat m - x4).toInt = m - x4.toInt := by rw [i_sub (by omega) (by omega), em']
            -- the reference says so too
            have hmBad : ¬ (x2.toInt + x5.toInt ≤ n ∧ x4.toInt + x5.toInt ≤ m) → ∀ Q : Int32 → St → Prop, Q (-12) g → wX7_copy g (Int32.ofNat s) x2 (Int32.ofNat t) x4 x5 Q := by
              intro hno Q hQ
              refine hmR Q ⟨fun _ => hQ, fun _ => ⟨fun _ => hQ, fun _ => ⟨fun _ => hQ, fun _ => ⟨fun _ => hQ, fun _ => ⟨fun _ => hQ, fun _ => ⟨fun _ => hQ, fun d6 => ⟨fun d7 => ?_, fun _ => hQ⟩⟩⟩⟩⟩⟩⟩
              have e6 : ¬ (Int32.ofNat n - x2).toInt < x5.toInt := fun q => d6 (i_lt.mpr q)
              have e7 := i_le.mp d7
              omega
            refine ⟨hs, fun c6 => hbad (hmBad (fun z => ?_) _ ⟨rfl, hOd⟩), fun c6 => ⟨ht, fun c7 => hbad (hmBad (fun z => ?_) _ ⟨rfl, hOd⟩), fun c7 => ?_⟩⟩
            · have := i_lt.mp c6
              omega
            · have := i_lt.mp c7
              omega
            · have d6 : ¬ (Int32.ofNat n - x5).toInt < x2.toInt := fun q => c6 (i_lt.mpr q)
              have d7 : ¬ (Int32.ofNat m - x5).toInt < x4.toInt := fun q => c7 (i_lt.mpr q)
              obtain ⟨i, hi, rfl⟩ := bN_of (m := 40) (x := x2) hc2 (by omega) (by decide)
              obtain ⟨j, hj, rfl⟩ := bN_of (m := 40) (x := x4) hc4 (by omega) (by decide)
              obtain ⟨k, hk, rfl⟩ := bN_of (m := 40) (x := x5) hc5 (by omega) (by decide)
              rw [n_toInt (by omega)] at s1 s2 s3 s4 d6 d7
              have hik : i + k ≤ n := by omega
              have hjk : j + k ≤ m := by omega
              unfold wbX0_copy_98
              refine p_need_y (by decide) ⟨S, rfl, hs, ht, hs, ht, c2, c4, c5, ?_⟩
              rw [n_clamp (n := i) (by omega), n_clamp (n := j) (by omega), n_clamp (n := k) (by omega)]
              refine ⟨by omega, by omega, fun f64 e64 => ?_⟩
              subst e64
              refine hmR _ ⟨fun q => absurd q c5, fun _ => ⟨fun q => absurd q c2, fun _ => ⟨fun q => absurd q c4, fun _ => ⟨fun q => ?_, fun _ => ⟨fun q => ?_, fun _ => ⟨fun q => ?_, fun _ => ⟨fun _ => ?_, fun q => ?_⟩⟩⟩⟩⟩⟩⟩
              · have := i_lt.mp q
                rw [n_toInt (by omega), n_toInt (by omega)] at this
                omega
              · have := i_lt.mp q
                rw [n_toInt (by omega), n_toInt (by omega)] at this
                omega
              · have := i_lt.mp q
                rw [s3, n_toInt (by omega)] at this
                omega
              · have e1 : (40 : Int32) * Int32.ofNat s + Int32.ofNat i = Int32.ofNat (40 * s + i) := n_ix
                have e2 : (40 : Int32) * Int32.ofNat t + Int32.ofNat j = Int32.ofNat (40 * t + j) := n_ix
                rw [e1, e2]
                refine m_copy (by omega) (by omega) ⟨rfl, OK1.three (o := o) (b := b) ⟨?_, hM, rfl, rfl, rfl, rfl, rfl, rfl, rfl, rfl⟩ hz⟩
                have := RI_sh ht hI (A := S.1 (60 + t)) (B := va_cpy (S.1 (70 + s)) (S.1 (70 + t)) i j k) (g36 := g 36) (g37 := g 37) (g38 := cyF (g 38) (40 * s + i) (40 * t + j) k k) ⟨p0, p1, fun q hq => ?_⟩ (fun u hu hune X Y hXY => ⟨hXY.1, hXY.2.1, fun q hq => ?_⟩)
                · have e3 : updR (updR S.1 (60 + t) (S.1 (60 + t))) (70 + t) (va_cpy (S.1 (70 + s)) (S.1 (70 + t)) i j k) = updR S.1 (70 + t) (va_cpy (S.1 (70 + s)) (S.1 (70 + t)) i j k) := by rw [updR_self]
                  have e4 : updR (updR (updR g 36 (g 36)) 37 (g 37)) 38 (cyF (g 38) (40 * s + i) (40 * t + j) k k) = updR g 38 (cyF (g 38) (40 * s + i) (40 * t + j) k k) := by
                    have : updR (updR g 36 (g 36)) 37 (g 37) = g := by
                      have e3 : updR g 36 (g 36) = g := updR_self
                      rw [e3, updR_self]
                    rw [this]
                  rw [e3, e4] at this
                  exact this
                · rw [cyF_n]
                  unfold va_cpy
                  by_cases c : j ≤ q ∧ q < j + k
                  · rw [if_pos c, if_pos (by omega), q2 _ (by omega)]
                    congr 1
                    omega
                  · rw [if_neg c, if_neg (by omega)]
                    exact p2 q hq
                · rw [cyF_n, if_neg (by omega)]
                  exact hXY.2.2 q hq
              · exfalso
                apply q
                refine i_le.mpr ?_
                rw [s4, n_toInt (by omega)]
                omega
          · refine ⟨fun _ => ?_, fun q => absurd q h2⟩
            unfold wbX0_copy_49
            refine p_need_n hz ⟨RZ_F hz, _, _, _, _, _, _, _, sOd_at, ?_⟩
            unfold wX7_copy
            refine pX7_in_y f3 (by decide) (by omega) (w1' (pX7_in_y f3 (by decide) (by omega) (w1 ⟨hins, ?_⟩)))
            rw [n_clamp (n := s) (by omega), n_clamp (n := t) (by omega)]
            exact ⟨fun e => absurd e hne, fun _ => ⟨hint, fun _ => ⟨hins, hint, fun q => absurd q h2, fun _ => ⟨rfl, OK3_od hz hI hM⟩⟩, fun e => absurd e hne1⟩⟩
        · refine p_there_n hz ht h1 ⟨RZ_F hz, _, _, _, _, _, _, _, sOd_at, ?_⟩
          unfold wX7_copy
          refine pX7_in_y f3 (by decide) (by omega) (w1' (pX7_in_y f3 (by decide) (by omega) (w1 ⟨hins, ?_⟩)))
          rw [n_clamp (n := s) (by omega), n_clamp (n := t) (by omega)]
          exact ⟨fun e => absurd e hne, fun _ => ⟨hint, fun q => absurd (htn.mp h1) q, fun _ => ⟨rfl, OK3_od hz hI hM⟩⟩⟩
      · refine p_there_n hz hs h0 ⟨RZ_F hz, _, _, _, _, _, _, _, sOd_at, ?_⟩
        unfold wX7_copy
        refine pX7_in_y f3 (by decide) (by omega) (w1' (pX7_in_y f3 (by decide) (by omega) (w1 ⟨hins, ?_⟩)))
        rw [n_clamp (n := s) (by omega)]
        exact ⟨fun _ => ⟨rfl, OK3_od hz hI hM⟩, fun q => absurd (hsn.mp h0) q⟩
    · refine pX0_isSheet_n hy (w0 ?_)
      unfold wX7_copy
      exact pX7_in_y f3 (by decide) (by omega) (w1' (pX7_in_n f3 (by decide) hy (w0 ⟨rfl, hO⟩)))
  · refine pX0_isSheet_n hx (w0' ?_)
    unfold wX7_copy
    exact pX7_in_n f3 (by decide) hx (w0' ⟨rfl, hO⟩)
end
