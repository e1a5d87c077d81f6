/-! PLAIN LAYER: back -/
set_option maxRecDepth 100000
def bkR (n : Nat) (I R : Nat → Int32) : Nat → Int32 := fun k => if k / 6 < n ∧ k % 6 < n then I k else if k / 6 < n ∨ k % 6 < n then 0 else R k
def gB (g : St) : St := upd2 (upd2 (upd2 g 99 6 (g 99 27)) 99 7 (g 99 28)) 99 15 (g 99 29)
def gB1 (g : St) (k : Nat) : St := updR (updR (updR (gB g) 2 (cp (g 30) (g 2) k)) 3 (cp (g 31) (g 3) k)) 4 (cp (g 32) (g 4) k)
def gB2 (g : St) (n k : Nat) : St := updR (gB1 g n) 5 (cp (bkR n (g 33) (g 5)) (g 5) k)
def gB3 (g : St) (n k : Nat) : St := updR (updR (gB2 g n 36) 8 (cp (g 34) (g 8) k)) 9 (cp (g 35) (g 9) k)
theorem pX7_back {g : St} {Q : Int32 → St → Prop} {n : Nat} (h1 : g 99 25 = 1) (hn : g 99 26 = Int32.ofNat n) (hn6 : n ≤ 6) (h : Q (g 99 0) (gB3 g n 10)) : wX7_back g Q := by
  unfold wX7_back
  rw [h1]
  refine w1 ?_
  intro f1 e1 f2 e2 f3 e3
  have e : f3 = gB1 g 0 := by
    rw [e3, e2, e1]
    unfold gB1
    rw [cp_0, cp_0, cp_0]
    have s1 : g 2 = (gB g) 2 := rfl
    have s2 : g 3 = (updR (gB g) 2 ((gB g) 2)) 3 := rfl
    have s3 : g 4 = (updR (updR (gB g) 2 ((gB g) 2)) 3 ((updR (gB g) 2 ((gB g) 2)) 3)) 4 := rfl
    rw [s1, s2, s3, updR_self, updR_self, updR_self]
    rfl
  rw [e]
  refine icX7_back_36_1 n 0 (by omega) (by omega) (fun _ => True) (gB1 g) trivial ?_
  intro K k _ hk _ hK
  unfold wbX7_back_36
  rw [show (gB1 g k) 99 26 = Int32.ofNat n from hn]
  refine w_upto (by omega) hk (fun q => ?_) (fun hlt => ?_)
  · subst q
    have e2 : gB1 g k = gB2 g k 0 := by
      unfold gB2
      rw [cp_0, show g 5 = (gB1 g k) 5 from rfl, updR_self]
    rw [e2]
    refine icX7_back_88_1 36 0 (by decide) (by omega) (fun _ => True) (gB2 g k) trivial ?_
    intro K m _ hm _ hK
    unfold wbX7_back_88
    refine w_upto (T := 36) (by decide) hm (fun q => ?_) (fun hlt => ?_)
    · subst q
      have e3 : gB2 g k 36 = gB3 g k 0 := by
        unfold gB3
        rw [cp_0, cp_0, show g 8 = (gB2 g k 36) 8 from rfl, updR_self, show g 9 = (gB2 g k 36) 9 from rfl, updR_self]
      rw [e3]
      refine icX7_back_171_1 10 0 (by decide) (by omega) (fun _ => True) (gB3 g k) trivial ?_
      intro K m _ hm _ hK
      unfold wbX7_back_171
      refine w_upto (T := 10) (by decide) hm (fun q => ?_) (fun hlt => ?_)
      · subst q
        exact h
      · have hin : vp_in (Int32.ofNat m) 10 := n_in hlt (by decide)
        rw [n_clamp (by omega)]
        refine ⟨hin, hin, fun f6 q6 => ⟨hin, hin, fun f7 q7 x q => ?_⟩⟩
        rw [n_suc] at q
        subst q
        have e7 : f7 = gB3 g k (m + 1) := by
          rw [q7, q6]
          show upd2 (upd2 (gB3 g k m) 8 m (g 34 m)) 9 m (g 35 m) = _
          unfold gB3
          rw [upd2_c (r := 9) (r' := 8) (by decide), updR_upd2', cp_step, updR_upd2', cp_step]
        rw [e7]
        exact hK hlt trivial
    · have hin : vp_in (Int32.ofNat m) 36 := n_in hlt (by decide)
      have ed : Int32.ofNat m / (6 : Int32) = Int32.ofNat (m / 6) := (Int32.ofNat_div (by omega) (by decide)).symm
      have er : i_rem (Int32.ofNat m) (6 : Int32) = Int32.ofNat (m % 6) := n_rem (b := 6) (by omega) (by decide)
      have hgo : ∀ v, v = bkR k (g 33) (g 5) m → ∀ K169, wbX7_back_162 K K169 Q (Int32.ofNat m) v (Int32.ofNat m) (gB2 g k m) := by
        intro v hv K169
        unfold wbX7_back_162
        refine ⟨hin, fun f9 q9 x q => ?_⟩
        rw [n_suc] at q
        subst q
        have e7 : f9 = gB2 g k (m + 1) := by
          rw [q9, n_clamp (by omega), hv]
          unfold gB2
          rw [updR_upd2', cp_step]
        rw [e7]
        exact hK hlt trivial
      have hnk : (gB2 g k m) 99 26 = Int32.ofNat k := hn
      have hr5 : ¬ m < m := Nat.lt_irrefl m
      have e5 : (gB2 g k m) 5 m = g 5 m := by
        show cp (bkR k (g 33) (g 5)) (g 5) m m = g 5 m
        unfold cp
        rw [if_neg hr5]
      have e33 : (gB2 g k m) 33 m = g 33 m := rfl
      rw [hnk, ed]
      have c1 : (Int32.ofNat k ≤ Int32.ofNat (m / 6)) ↔ k ≤ m / 6 := n_leI (by omega) (by omega)
      have c2 : (Int32.ofNat k ≤ Int32.ofNat (m % 6)) ↔ k ≤ m % 6 := n_leI (by omega) (by omega)
      have k126 : ∀ (t0 t1 : Int32) (v : Int32) K169, ((¬ t1 + t0 = 2 ∧ ¬ t1 + t0 = 1 ∧ v = g 5 m) ∨ (¬ t1 + t0 = 2 ∧ t1 + t0 = 1 ∧ v = 0) ∨ (t1 + t0 = 2 ∧ v = g 33 m)) → v = bkR k (g 33) (g 5) m → wbX7_back_126 K K169 Q (Int32.ofNat m) t0 t1 (gB2 g k m) := by
        intro t0 t1 v K169 hv hb
        unfold wbX7_back_126
        intro x2 ex
        subst ex
        rw [n_clamp (by omega), e5, e33]
        refine ⟨fun q2 => ⟨fun q1 => ⟨hin, hgo _ ?_ _⟩, fun q1 => hgo _ ?_ _⟩, fun q2 => ⟨hin, hgo _ ?_ _⟩⟩
        · rcases hv with ⟨-, -, hv⟩ | ⟨-, hv, -⟩ | ⟨hv, -⟩
          · rw [← hv]; exact hb
          · exact absurd hv q1
          · exact absurd hv q2
        · rcases hv with ⟨-, hv, -⟩ | ⟨-, -, hv⟩ | ⟨hv, -⟩
          · exact absurd q1 hv
          · rw [← hv]; exact hb
          · exact absurd hv q2
        · rcases hv with ⟨hv, -⟩ | ⟨hv, -⟩ | ⟨-, hv⟩
          · exact absurd q2 hv
          · exact absurd q2 hv
          · rw [← hv]; exact hb
      refine ⟨fun h6 => ?_, fun h6 => ?_⟩
      · have h6' := c1.mp h6
        unfold wbX7_back_110
        rw [hnk, er]
        refine ⟨fun h7 => ?_, fun h7 => ?_⟩
        · have h7' := c2.mp h7
          refine k126 _ _ (g 5 m) _ (Or.inl ⟨by decide, by decide, rfl⟩) ?_
          unfold bkR
          rw [if_neg (by omega), if_neg (by omega)]
        · have h7' : ¬ k ≤ m % 6 := fun q => h7 (c2.mpr q)
          refine k126 _ _ 0 _ (Or.inr (Or.inl ⟨by decide, by decide, rfl⟩)) ?_
          unfold bkR
          rw [if_neg (by omega), if_pos (by omega)]
      · have h6' : ¬ k ≤ m / 6 := fun q => h6 (c1.mpr q)
        unfold wbX7_back_110
        rw [hnk, er]
        refine ⟨fun h7 => ?_, fun h7 => ?_⟩
        · have h7' := c2.mp h7
          refine k126 _ _ 0 _ (Or.inr (Or.inl ⟨by decide, by decide, rfl⟩)) ?_
          unfold bkR
          rw [if_neg (by omega), if_pos (by omega)]
        · have h7' : ¬ k ≤ m % 6 := fun q => h7 (c2.mpr q)
          refine k126 _ _ (g 33 m) _ (Or.inr (Or.inr ⟨by decide, rfl⟩)) ?_
          unfold bkR
          rw [if_pos (by omega)]
  · have hin : vp_in (Int32.ofNat k) 6 := n_in (by omega) (by decide)
    rw [n_clamp (by omega)]
    refine ⟨hin, hin, fun f6 q6 => ⟨hin, hin, fun f7 q7 => ⟨hin, hin, fun f8 q8 x q => ?_⟩⟩⟩
    rw [n_suc] at q
    subst q
    have e7 : f8 = gB1 g (k + 1) := by
      rw [q8, q7, q6]
      show upd2 (upd2 (upd2 (gB1 g k) 2 k (g 30 k)) 3 k (g 31 k)) 4 k (g 32 k) = _
      unfold gB1
      rw [upd2_c (r := 4) (r' := 2) (by decide), upd2_c (r := 3) (r' := 2) (by decide), updR_upd2', cp_step, upd2_c (r := 4) (r' := 3) (by decide), updR_upd2', cp_step, updR_upd2', cp_step]
    rw [e7]
    exact hK hlt trivial
/-! the class's side: roads to those that were there come back -/
def xbB (n : Nat) (I : Nat → Int32) (a : Nat) : Nat → (Nat → Int32) → Nat → Int32
  | 0, F => F
  | c + 1, F => if a < n ∨ c < n then upd (xbB n I a c F) (6 * a + c) (I (6 * a + c)) else xbB n I a c F
def xbA (n T : Nat) (I : Nat → Int32) : Nat → (Nat → Int32) → Nat → Int32
  | 0, F => F
  | a + 1, F => xbB n I a T (xbA n T I a F)
theorem xbB_at {n a c d : Nat} {I F : Nat → Int32} (hd : d < 6) : ∀ m, m ≤ 6 → xbB n I a m F (6 * c + d) = if c = a ∧ d < m ∧ (a < n ∨ d < n) then I (6 * c + d) else F (6 * c + d)
  | 0, _ => by simp [xbB]
  | m + 1, hm => by
    have ih := xbB_at (n := n) (a := a) (c := c) (I := I) (F := F) hd m (by omega)
    unfold xbB
    by_cases hc : a < n ∨ m < n
    · rw [if_pos hc]
      unfold upd
      by_cases e : 6 * c + d = 6 * a + m
      · have h1 : c = a := by omega
        have h2 : d = m := by omega
        subst h1 h2
        rw [if_pos rfl, if_pos ⟨rfl, by omega, hc⟩]
      · rw [if_neg e, ih]
        by_cases h1 : c = a ∧ d < m ∧ (a < n ∨ d < n)
        · rw [if_pos h1, if_pos ⟨h1.1, by omega, h1.2.2⟩]
        · rw [if_neg h1, if_neg (fun q => h1 ⟨q.1, by omega, q.2.2⟩)]
    · rw [if_neg hc, ih]
      by_cases h1 : c = a ∧ d < m ∧ (a < n ∨ d < n)
      · rw [if_pos h1, if_pos ⟨h1.1, by omega, h1.2.2⟩]
      · rw [if_neg h1, if_neg (fun q => h1 ⟨q.1, by omega, q.2.2⟩)]
theorem xbA_at {n T c d : Nat} {I F : Nat → Int32} (hT : T ≤ 6) (hd : d < 6) : ∀ m, xbA n T I m F (6 * c + d) = if c < m ∧ d < T ∧ (c < n ∨ d < n) then I (6 * c + d) else F (6 * c + d)
  | 0 => by simp [xbA]
  | m + 1 => by
    unfold xbA
    rw [xbB_at hd T hT, xbA_at hT hd m]
    by_cases h1 : c = m ∧ d < T ∧ (m < n ∨ d < n)
    · rw [if_pos h1, if_pos ⟨by omega, h1.2.1, by rw [h1.1]; exact h1.2.2⟩]
    · rw [if_neg h1]
      by_cases h2 : c < m ∧ d < T ∧ (c < n ∨ d < n)
      · rw [if_pos h2, if_pos ⟨by omega, h2.2⟩]
      · rw [if_neg h2, if_neg (fun q => by
          by_cases e : c = m
          · exact h1 ⟨e, q.2.1, by rw [← e]; exact q.2.2⟩
          · exact h2 ⟨by omega, q.2⟩)]
