/-! PLAIN LAYER: the reference's signs that wait: unwinds, holds, between -/
set_option maxRecDepth 100000
def sgn (s : Nat) : Prop := s = 0 ∨ (11 ≤ s ∧ s ≤ 19)
def rkN (s : Nat) : Nat := if s = 0 then 0 else if s = 11 then 1 else if s = 12 then 2 else if s = 13 then 3 else if s ≤ 15 then 4 else if s ≤ 17 then 5 else if s = 18 then 6 else 7
theorem rkN_lt {s : Nat} : rkN s < 8 := by
  unfold rkN
  (repeat' split) <;> omega
def isO (s : Nat) : Bool := s == 0 || s == 13 || s == 19
def cO (H : List Nat) : Nat := H.countP isO
/-- state of the reference while it reads text X: codes O, signs that wait H (topmost first) -/
def MH (g0 : St) (X : Nat) (g : St) (O H : List Nat) : Prop :=
  ((∀ r, r ≠ 12 → r ≠ 45 → r ≠ 99 → g r = g0 r) ∧ (∀ q, q ≠ 40 → q ≠ 41 → q ≠ 42 → q ≠ 43 → q ≠ 46 → q ≠ 47 → q ≠ 48 → g 99 q = g0 99 q) ∧ (∀ t, t < 200 * X ∨ 200 * X + 200 ≤ t → g 12 t = g0 12 t)) ∧
  (g 99 46 = Int32.ofNat H.length ∧ g 99 47 = Int32.ofNat (cO H) ∧ g 99 48 = Int32.ofNat O.length) ∧
  (∀ t, t < H.length → g 45 (H.length - 1 - t) = Int32.ofNat (H.getD t 0)) ∧ (∀ t, t < O.length → g 12 (200 * X + t) = Int32.ofNat (O.getD t 0)) ∧ (∀ s ∈ H, sgn s) ∧ O.length + H.length ≤ 160 ∧ X < 6 ∧ g0 99 14 = Int32.ofNat X
/-- the reader's numbers the same -/
def same4 (g g' : St) : Prop := g' 99 40 = g 99 40 ∧ g' 99 41 = g 99 41 ∧ g' 99 42 = g 99 42 ∧ g' 99 43 = g 99 43
theorem same4.rf {g : St} : same4 g g := ⟨rfl, rfl, rfl, rfl⟩
theorem same4.tr {g g' g2 : St} (h : same4 g g') (h2 : same4 g' g2) : same4 g g2 := ⟨h2.1.trans h.1, h2.2.1.trans h.2.1, h2.2.2.1.trans h.2.2.1, h2.2.2.2.trans h.2.2.2⟩
theorem cO_le {H : List Nat} : cO H ≤ H.length := List.countP_le_length
theorem cO_c {s : Nat} {H : List Nat} : cO (s :: H) = cO H + (if isO s = true then 1 else 0) := by
  unfold cO
  rw [List.countP_cons]
section
variable {g0 g : St} {X : Nat} {O H : List Nat}
theorem m_rank {s : Nat} {Q : Int32 → St → Prop} (hs : sgn s) (h : Q (Int32.ofNat (rkN s)) g) : wX7_rank g (Int32.ofNat s) Q := by
  unfold wX7_rank
  have : s = 0 ∨ s = 11 ∨ s = 12 ∨ s = 13 ∨ s = 14 ∨ s = 15 ∨ s = 16 ∨ s = 17 ∨ s = 18 ∨ s = 19 := by unfold sgn at hs; omega
  rcases this with q | q | q | q | q | q | q | q | q | q <;> subst q
  · exact ⟨fun q => absurd rfl q, fun _ => h⟩
  · exact ⟨fun _ => ⟨fun q => absurd rfl q, fun _ => h⟩, fun q => absurd q (by decide)⟩
  · exact ⟨fun _ => ⟨fun _ => ⟨fun q => absurd rfl q, fun _ => h⟩, fun q => absurd q (by decide)⟩, fun q => absurd q (by decide)⟩
  · exact ⟨fun _ => ⟨fun _ => ⟨fun _ => ⟨fun q => absurd rfl q, fun _ => h⟩, fun q => absurd q (by decide)⟩, fun q => absurd q (by decide)⟩, fun q => absurd q (by decide)⟩
  · exact ⟨fun _ => ⟨fun _ => ⟨fun _ => ⟨fun _ => ⟨fun q => absurd q (by decide), fun _ => h⟩, fun q => absurd q (by decide)⟩, fun q => absurd q (by decide)⟩, fun q => absurd q (by decide)⟩, fun q => absurd q (by decide)⟩
  · exact ⟨fun _ => ⟨fun _ => ⟨fun _ => ⟨fun _ => ⟨fun q => absurd q (by decide), fun _ => h⟩, fun q => absurd q (by decide)⟩, fun q => absurd q (by decide)⟩, fun q => absurd q (by decide)⟩, fun q => absurd q (by decide)⟩
  · exact ⟨fun _ => ⟨fun _ => ⟨fun _ => ⟨fun _ => ⟨fun _ => ⟨fun q => absurd q (by decide), fun _ => h⟩, fun q => absurd (by decide) q⟩, fun q => absurd q (by decide)⟩, fun q => absurd q (by decide)⟩, fun q => absurd q (by decide)⟩, fun q => absurd q (by decide)⟩
  · exact ⟨fun _ => ⟨fun _ => ⟨fun _ => ⟨fun _ => ⟨fun _ => ⟨fun q => absurd q (by decide), fun _ => h⟩, fun q => absurd (by decide) q⟩, fun q => absurd q (by decide)⟩, fun q => absurd q (by decide)⟩, fun q => absurd q (by decide)⟩, fun q => absurd q (by decide)⟩
  · exact ⟨fun _ => ⟨fun _ => ⟨fun _ => ⟨fun _ => ⟨fun _ => ⟨fun _ => ⟨fun q => absurd rfl q, fun _ => h⟩, fun q => absurd (by decide) q⟩, fun q => absurd (by decide) q⟩, fun q => absurd q (by decide)⟩, fun q => absurd q (by decide)⟩, fun q => absurd q (by decide)⟩, fun q => absurd q (by decide)⟩
  · exact ⟨fun _ => ⟨fun _ => ⟨fun _ => ⟨fun _ => ⟨fun _ => ⟨fun _ => ⟨fun _ => h, fun q => absurd q (by decide)⟩, fun q => absurd (by decide) q⟩, fun q => absurd (by decide) q⟩, fun q => absurd q (by decide)⟩, fun q => absurd q (by decide)⟩, fun q => absurd q (by decide)⟩, fun q => absurd q (by decide)⟩
theorem MH_14 (h : MH g0 X g O H) : g 99 14 = Int32.ofNat X := by
  rw [h.1.2.1 14 (by decide) (by decide) (by decide) (by decide) (by decide) (by decide) (by decide)]
  exact h.2.2.2.2.2.2.2
/-- a code is put -/
theorem m_puts {c : Nat} {Q : St → Prop} (h : MH g0 X g O H) (hl : O.length + 1 + H.length ≤ 160) (hq : ∀ g', MH g0 X g' (O ++ [c]) H → same4 g g' → Q g') : wX7_puts g (Int32.ofNat c) Q := by
  have h14 := MH_14 h
  obtain ⟨⟨f1, f2, f3⟩, ⟨s46, s47, s48⟩, hH, hO, hsg, hlen, hX, h0⟩ := h
  unfold wX7_puts
  rw [h14, s48, show (200 : Int32) = Int32.ofNat 200 from rfl, n_mul, n_add, n_clamp (by omega)]
  refine ⟨n_in (by omega) (by decide), fun g1 e1 g2 e2 => hq g2 ⟨⟨fun r r1 r2 r3 => ?_, fun q q0 q1 q2 q3 q4 q5 q6 => ?_, fun t ht => ?_⟩, ⟨?_, ?_, ?_⟩, fun t ht => ?_, fun t ht => ?_, hsg, ?_, hX, h0⟩ ⟨?_, ?_, ?_, ?_⟩⟩
  · rw [e2, upd2_o r3, e1, upd2_o r1]; exact f1 r r1 r2 r3
  · rw [e2, u99 q6, e1, upd2_o (by decide)]; exact f2 q q0 q1 q2 q3 q4 q5 q6
  · rw [e2, upd2_o (by decide), e1, upd2_at, if_neg (by omega)]; exact f3 t ht
  · rw [e2, u99 (by decide), e1, upd2_o (by decide)]; exact s46
  · rw [e2, u99 (by decide), e1, upd2_o (by decide)]; exact s47
  · rw [e2, u99s, e1, upd2_o (by decide), s48, n_suc, List.length_append]; rfl
  · rw [e2, upd2_o (by decide), e1, upd2_o (by decide)]; exact hH t ht
  · rw [e2, upd2_o (by decide), e1, upd2_at]
    rw [List.length_append] at ht
    have ht' : t < O.length + 1 := ht
    by_cases c1 : t = O.length
    · rw [if_pos (by omega), c1]
      simp [List.getD]
    · rw [if_neg (by omega), hO t (by omega)]
      simp [List.getD, List.getElem?_append_left (show t < O.length by omega)]
  · rw [List.length_append]; show O.length + 1 + _ ≤ _; exact hl
  · rw [e2, u99 (by decide), e1, upd2_o (by decide)]
  · rw [e2, u99 (by decide), e1, upd2_o (by decide)]
  · rw [e2, u99 (by decide), e1, upd2_o (by decide)]
  · rw [e2, u99 (by decide), e1, upd2_o (by decide)]
/-- a sign is held -/
theorem m_holds {s : Nat} {Q : St → Prop} (h : MH g0 X g O H) (hs : sgn s) (hl : O.length + (H.length + 1) ≤ 160) (hn : g 99 47 = Int32.ofNat (cO (s :: H))) (hq : ∀ g', MH g0 X g' O (s :: H) → same4 g g' → Q g') : wX7_holds g (Int32.ofNat s) Q := by
  obtain ⟨⟨f1, f2, f3⟩, ⟨s46, s47, s48⟩, hH, hO, hsg, hlen, hX, h0⟩ := h
  unfold wX7_holds
  rw [s46, n_clamp (by omega)]
  refine ⟨n_in (by omega) (by decide), fun g1 e1 g2 e2 => hq g2 ⟨⟨fun r r1 r2 r3 => ?_, fun q q0 q1 q2 q3 q4 q5 q6 => ?_, fun t ht => ?_⟩, ⟨?_, ?_, ?_⟩, fun t ht => ?_, fun t ht => ?_, ?_, hl, hX, h0⟩ ⟨?_, ?_, ?_, ?_⟩⟩
  · rw [e2, upd2_o r3, e1, upd2_o r2]; exact f1 r r1 r2 r3
  · rw [e2, u99 q4, e1, upd2_o (by decide)]; exact f2 q q0 q1 q2 q3 q4 q5 q6
  · rw [e2, upd2_o (by decide), e1, upd2_o (by decide)]; exact f3 t ht
  · rw [e2, u99s, e1, upd2_o (by decide), s46, n_suc]; rfl
  · rw [e2, u99 (by decide), e1, upd2_o (by decide)]; exact hn
  · rw [e2, u99 (by decide), e1, upd2_o (by decide)]; exact s48
  · have ht' : t < H.length + 1 := ht
    rw [e2, upd2_o (by decide), e1, upd2_at]
    cases t with
    | zero =>
      rw [if_pos (by show H.length + 1 - 1 - 0 = H.length; omega)]
      rfl
    | succ t =>
      rw [if_neg (by show ¬ H.length + 1 - 1 - (t + 1) = H.length; omega), show (s :: H).length - 1 - (t + 1) = H.length - 1 - t by show H.length + 1 - 1 - (t + 1) = _; omega, hH t (by omega)]
      rfl
  · rw [e2, upd2_o (by decide), e1, upd2_o (by decide)]; exact hO t ht
  · intro x hx
    rcases List.mem_cons.mp hx with q | q
    · rw [q]; exact hs
    · exact hsg x q
  · rw [e2, u99 (by decide), e1, upd2_o (by decide)]
  · rw [e2, u99 (by decide), e1, upd2_o (by decide)]
  · rw [e2, u99 (by decide), e1, upd2_o (by decide)]
  · rw [e2, u99 (by decide), e1, upd2_o (by decide)]
/-- the topmost sign goes -/
theorem MH_pop {s : Nat} {g' : St} (h : MH g0 X g O (s :: H)) (hg : g' = upd2 (upd2 g 99 46 (Int32.ofNat H.length)) 99 47 (Int32.ofNat (cO H))) : MH g0 X g' O H ∧ same4 g g' := by
  obtain ⟨⟨f1, f2, f3⟩, ⟨s46, s47, s48⟩, hH, hO, hsg, hlen, hX, h0⟩ := h
  have hlen' : O.length + (H.length + 1) ≤ 160 := hlen
  subst hg
  refine ⟨⟨⟨fun r r1 r2 r3 => ?_, fun q q0 q1 q2 q3 q4 q5 q6 => ?_, fun t ht => ?_⟩, ⟨?_, ?_, ?_⟩, fun t ht => ?_, fun t ht => ?_, fun x hx => hsg x (List.mem_cons_of_mem _ hx), by omega, hX, h0⟩, ⟨?_, ?_, ?_, ?_⟩⟩
  · rw [upd2_o r3, upd2_o r3]; exact f1 r r1 r2 r3
  · rw [u99 q5, u99 q4]; exact f2 q q0 q1 q2 q3 q4 q5 q6
  · rw [upd2_o (by decide), upd2_o (by decide)]; exact f3 t ht
  · rw [u99 (by decide), u99s]
  · rw [u99s]
  · rw [u99 (by decide), u99 (by decide)]; exact s48
  · rw [upd2_o (by decide), upd2_o (by decide)]
    have := hH (t + 1) (by show t + 1 < H.length + 1; omega)
    rw [show (s :: H).length - 1 - (t + 1) = H.length - 1 - t by show H.length + 1 - 1 - (t + 1) = _; omega] at this
    exact this
  · rw [upd2_o (by decide), upd2_o (by decide)]; exact hO t ht
  · rw [u99 (by decide), u99 (by decide)]
  · rw [u99 (by decide), u99 (by decide)]
  · rw [u99 (by decide), u99 (by decide)]
  · rw [u99 (by decide), u99 (by decide)]
theorem MH_top {s : Nat} (h : MH g0 X g O (s :: H)) : g 45 H.length = Int32.ofNat s ∧ sgn s := by
  have := h.2.2.1 0 (by show 0 < H.length + 1; omega)
  exact ⟨this, h.2.2.2.2.1 s (by simp)⟩
/-- unwinds -/
theorem m_unw {A : List Nat} {m : Nat} {Q : St → Prop} (h : MH g0 X g O (A ++ H)) (hm : m < 20) (hm1 : 1 ≤ m) (hA : ∀ s ∈ A, m ≤ rkN s) (hH : ∀ s, H.head? = some s → rkN s < m) (hq : ∀ g', MH g0 X g' (O ++ A) H → same4 g g' → Q g') : wX7_unwinds g (Int32.ofNat m) Q := by
  unfold wX7_unwinds
  refine ilX7_unwinds_0 (fun x1 f => ∃ O' A', x1 = Int32.ofNat m ∧ MH g0 X f O' (A' ++ H) ∧ same4 g f ∧ O' ++ A' = O ++ A ∧ ∀ s ∈ A', m ≤ rkN s) (fun _ f => (f 99 46).toNatClampNeg) ?_ _ _ ⟨O, A, rfl, h, same4.rf, rfl, hA⟩
  rintro K x1 f ⟨O', A', rfl, hM, h4, eO, hA'⟩ hK
  have hlen := hM.2.2.2.2.2.1
  have s46 := hM.2.1.1
  unfold wbX7_unwinds_0
  cases A' with
  | nil =>
    have hdone : Q f := by
      refine hq f ?_ h4
      rw [← eO, List.append_nil]
      exact hM
    cases H with
    | nil =>
      rw [s46]
      exact ⟨fun _ => hdone, fun q => absurd (by decide) q⟩
    | cons s H' =>
      have hM' : MH g0 X f O' (s :: H') := hM
      obtain ⟨t1, t2⟩ := MH_top hM'
      have hlen' : O'.length + (H'.length + 1) ≤ 160 := hlen
      have e46 : f 99 46 = Int32.ofNat (H'.length + 1) := s46
      rw [e46, n_pred (by omega), Nat.add_sub_cancel, n_clamp (by omega), t1]
      refine ⟨fun q => ?_, fun _ => ⟨n_in (by omega) (by decide), m_rank t2 ⟨fun _ => hdone, fun q => ?_⟩⟩⟩
      · have := (n_leI (a := H'.length + 1) (b := 0) (by omega) (by decide)).mp q
        omega
      · have hr := rkN_lt (s := s)
        exact absurd ((n_ltI (by omega) (by omega)).mpr (hH s rfl)) q
  | cons s A'' =>
    have hM' : MH g0 X f O' (s :: (A'' ++ H)) := hM
    obtain ⟨t1, t2⟩ := MH_top hM'
    have hlen' : O'.length + ((A'' ++ H).length + 1) ≤ 160 := hlen
    have e46 : f 99 46 = Int32.ofNat ((A'' ++ H).length + 1) := s46
    have s47 : f 99 47 = Int32.ofNat (cO (s :: (A'' ++ H))) := hM'.2.1.2.1
    generalize hHH : A'' ++ H = HH at *
    have hcl := cO_le (H := HH)
    rw [e46, n_pred (by omega), Nat.add_sub_cancel, n_clamp (by omega), t1]
    refine ⟨fun q => ?_, fun _ => ⟨n_in (by omega) (by decide), m_rank t2 ⟨fun q => ?_, fun q f3 e3 => ?_⟩⟩⟩
    · have := (n_leI (a := HH.length + 1) (b := 0) (by omega) (by decide)).mp q
      omega
    · have hr := rkN_lt (s := s)
      have h1 := (n_ltI (by omega) (by omega)).mp q
      have h2 := hA' s (by simp)
      omega
    · rw [e46, n_pred (by omega), Nat.add_sub_cancel] at e3
      have e346 : f3 99 46 = Int32.ofNat HH.length := by rw [e3, u99s]
      have e347 : f3 99 47 = Int32.ofNat (cO (s :: HH)) := by rw [e3, u99 (by decide)]; exact s47
      have e345 : f3 45 HH.length = Int32.ofNat s := by rw [e3, upd2_o (by decide)]; exact t1
      rw [e346, n_clamp (by omega), e345, e347]
      refine ⟨n_in (by omega) (by decide), fun x2 ex2 => ?_⟩
      subst ex2
      have hgo : ∀ f5, f5 = upd2 f3 99 47 (Int32.ofNat (cO HH)) → wX7_puts f5 (Int32.ofNat s) (fun f_6 => K (Int32.ofNat m) f_6) := by
        intro f5 e5
        rw [e3] at e5
        obtain ⟨hP, hS⟩ := MH_pop hM' e5
        refine m_puts hP (by omega) (fun g' hg' hs' => hK _ _ ⟨O' ++ [s], A'', rfl, ?_, h4.tr (hS.tr hs'), ?_, fun x hx => hA' x (by simp [hx])⟩ ?_)
        · rw [hHH]; exact hg'
        · rw [← eO]; simp
        · rw [hg'.2.1.1, e46, n_clamp (by omega), n_clamp (by omega)]
          omega
      have hc1 : isO s = true → Int32.ofNat (cO (s :: HH)) - (1 : Int32) = Int32.ofNat (cO HH) := by
        intro z
        rw [cO_c, if_pos z, n_pred (by omega)]
        rfl
      have hc0 : ¬ isO s = true → Int32.ofNat (cO (s :: HH)) - (0 : Int32) = Int32.ofNat (cO HH) := by
        intro z
        rw [cO_c, if_neg z, Nat.add_zero, Int32.sub_zero]
      have hne0 : s ≠ 0 := by
        intro z
        have h2 := hA' s (by simp)
        rw [z] at h2
        have : rkN 0 = 0 := rfl
        omega
      have e13 : (Int32.ofNat s = 13) ↔ s = 13 := n_eqI (a := s) (b := 13) (by unfold sgn at t2; omega) (by decide)
      have e19 : (Int32.ofNat s = 19) ↔ s = 19 := n_eqI (a := s) (b := 19) (by unfold sgn at t2; omega) (by decide)
      unfold wbX7_unwinds_62 wbX7_unwinds_67
      refine ⟨fun q13 f5 e5 => hgo f5 ?_, fun q13 => ⟨fun q19 f5 e5 => hgo f5 ?_, fun q19 f5 e5 => hgo f5 ?_⟩⟩
      · rw [e5, hc1 (by rw [e13.mp q13]; rfl)]
      · rw [e5, hc0 ?_]
        unfold isO
        have h1 : s ≠ 13 := fun z => q13 (e13.mpr z)
        have h2 : s ≠ 19 := fun z => q19 (e19.mpr z)
        simp [h1, h2, hne0]
      · rw [e5, hc1 (by rw [e19.mp q19]; rfl)]
end
