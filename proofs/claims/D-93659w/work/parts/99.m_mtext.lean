/-! PLAIN LAYER: the reference's text -/
set_option maxRecDepth 100000
def tG (g : St) (X : Nat) (f : St) : Prop := (∀ r, r ≠ 12 → r ≠ 13 → r ≠ 45 → r ≠ 99 → f r = g r) ∧ (∀ q, q ≠ 40 → q ≠ 41 → q ≠ 42 → q ≠ 43 → q ≠ 46 → q ≠ 47 → q ≠ 48 → f 99 q = g 99 q) ∧ (∀ t, t < 200 * X ∨ 200 * X + 200 ≤ t → f 12 t = g 12 t) ∧ (∀ t, t < 4 * X ∨ 4 * X + 3 ≤ t → f 13 t = g 13 t)
/-- what a text leaves -/
def tF (g : St) (X : Nat) (f : St) : Prop := (∀ r, r ≠ 12 → r ≠ 13 → r ≠ 45 → r ≠ 99 → f r = g r) ∧ (∀ q, q ≠ 11 → q ≠ 14 → q ≠ 40 → q ≠ 41 → q ≠ 42 → q ≠ 43 → q ≠ 46 → q ≠ 47 → q ≠ 48 → f 99 q = g 99 q) ∧ (∀ t, t < 200 * X ∨ 200 * X + 200 ≤ t → f 12 t = g 12 t) ∧ (∀ t, t < 4 * X ∨ 4 * X + 3 ≤ t → f 13 t = g 13 t) ∧ f 99 11 = 0
section
variable {B : Nat → Nat} {n : Nat} {g : St} {X : Nat} {Q : Int32 → St → Prop}
theorem tG_tr {f f' : St} (h1 : tG g X f) (h2 : tG f X f') : tG g X f' := ⟨fun r a b c d => (h2.1 r a b c d).trans (h1.1 r a b c d), fun q a b c d e k m => (h2.2.1 q a b c d e k m).trans (h1.2.1 q a b c d e k m), fun t ht => (h2.2.2.1 t ht).trans (h1.2.2.1 t ht), fun t ht => (h2.2.2.2 t ht).trans (h1.2.2.2 t ht)⟩
theorem tG_MH {f f' : St} {O H : List Nat} (h : MH f X f' O H) : tG f X f' := ⟨fun r a _ c d => h.1.1 r a c d, h.1.2.1, h.1.2.2, fun t _ => by rw [h.1.1 13 (by decide) (by decide) (by decide)]⟩
theorem tG_nx {f f' : St} {p : Nat} (h : nxP B n p f f') : tG f X f' := ⟨fun r _ _ _ d => h.1 r d, fun q a b c d _ _ _ => h.2.1 q a b c d, fun t _ => by rw [h.1 12 (by decide)], fun t _ => by rw [h.1 13 (by decide)]⟩
theorem tG_13 {f : St} {k : Nat} {v : Int32} (hk : k < 3) : tG f X (upd2 f 13 (4 * X + k) v) := ⟨fun r _ b _ _ => upd2_o b, fun q _ _ _ _ _ _ _ => by rw [upd2_o (by decide)], fun t _ => by rw [upd2_o (by decide)], fun t ht => by rw [upd2_at, if_neg (by omega)]⟩
theorem tG_tp {f : St} (h : tG g X f) (ht : tpR g B n) : tpR f B n := by
  refine ⟨ht.1, ht.2.1, ?_, fun t hlt => ?_⟩
  · rw [h.2.1 11 (by decide) (by decide) (by decide) (by decide) (by decide) (by decide) (by decide)]
    exact ht.2.2.1
  · rw [h.1 10 (by decide) (by decide) (by decide) (by decide)]
    exact ht.2.2.2 t hlt
theorem tG_14 {f : St} (h : tG g X f) (h14 : g 99 14 = Int32.ofNat X) : f 99 14 = Int32.ofNat X := by
  rw [h.2.1 14 (by decide) (by decide) (by decide) (by decide) (by decide) (by decide) (by decide)]
  exact h14
/-- it fails at token j -/
theorem t_fail {f : St} {j : Nat} (hG : tG g X f) (hX : X < 6) (h14 : g 99 14 = Int32.ofNat X) (h41 : f 99 41 = Int32.ofNat (bg B n j)) (hq : ∀ g', tF g X g' → g' 99 14 = g 99 14 → Q (-100 - Int32.ofNat (bg B n j)) g') : wbX7_text_122 Q 0 f := by
  have e14 := tG_14 hG h14
  unfold wbX7_text_122
  rw [e14, show (4 : Int32) = Int32.ofNat 4 from rfl, show (2 : Int32) = Int32.ofNat 2 from rfl, n_mul, n_add, n_clamp (by omega)]
  refine ⟨n_in (by omega) (by decide), fun f8 e8 f9 e9 => ⟨fun z => absurd rfl z, fun _ => ?_⟩⟩
  have e941 : f9 99 41 = Int32.ofNat (bg B n j) := by rw [e9, u99 (by decide), e8, upd2_o (by decide)]; exact h41
  rw [e941]
  have h8 : tG g X f8 := by rw [e8]; exact tG_tr hG (tG_13 (by decide))
  refine hq f9 ⟨fun r a b c d => ?_, fun q a0 a1 b0 b1 b2 b3 b4 b5 b6 => ?_, fun t ht => ?_, fun t ht => ?_, ?_⟩ ?_
  · rw [e9, upd2_o d]; exact h8.1 r a b c d
  · rw [e9, u99 a0]; exact h8.2.1 q b0 b1 b2 b3 b4 b5 b6
  · rw [e9, upd2_o (by decide)]; exact h8.2.2.1 t ht
  · rw [e9, upd2_o (by decide)]; exact h8.2.2.2 t ht
  · rw [e9, u99s]
  · rw [e9, u99 (by decide), tG_14 h8 h14, h14]
/-- THE REFERENCE's TEXT -/
theorem m_text {r : Option (List Nat × List Nat)} {j : Nat} (ht : tpR g B n) (hX : X < 6) (h14 : g 99 14 = Int32.ofNat X) (hP : PT (kd B n) (vl B n) r j)
    (hq0 : r = none → ∀ g', tF g X g' → g' 99 14 = g 99 14 → Q (-100 - Int32.ofNat (bg B n j)) g')
    (hq1 : ∀ l0 l1, r = some (l0, l1) → ∀ g', tF g X g' → g' 99 14 = Int32.ofNat (X + 1) → l0.length + l1.length ≤ 160 → g' 13 (4 * X) = Int32.ofNat 0 → g' 13 (4 * X + 1) = Int32.ofNat l0.length → g' 13 (4 * X + 2) = Int32.ofNat (l0.length + l1.length) → (∀ t, t < (l0 ++ l1).length → g' 12 (200 * X + t) = Int32.ofNat ((l0 ++ l1).getD t 0)) → Q (Int32.ofNat X) g') : wX7_text g Q := by
  have e6 : (g 99 14 = 6) ↔ X = 6 := by rw [h14]; exact n_eqI (a := X) (b := 6) (by omega) (by decide)
  have hB := ht.2.1
  have e3 : ∀ i (f : St), f 99 42 = tkC (kd B n i) → ((f 99 42 = 3) ↔ kd B n i = 3) := fun i f h => by rw [h]; exact tk_eq (kd_256 hB) (by decide) (by decide) (by decide)
  have e0 : ∀ i (f : St), f 99 42 = tkC (kd B n i) → ((f 99 42 = 0) ↔ kd B n i = 0) := fun i f h => by rw [h]; exact tk_eq (kd_256 hB) (by decide) (by decide) (by decide)
  have hvl : ∀ i, vl B n i < 1000000 → True := fun _ _ => trivial
  unfold wX7_text
  refine ⟨fun _ f1 e1 f2 e2 => ⟨3, ?_⟩, fun q => absurd (e6.mp q) (by omega)⟩
  have hG2 : tG g X f2 := by
    rw [e2, e1]
    refine ⟨fun r a b c d => by rw [upd2_o d, upd2_o d], fun q b0 b1 b2 b3 b4 b5 b6 => by rw [u99 b6, u99 b0], fun t _ => by rw [upd2_o (by decide), upd2_o (by decide)], fun t _ => by rw [upd2_o (by decide), upd2_o (by decide)]⟩
  have e240 : f2 99 40 = Int32.ofNat (ps B n 0) := by rw [e2, u99 (by decide), e1, u99s]; rfl
  have e248 : f2 99 48 = Int32.ofNat 0 := by rw [e2, u99s]; rfl
  -- a fault, known in the loop with good = 0
  have hbad : ∀ (N m : Nat) (f : St) (j' : Nat), tG g X f → f 99 41 = Int32.ofNat (bg B n j') → r = none → j' = j → wlX7_text_26 (fun (x1 : Int32) (f : St) => wbX7_text_101 Q x1 f) Q (N + 1) 0 (Int32.ofNat m) f := by
    intro N m f j' hG h41 hr hj
    subst hj
    have hf : wbX7_text_101 Q 0 f := by
      unfold wbX7_text_101
      exact ⟨fun _ => t_fail hG hX h14 h41 (hq0 hr), fun z => absurd rfl z⟩
    show wbX7_text_26 _ _ Q 0 (Int32.ofNat m) f
    unfold wbX7_text_26
    exact ⟨fun _ => hf, fun _ => ⟨fun _ => hf, fun z => absurd rfl z⟩⟩
  -- one round of the loop: key m at token i, then an E
  have hround : ∀ (N m i : Nat) (f : St) (O : List Nat), m < 2 → tG g X f → f 99 40 = Int32.ofNat (ps B n i) → f 99 48 = Int32.ofNat O.length → (∀ t, t < O.length → f 12 (200 * X + t) = Int32.ofNat (O.getD t 0)) → O.length ≤ ps B n i →
      ((r = none ∧ ¬ (kd B n i = 3 ∧ vl B n i = m) ∧ j = i) ∨ ((kd B n i = 3 ∧ vl B n i = m) ∧ ((r = none ∧ EF (kd B n) (vl B n) (i + 1) j) ∨ ∃ l j1, PR (kd B n) (vl B n) 5 0 (i + 1) [] (some l) j1 ∧ kd B n j1 = 59 ∧
        ∀ f', tG g X f' → (∀ t, t ≠ 4 * X + m → f' 13 t = f 13 t) → f' 13 (4 * X + m) = Int32.ofNat O.length → f' 99 40 = Int32.ofNat (ps B n (j1 + 1)) → f' 99 48 = Int32.ofNat (O ++ l).length → (∀ t, t < (O ++ l).length → f' 12 (200 * X + t) = Int32.ofNat ((O ++ l).getD t 0)) → (O ++ l).length ≤ ps B n (j1 + 1) → wlX7_text_26 (fun (x1 : Int32) (f : St) => wbX7_text_101 Q x1 f) Q (N + 1) 1 (Int32.ofNat (m + 1)) f'))) →
      wlX7_text_26 (fun (x1 : Int32) (f : St) => wbX7_text_101 Q x1 f) Q (N + 2) 1 (Int32.ofNat m) f := by
    intro N m i f O hm hG h40 h48 hO hl hcase
    show wbX7_text_26 (wlX7_text_26 (fun (x1 : Int32) (f : St) => wbX7_text_101 Q x1 f) Q (N + 1)) _ Q 1 (Int32.ofNat m) f
    unfold wbX7_text_26
    refine ⟨fun z => ?_, fun _ => ⟨fun z => absurd z (by decide), fun _ => ?_⟩⟩
    · have := (n_leI (a := 2) (b := m) (by decide) (by omega)).mp z
      omega
    refine m_tok (tG_tp hG ht) (ps_le i) h40 (fun f3 hx => ?_)
    have hG3 : tG g X f3 := tG_tr hG (tG_nx hx)
    obtain ⟨x1, x2, x3, x4, x5, x6⟩ := hx
    have x5' : f3 99 42 = tkC (kd B n i) := x5
    have x3' : f3 99 40 = Int32.ofNat (ps B n (i + 1)) := x3
    have x4' : f3 99 41 = Int32.ofNat (bg B n i) := x4
    have e348 : f3 99 48 = Int32.ofNat O.length := by rw [x2 48 (by decide) (by decide) (by decide) (by decide)]; exact h48
    have hlow : wbX7_text_59 (wlX7_text_26 (fun (x1 : Int32) (f : St) => wbX7_text_101 Q x1 f) Q (N + 1)) (fun (x1 : Int32) (f : St) => wbX7_text_101 Q x1 f) Q (Int32.ofNat m) f3 ∨ (kd B n i = 3 ∧ vl B n i = m) := by
      rcases hcase with ⟨hr, hno, hj⟩ | ⟨hy, -⟩
      · left
        unfold wbX7_text_59 wbX7_text_60 wbX7_text_93 wbX7_text_94
        rw [tG_14 hG3 h14, show (4 : Int32) = Int32.ofNat 4 from rfl, n_mul, n_add, n_clamp (by omega)]
        refine ⟨n_in (by omega) (by decide), fun f4 e4 => ⟨fun _ x2' ex2 => ?_, fun z => absurd rfl z⟩⟩
        rw [n_suc] at ex2
        subst ex2
        refine hbad N (m + 1) f4 i (by rw [e4]; exact tG_tr hG3 (tG_13 (by omega))) ?_ hr hj.symm
        rw [e4, upd2_o (by decide)]
        exact x4'
      · right
        exact hy
    have hval : kd B n i = 3 → (f3 99 43 = Int32.ofNat m ↔ vl B n i = m) := by
      intro hk
      rw [x6 (Or.inr (Or.inr hk))]
      have hv : vl B n i < 20 := by
        have hk' : kdA B n (bg B n i) = 3 := hk
        show vlA B n (bg B n i) < 20
        unfold kdA at hk'
        unfold vlA
        by_cases c0 : n ≤ bg B n i
        · rw [if_pos c0]; decide
        · rw [if_neg c0] at hk' ⊢
          by_cases c1 : isLt (B (bg B n i)) = true
          · rw [if_pos c1]
            have hw : wix B n (bg B n i) ≤ 11 := wx_le
            unfold wVl
            split <;> omega
          · rw [if_neg c1] at hk' ⊢
            by_cases c2 : isDg (B (bg B n i)) = true
            · rw [if_pos c2] at hk'
              split at hk' <;> omega
            · rw [if_neg c2]; decide
      exact n_eqI (by have : vlA B n (bgA B n (ps B n i)) < 20 := hv
                      omega) (by omega)
    refine ⟨fun z => ?_, fun z => ⟨fun z2 => ?_, fun z2 => ?_⟩⟩
    · rcases hlow with h | h
      · exact h
      · exact absurd ((e3 i f3 x5').mpr h.1) z
    · rcases hlow with h | h
      · exact h
      · exact absurd ((hval h.1).mpr h.2) z2
    · have hk3 := (e3 i f3 x5').mp z
      have hv := (hval hk3).mp z2
      rcases hcase with ⟨-, hno, -⟩ | ⟨hy, hrest⟩
      · exact absurd ⟨hk3, hv⟩ hno
      unfold wbX7_text_60
      rw [tG_14 hG3 h14, show (4 : Int32) = Int32.ofNat 4 from rfl, n_mul, n_add, n_clamp (by omega)]
      refine ⟨n_in (by omega) (by decide), fun f4 e4 => ⟨fun z => absurd z (by decide), fun _ => ?_⟩⟩
      have hG4 : tG g X f4 := by rw [e4]; exact tG_tr hG3 (tG_13 (by omega))
      have hpl := ps_lt (B := B) (n := n) (i := i) (by omega)
      refine m_eRead (O := O) (i := i + 1) (X := X) (tG_tp hG4 ht) hX (tG_14 hG4 h14) ?_ ?_ (fun t hlt => ?_) (by omega) ?_
      · rw [e4, upd2_o (by decide)]; exact x3'
      · rw [e4, upd2_o (by decide)]; exact e348
      · rw [e4, upd2_o (by decide), x1 12 (by decide)]; exact hO t hlt
      rcases hrest with ⟨hr, hEF⟩ | ⟨l, j1, hPR, h59, hgo⟩
      · left
        refine ⟨j, hEF, fun g' hg' h41' => ?_⟩
        obtain ⟨O', H', hM'⟩ := hg'
        refine ⟨fun _ => ?_, fun z => absurd rfl z⟩
        unfold wbX7_text_93 wbX7_text_94
        intro x2' ex2
        rw [n_suc] at ex2
        subst ex2
        exact hbad N (m + 1) g' j (tG_tr hG4 (tG_MH hM')) h41' hr rfl
      · right
        refine ⟨l, j1, hPR, h59, fun g' hW' => ⟨fun z => absurd z (by decide), fun _ => ?_⟩⟩
        obtain ⟨hM', w40, wl⟩ := hW'
        unfold wbX7_text_94
        intro x2' ex2
        rw [n_suc] at ex2
        subst ex2
        have e13 : g' 13 = f4 13 := hM'.1.1 13 (by decide) (by decide) (by decide)
        refine hgo g' (tG_tr hG4 (tG_MH hM')) (fun t hne => ?_) ?_ w40 hM'.2.1.2.2 hM'.2.2.2.1 ?_
        · rw [e13, e4, upd2_at, if_neg hne, x1 13 (by decide)]
        · rw [e13, e4, upd2_at, if_pos rfl]; exact e348
        · rw [List.length_nil, Nat.add_zero] at wl; exact wl
  -- both rounds
  refine hround 1 0 0 f2 [] (by decide) hG2 e240 e248 (fun t hlt => absurd hlt (Nat.not_lt_zero _)) (Nat.zero_le _) ?_
  rcases hP with h | ⟨hk0, h | ⟨l0, j1, hP0, h59, h2⟩⟩
  · exact Or.inl h
  · exact Or.inr ⟨hk0, Or.inl h⟩
  refine Or.inr ⟨hk0, Or.inr ⟨l0, j1, hP0, h59, fun f3 hG3 r13 s13 s40 s48 sO sl => ?_⟩⟩
  rw [List.nil_append] at s48 sO sl
  refine hround 0 1 (j1 + 1) f3 l0 (by decide) hG3 s40 s48 sO sl ?_
  rcases h2 with h | ⟨hk1, h | ⟨l1, j2, hP1, h59', h3⟩⟩
  · exact Or.inl h
  · exact Or.inr ⟨hk1, Or.inl h⟩
  refine Or.inr ⟨hk1, Or.inr ⟨l1, j2, hP1, h59', fun f4 hG4 q13 p13 p40 p48 pO pl' => ?_⟩⟩
  show wbX7_text_26 _ _ Q 1 (Int32.ofNat 2) f4
  unfold wbX7_text_26
  refine ⟨fun _ => ?_, fun z => absurd (by decide) z⟩
  unfold wbX7_text_101
  refine ⟨fun z => absurd z (by decide), fun _ => m_tok (tG_tp hG4 ht) (ps_le (j2 + 1)) p40 (fun f5 hx => ?_)⟩
  have hG5 : tG g X f5 := tG_tr hG4 (tG_nx hx)
  obtain ⟨x1, x2, x3, x4, x5, x6⟩ := hx
  have x5' : f5 99 42 = tkC (kd B n (j2 + 1)) := x5
  have x4' : f5 99 41 = Int32.ofNat (bg B n (j2 + 1)) := x4
  unfold wbX7_text_121
  rcases h3 with ⟨hr, hne, hj⟩ | ⟨hr, he, hj⟩
  · subst hj
    exact ⟨fun _ => t_fail hG5 hX h14 x4' (hq0 hr), fun z => absurd ((e0 _ f5 x5').mp z) hne⟩
  · refine ⟨fun z => absurd ((e0 _ f5 x5').mpr he) z, fun _ => ?_⟩
    have hpn := ps_le (B := B) (n := n) (j2 + 1)
    have hn160 := ht.1
    rw [List.length_append] at pl' p48
    have e548 : f5 99 48 = Int32.ofNat (l0.length + l1.length) := by rw [x2 48 (by decide) (by decide) (by decide) (by decide)]; exact p48
    unfold wbX7_text_122
    rw [tG_14 hG5 h14, show (4 : Int32) = Int32.ofNat 4 from rfl, show (2 : Int32) = Int32.ofNat 2 from rfl, n_mul, n_add, n_clamp (by omega), e548]
    refine ⟨n_in (by omega) (by decide), fun f8 e8 f9 e9 => ⟨fun _ f10 e10 => ?_, fun z => absurd z (by decide)⟩⟩
    have h8 : tG g X f8 := by rw [e8]; exact tG_tr hG5 (tG_13 (by decide))
    have e914 : f9 99 14 = Int32.ofNat X := by rw [e9, u99 (by decide)]; exact tG_14 h8 h14
    have e1014 : f10 99 14 = Int32.ofNat (X + 1) := by rw [e10, u99s, e914, n_suc]
    rw [e1014, n_pred (by omega), Nat.add_sub_cancel]
    have row13 : ∀ t, f10 13 t = if t = 4 * X + 2 then Int32.ofNat (l0.length + l1.length) else f4 13 t := by
      intro t
      rw [e10, upd2_o (by decide), e9, upd2_o (by decide), e8, upd2_at, x1 13 (by decide)]
    have row12 : f10 12 = f4 12 := by
      rw [e10, upd2_o (by decide), e9, upd2_o (by decide), e8, upd2_o (by decide), x1 12 (by decide)]
    refine hq1 l0 l1 hr f10 ⟨fun r a b c d => ?_, fun q a0 a1 b0 b1 b2 b3 b4 b5 b6 => ?_, fun t ht => ?_, fun t ht => ?_, ?_⟩ e1014 (by omega) ?_ ?_ ?_ ?_
    · rw [e10, upd2_o d, e9, upd2_o d]; exact h8.1 r a b c d
    · rw [e10, u99 a1, e9, u99 a0]; exact h8.2.1 q b0 b1 b2 b3 b4 b5 b6
    · rw [e10, upd2_o (by decide), e9, upd2_o (by decide)]; exact h8.2.2.1 t ht
    · rw [e10, upd2_o (by decide), e9, upd2_o (by decide)]; exact h8.2.2.2 t ht
    · rw [e10, u99 (by decide), e9, u99s]
    · rw [row13, if_neg (by omega), q13 _ (by omega)]
      exact s13
    · rw [row13, if_neg (by omega)]
      exact p13
    · rw [row13, if_pos rfl]
    · intro t hlt
      rw [row12]
      exact pO t hlt
end
