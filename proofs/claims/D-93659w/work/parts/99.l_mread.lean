/-! PLAIN LAYER: the reference reads an E, then a whole text -/
set_option maxRecDepth 100000
/-- an E at token i fails at j -/
def EF (kd vl : Nat → Nat) (i j : Nat) : Prop := PR kd vl 5 0 i [] none j ∨ ∃ l, PR kd vl 5 0 i [] (some l) j ∧ kd j ≠ 59
/-- a whole text: codes of both parts, or the token at fault -/
def PT (kd vl : Nat → Nat) (r : Option (List Nat × List Nat)) (j : Nat) : Prop :=
  (r = none ∧ ¬ (kd 0 = 3 ∧ vl 0 = 0) ∧ j = 0) ∨ ((kd 0 = 3 ∧ vl 0 = 0) ∧ ((r = none ∧ EF kd vl 1 j) ∨ ∃ l0 j1, PR kd vl 5 0 1 [] (some l0) j1 ∧ kd j1 = 59 ∧
    ((r = none ∧ ¬ (kd (j1 + 1) = 3 ∧ vl (j1 + 1) = 1) ∧ j = j1 + 1) ∨ ((kd (j1 + 1) = 3 ∧ vl (j1 + 1) = 1) ∧ ((r = none ∧ EF kd vl (j1 + 2) j) ∨ ∃ l1 j2, PR kd vl 5 0 (j1 + 2) [] (some l1) j2 ∧ kd j2 = 59 ∧
      ((r = none ∧ kd (j2 + 1) ≠ 0 ∧ j = j2 + 1) ∨ (r = some (l0, l1) ∧ kd (j2 + 1) = 0 ∧ j = j2 + 1)))))))
section
variable {B : Nat → Nat} {n : Nat} {g : St} {X : Nat} {O : List Nat} {Q : Int32 → St → Prop}
theorem m_eRead {i : Nat} (ht : tpR g B n) (hX : X < 6) (h14 : g 99 14 = Int32.ofNat X) (h40 : g 99 40 = Int32.ofNat (ps B n i)) (h48 : g 99 48 = Int32.ofNat O.length) (hO : ∀ t, t < O.length → g 12 (200 * X + t) = Int32.ofNat (O.getD t 0)) (hl : O.length ≤ ps B n i)
    (hq : (∃ j, EF (kd B n) (vl B n) i j ∧ FC B n g X Q j) ∨ (∃ l j, PR (kd B n) (vl B n) 5 0 i [] (some l) j ∧ kd B n j = 59 ∧ ∀ g', WS B n g X g' (j + 1) (O ++ l) [] → Q 1 g')) : wX7_eRead g Q := by
  have hps := ps_le (B := B) (n := n) i
  have hn := ht.1
  unfold wX7_eRead
  intro f1 e1 f2 e2
  have hW : WS B n g X f2 i O [] := by
    refine ⟨⟨⟨fun r r1 r2 r3 => ?_, fun q q0 q1 q2 q3 q4 q5 q6 => ?_, fun t _ => ?_⟩, ⟨?_, ?_, ?_⟩, fun t ht => absurd ht (Nat.not_lt_zero _), fun t ht => ?_, fun s hs => (by cases hs), by simp; omega, hX, h14⟩, ?_, by simp; omega⟩
    · rw [e2, upd2_o r3, e1, upd2_o r3]
    · rw [e2, u99 q5, e1, u99 q4]
    · rw [e2, upd2_o (by decide), e1, upd2_o (by decide)]
    · rw [e2, u99 (by decide), e1, u99s]; rfl
    · rw [e2, u99s]; rfl
    · rw [e2, u99 (by decide), e1, u99 (by decide)]; exact h48
    · rw [e2, upd2_o (by decide), e1, upd2_o (by decide)]; exact hO t ht
    · rw [e2, u99 (by decide), e1, u99 (by decide)]; exact h40
  have hE : ER B n Q i 1 1 f2 := by
    have key : ∀ r j, PR (kd B n) (vl B n) 5 0 i [] r j → SW B n g X Q 5 0 i r j := fun r j h => (h _ (m_rules (X := X) (Q := Q) ht)).1 (by decide)
    have hnil : hdR [] (rki 5) := fun s hs => by cases hs
    rcases hq with ⟨j, h | ⟨l, h, h59⟩, hF⟩ | ⟨l, j, h, h59, hn⟩
    · exact (key none j h f2 O [] 1 hW rfl hnil (fun _ => rfl) (fun z => absurd z (by decide))).1 rfl hF
    · refine (key (some l) j h f2 O [] 1 hW rfl hnil (fun _ => rfl) (fun z => absurd z (by decide))).2 l rfl (fun g' lo Hl mn' hW' he hp => ?_)
      have hW2 : WS B n g X g' j (O ++ lo) (Hl ++ []) := hW'
      by_cases c41 : kd B n j = 41
      · exact n_close ht hW2 c41 hp.1 (Or.inl rfl) (fun _ => hF) (fun H' z => (by cases z))
      · exact n_end ht hW2 hp c41 h59 hF
    · refine (key (some l) j h f2 O [] 1 hW rfl hnil (fun _ => rfl) (fun z => absurd z (by decide))).2 l rfl (fun g' lo Hl mn' hW' he hp => ?_)
      have hW2 : WS B n g X g' j (O ++ lo) (Hl ++ []) := hW'
      have he' : lo ++ Hl = l := by
        have : t19 [] = [] := rfl
        rw [this, List.append_nil] at he
        exact he
      refine n_semi ht hW2 h59 hp.1 (fun s hs => by cases hs) (fun z => absurd rfl z) (fun _ g2 hg2 => hn g2 ?_)
      rw [List.append_assoc, he'] at hg2
      exact hg2
  exact ⟨n + 2, hE (n + 2) (by omega)⟩
end
