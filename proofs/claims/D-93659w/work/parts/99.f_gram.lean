/-! PLAIN LAYER: the grammar of texts as a relation: level (0 one, 1 term, 2 sum, 3 not, 4 both, 5 either; 10 + b: the loop of level b behind acc), opens k, token i; what is read (none: a fault), the token behind it (or at fault) -/
set_option maxRecDepth 100000
/-- a leaf's code -/
def lfC (kd vl : Nat) : Option Nat := if kd = 1 then some (100000 + vl) else if kd = 2 then some vl else none
/-- a sign of level b between two -/
def opC (b kd : Nat) : Option Nat := if b = 1 then (if kd = 42 then some 18 else none) else if b = 2 then (if kd = 43 then some 16 else if kd = 45 then some 17 else none) else if b = 4 then (if kd = 5 then some 12 else none) else if b = 5 then (if kd = 4 then some 11 else none) else none
def cmC (kd : Nat) : Option Nat := if kd = 60 then some 14 else if kd = 61 then some 15 else none
/-- level below -/
def sbL (b : Nat) : Nat := if b = 1 then 0 else if b = 2 then 1 else if b = 4 then 3 else 4
def isB (b : Nat) : Prop := b = 1 ∨ b = 2 ∨ b = 4 ∨ b = 5
abbrev CT : Type := Nat → Nat → Nat → List Nat → Option (List Nat) → Nat → Prop
def Rl (kd vl : Nat → Nat) (C : CT) : Prop :=
  (∀ k i, (kd i = 45 ∨ kd i = 40) → k = 5 → C 0 k i [] none i) ∧
  (∀ k i j, kd i = 45 → k < 5 → C 0 (k + 1) (i + 1) [] none j → C 0 k i [] none j) ∧
  (∀ k i j l, kd i = 45 → k < 5 → C 0 (k + 1) (i + 1) [] (some l) j → C 0 k i [] (some (l ++ [19])) j) ∧
  (∀ k i j, kd i = 40 → k < 5 → C 5 (k + 1) (i + 1) [] none j → C 0 k i [] none j) ∧
  (∀ k i j l, kd i = 40 → k < 5 → C 5 (k + 1) (i + 1) [] (some l) j → kd j ≠ 41 → C 0 k i [] none j) ∧
  (∀ k i j l, kd i = 40 → k < 5 → C 5 (k + 1) (i + 1) [] (some l) j → kd j = 41 → kd (j + 1) = 8 → C 0 k i [] none (j + 1)) ∧
  (∀ k i j l, kd i = 40 → k < 5 → C 5 (k + 1) (i + 1) [] (some l) j → kd j = 41 → kd (j + 1) ≠ 8 → C 0 k i [] (some l) (j + 1)) ∧
  (∀ k i c, lfC (kd i) (vl i) = some c → kd (i + 1) = 8 → C 0 k i [] none (i + 1)) ∧
  (∀ k i c, lfC (kd i) (vl i) = some c → kd (i + 1) ≠ 8 → C 0 k i [] (some [c]) (i + 1)) ∧
  (∀ k i, kd i ≠ 45 → kd i ≠ 40 → lfC (kd i) (vl i) = none → C 0 k i [] none i) ∧
  (∀ k i, kd i = 6 → k = 5 → C 3 k i [] none i) ∧
  (∀ k i j, kd i = 6 → k < 5 → C 3 (k + 1) (i + 1) [] none j → C 3 k i [] none j) ∧
  (∀ k i j l, kd i = 6 → k < 5 → C 3 (k + 1) (i + 1) [] (some l) j → C 3 k i [] (some (l ++ [13])) j) ∧
  (∀ k i j, kd i ≠ 6 → C 2 k i [] none j → C 3 k i [] none j) ∧
  (∀ k i j l, kd i ≠ 6 → C 2 k i [] (some l) j → cmC (kd j) = none → C 3 k i [] (some l) j) ∧
  (∀ k i j l c j2, kd i ≠ 6 → C 2 k i [] (some l) j → cmC (kd j) = some c → C 2 k (j + 1) [] none j2 → C 3 k i [] none j2) ∧
  (∀ k i j l c j2 l2, kd i ≠ 6 → C 2 k i [] (some l) j → cmC (kd j) = some c → C 2 k (j + 1) [] (some l2) j2 → C 3 k i [] (some (l ++ (l2 ++ [c]))) j2) ∧
  (∀ b k i j, isB b → C (sbL b) k i [] none j → C b k i [] none j) ∧
  (∀ b k i j l i2 r, isB b → C (sbL b) k i [] (some l) i2 → C (10 + b) k i2 l r j → C b k i [] r j) ∧
  (∀ b k i acc, isB b → opC b (kd i) = none → C (10 + b) k i acc (some acc) i) ∧
  (∀ b k i acc c j, isB b → opC b (kd i) = some c → C (sbL b) k (i + 1) [] none j → C (10 + b) k i acc none j) ∧
  (∀ b k i acc c l2 i2 r j, isB b → opC b (kd i) = some c → C (sbL b) k (i + 1) [] (some l2) i2 → C (10 + b) k i2 (acc ++ (l2 ++ [c])) r j → C (10 + b) k i acc r j)
def PR (kd vl : Nat → Nat) : CT := fun lv k i acc r j => ∀ C : CT, Rl kd vl C → C lv k i acc r j
section
variable {kd vl : Nat → Nat}
/-- the relation itself keeps the rules -/
theorem PR_rl : Rl kd vl (PR kd vl) := by
  refine ⟨?_, ?_, ?_, ?_, ?_, ?_, ?_, ?_, ?_, ?_, ?_, ?_, ?_, ?_, ?_, ?_, ?_, ?_, ?_, ?_, ?_, ?_⟩
  · intro k i h1 h2 C hC
    exact hC.1 k i h1 h2
  · intro k i j h1 h2 h3 C hC
    exact hC.2.1 k i j h1 h2 (h3 C hC)
  · intro k i j l h1 h2 h3 C hC
    exact hC.2.2.1 k i j l h1 h2 (h3 C hC)
  · intro k i j h1 h2 h3 C hC
    exact hC.2.2.2.1 k i j h1 h2 (h3 C hC)
  · intro k i j l h1 h2 h3 h4 C hC
    exact hC.2.2.2.2.1 k i j l h1 h2 (h3 C hC) h4
  · intro k i j l h1 h2 h3 h4 h5 C hC
    exact hC.2.2.2.2.2.1 k i j l h1 h2 (h3 C hC) h4 h5
  · intro k i j l h1 h2 h3 h4 h5 C hC
    exact hC.2.2.2.2.2.2.1 k i j l h1 h2 (h3 C hC) h4 h5
  · intro k i c h1 h2 C hC
    exact hC.2.2.2.2.2.2.2.1 k i c h1 h2
  · intro k i c h1 h2 C hC
    exact hC.2.2.2.2.2.2.2.2.1 k i c h1 h2
  · intro k i h1 h2 h3 C hC
    exact hC.2.2.2.2.2.2.2.2.2.1 k i h1 h2 h3
  · intro k i h1 h2 C hC
    exact hC.2.2.2.2.2.2.2.2.2.2.1 k i h1 h2
  · intro k i j h1 h2 h3 C hC
    exact hC.2.2.2.2.2.2.2.2.2.2.2.1 k i j h1 h2 (h3 C hC)
  · intro k i j l h1 h2 h3 C hC
    exact hC.2.2.2.2.2.2.2.2.2.2.2.2.1 k i j l h1 h2 (h3 C hC)
  · intro k i j h1 h2 C hC
    exact hC.2.2.2.2.2.2.2.2.2.2.2.2.2.1 k i j h1 (h2 C hC)
  · intro k i j l h1 h2 h3 C hC
    exact hC.2.2.2.2.2.2.2.2.2.2.2.2.2.2.1 k i j l h1 (h2 C hC) h3
  · intro k i j l c j2 h1 h2 h3 h4 C hC
    exact hC.2.2.2.2.2.2.2.2.2.2.2.2.2.2.2.1 k i j l c j2 h1 (h2 C hC) h3 (h4 C hC)
  · intro k i j l c j2 l2 h1 h2 h3 h4 C hC
    exact hC.2.2.2.2.2.2.2.2.2.2.2.2.2.2.2.2.1 k i j l c j2 l2 h1 (h2 C hC) h3 (h4 C hC)
  · intro b k i j h1 h2 C hC
    exact hC.2.2.2.2.2.2.2.2.2.2.2.2.2.2.2.2.2.1 b k i j h1 (h2 C hC)
  · intro b k i j l i2 r h1 h2 h3 C hC
    exact hC.2.2.2.2.2.2.2.2.2.2.2.2.2.2.2.2.2.2.1 b k i j l i2 r h1 (h2 C hC) (h3 C hC)
  · intro b k i acc h1 h2 C hC
    exact hC.2.2.2.2.2.2.2.2.2.2.2.2.2.2.2.2.2.2.2.1 b k i acc h1 h2
  · intro b k i acc c j h1 h2 h3 C hC
    exact hC.2.2.2.2.2.2.2.2.2.2.2.2.2.2.2.2.2.2.2.2.1 b k i acc c j h1 h2 (h3 C hC)
  · intro b k i acc c l2 i2 r j h1 h2 h3 h4 C hC
    exact hC.2.2.2.2.2.2.2.2.2.2.2.2.2.2.2.2.2.2.2.2.2 b k i acc c l2 i2 r j h1 h2 (h3 C hC) (h4 C hC)
/-- the rules by name -/
theorem PR_full {k i : Nat} (h1 : kd i = 45 ∨ kd i = 40) (h2 : k = 5) : PR kd vl 0 k i [] none i := PR_rl.1 k i h1 h2
theorem PR_neg0 {k i j : Nat} (h1 : kd i = 45) (h2 : k < 5) (h3 : PR kd vl 0 (k + 1) (i + 1) [] none j) : PR kd vl 0 k i [] none j := PR_rl.2.1 k i j h1 h2 h3
theorem PR_neg {k i j : Nat} {l : List Nat} (h1 : kd i = 45) (h2 : k < 5) (h3 : PR kd vl 0 (k + 1) (i + 1) [] (some l) j) : PR kd vl 0 k i [] (some (l ++ [19])) j := PR_rl.2.2.1 k i j l h1 h2 h3
theorem PR_par0 {k i j : Nat} (h1 : kd i = 40) (h2 : k < 5) (h3 : PR kd vl 5 (k + 1) (i + 1) [] none j) : PR kd vl 0 k i [] none j := PR_rl.2.2.2.1 k i j h1 h2 h3
theorem PR_par1 {k i j : Nat} {l : List Nat} (h1 : kd i = 40) (h2 : k < 5) (h3 : PR kd vl 5 (k + 1) (i + 1) [] (some l) j) (h4 : kd j ≠ 41) : PR kd vl 0 k i [] none j := PR_rl.2.2.2.2.1 k i j l h1 h2 h3 h4
theorem PR_par2 {k i j : Nat} {l : List Nat} (h1 : kd i = 40) (h2 : k < 5) (h3 : PR kd vl 5 (k + 1) (i + 1) [] (some l) j) (h4 : kd j = 41) (h5 : kd (j + 1) = 8) : PR kd vl 0 k i [] none (j + 1) := PR_rl.2.2.2.2.2.1 k i j l h1 h2 h3 h4 h5
theorem PR_par {k i j : Nat} {l : List Nat} (h1 : kd i = 40) (h2 : k < 5) (h3 : PR kd vl 5 (k + 1) (i + 1) [] (some l) j) (h4 : kd j = 41) (h5 : kd (j + 1) ≠ 8) : PR kd vl 0 k i [] (some l) (j + 1) := PR_rl.2.2.2.2.2.2.1 k i j l h1 h2 h3 h4 h5
theorem PR_lf0 {k i c : Nat} (h1 : lfC (kd i) (vl i) = some c) (h2 : kd (i + 1) = 8) : PR kd vl 0 k i [] none (i + 1) := PR_rl.2.2.2.2.2.2.2.1 k i c h1 h2
theorem PR_lf {k i c : Nat} (h1 : lfC (kd i) (vl i) = some c) (h2 : kd (i + 1) ≠ 8) : PR kd vl 0 k i [] (some [c]) (i + 1) := PR_rl.2.2.2.2.2.2.2.2.1 k i c h1 h2
theorem PR_else {k i : Nat} (h1 : kd i ≠ 45) (h2 : kd i ≠ 40) (h3 : lfC (kd i) (vl i) = none) : PR kd vl 0 k i [] none i := PR_rl.2.2.2.2.2.2.2.2.2.1 k i h1 h2 h3
theorem PR_notf {k i : Nat} (h1 : kd i = 6) (h2 : k = 5) : PR kd vl 3 k i [] none i := PR_rl.2.2.2.2.2.2.2.2.2.2.1 k i h1 h2
theorem PR_not0 {k i j : Nat} (h1 : kd i = 6) (h2 : k < 5) (h3 : PR kd vl 3 (k + 1) (i + 1) [] none j) : PR kd vl 3 k i [] none j := PR_rl.2.2.2.2.2.2.2.2.2.2.2.1 k i j h1 h2 h3
theorem PR_not {k i j : Nat} {l : List Nat} (h1 : kd i = 6) (h2 : k < 5) (h3 : PR kd vl 3 (k + 1) (i + 1) [] (some l) j) : PR kd vl 3 k i [] (some (l ++ [13])) j := PR_rl.2.2.2.2.2.2.2.2.2.2.2.2.1 k i j l h1 h2 h3
theorem PR_cm0 {k i j : Nat} (h1 : kd i ≠ 6) (h2 : PR kd vl 2 k i [] none j) : PR kd vl 3 k i [] none j := PR_rl.2.2.2.2.2.2.2.2.2.2.2.2.2.1 k i j h1 h2
theorem PR_cm1 {k i j : Nat} {l : List Nat} (h1 : kd i ≠ 6) (h2 : PR kd vl 2 k i [] (some l) j) (h3 : cmC (kd j) = none) : PR kd vl 3 k i [] (some l) j := PR_rl.2.2.2.2.2.2.2.2.2.2.2.2.2.2.1 k i j l h1 h2 h3
theorem PR_cm2 {k i j c j2 : Nat} {l : List Nat} (h1 : kd i ≠ 6) (h2 : PR kd vl 2 k i [] (some l) j) (h3 : cmC (kd j) = some c) (h4 : PR kd vl 2 k (j + 1) [] none j2) : PR kd vl 3 k i [] none j2 := PR_rl.2.2.2.2.2.2.2.2.2.2.2.2.2.2.2.1 k i j l c j2 h1 h2 h3 h4
theorem PR_cm {k i j c j2 : Nat} {l l2 : List Nat} (h1 : kd i ≠ 6) (h2 : PR kd vl 2 k i [] (some l) j) (h3 : cmC (kd j) = some c) (h4 : PR kd vl 2 k (j + 1) [] (some l2) j2) : PR kd vl 3 k i [] (some (l ++ (l2 ++ [c]))) j2 := PR_rl.2.2.2.2.2.2.2.2.2.2.2.2.2.2.2.2.1 k i j l c j2 l2 h1 h2 h3 h4
theorem PR_b0 {b k i j : Nat} (h1 : isB b) (h2 : PR kd vl (sbL b) k i [] none j) : PR kd vl b k i [] none j := PR_rl.2.2.2.2.2.2.2.2.2.2.2.2.2.2.2.2.2.1 b k i j h1 h2
theorem PR_b {b k i j i2 : Nat} {l : List Nat} {r : Option (List Nat)} (h1 : isB b) (h2 : PR kd vl (sbL b) k i [] (some l) i2) (h3 : PR kd vl (10 + b) k i2 l r j) : PR kd vl b k i [] r j := PR_rl.2.2.2.2.2.2.2.2.2.2.2.2.2.2.2.2.2.2.1 b k i j l i2 r h1 h2 h3
theorem PR_l0 {b k i : Nat} {acc : List Nat} (h1 : isB b) (h2 : opC b (kd i) = none) : PR kd vl (10 + b) k i acc (some acc) i := PR_rl.2.2.2.2.2.2.2.2.2.2.2.2.2.2.2.2.2.2.2.1 b k i acc h1 h2
theorem PR_l1 {b k i c j : Nat} {acc : List Nat} (h1 : isB b) (h2 : opC b (kd i) = some c) (h3 : PR kd vl (sbL b) k (i + 1) [] none j) : PR kd vl (10 + b) k i acc none j := PR_rl.2.2.2.2.2.2.2.2.2.2.2.2.2.2.2.2.2.2.2.2.1 b k i acc c j h1 h2 h3
theorem PR_l {b k i c i2 j : Nat} {acc l2 : List Nat} {r : Option (List Nat)} (h1 : isB b) (h2 : opC b (kd i) = some c) (h3 : PR kd vl (sbL b) k (i + 1) [] (some l2) i2) (h4 : PR kd vl (10 + b) k i2 (acc ++ (l2 ++ [c])) r j) : PR kd vl (10 + b) k i acc r j := PR_rl.2.2.2.2.2.2.2.2.2.2.2.2.2.2.2.2.2.2.2.2.2 b k i acc c l2 i2 r j h1 h2 h3 h4
end
