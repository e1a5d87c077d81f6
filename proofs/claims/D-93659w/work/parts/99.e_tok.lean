/-! PLAIN LAYER: tokens of a text, plainly -/
set_option maxRecDepth 100000
/-- how far q holds from i on -/
def rnF (q : Nat → Bool) : Nat → Nat → Nat
  | 0, i => i
  | m + 1, i => if q i = true then rnF q m (i + 1) else i
def rn (q : Nat → Bool) (n i : Nat) : Nat := rnF q (n - i) i
theorem rn_y {q : Nat → Bool} {n i : Nat} (hi : i < n) (h : q i = true) : rn q n i = rn q n (i + 1) := by
  unfold rn
  rw [show n - i = (n - (i + 1)) + 1 by omega]
  show (if q i = true then _ else _) = _
  rw [if_pos h]
theorem rn_n {q : Nat → Bool} {n i : Nat} (h : ¬ (i < n ∧ q i = true)) : rn q n i = i := by
  unfold rn
  by_cases c : i < n
  · rw [show n - i = (n - (i + 1)) + 1 by omega]
    show (if q i = true then _ else _) = _
    rw [if_neg (fun z => h ⟨c, z⟩)]
  · rw [show n - i = 0 by omega]
    rfl
theorem rnF_ge {q : Nat → Bool} : ∀ (m i : Nat), i ≤ rnF q m i ∧ rnF q m i ≤ i + m ∧ (∀ t, i ≤ t → t < rnF q m i → q t = true) ∧ (rnF q m i < i + m → q (rnF q m i) = false)
  | 0, i => ⟨Nat.le_refl _, Nat.le_refl _, fun t h1 h2 => absurd h2 (by show ¬ t < i; omega), fun h => absurd h (by show ¬ i < i + 0; omega)⟩
  | m + 1, i => by
    by_cases c : q i = true
    · have e : rnF q (m + 1) i = rnF q m (i + 1) := by
        show (if q i = true then _ else _) = _
        rw [if_pos c]
      obtain ⟨h1, h2, h3, h4⟩ := rnF_ge (q := q) m (i + 1)
      rw [e]
      refine ⟨by omega, by omega, fun t ht1 ht2 => ?_, fun h => h4 (by omega)⟩
      by_cases ct : t = i
      · rw [ct]; exact c
      · exact h3 t (by omega) ht2
    · have e : rnF q (m + 1) i = i := by
        show (if q i = true then _ else _) = _
        rw [if_neg c]
      rw [e]
      refine ⟨Nat.le_refl _, by omega, fun t h1 h2 => absurd h2 (by omega), fun _ => ?_⟩
      cases hq : q i
      · rfl
      · exact absurd hq c
theorem rn_ge {q : Nat → Bool} {n i : Nat} : i ≤ rn q n i := (rnF_ge _ _).1
theorem rn_le {q : Nat → Bool} {n i : Nat} (h : i ≤ n) : rn q n i ≤ n := by
  have := (rnF_ge (q := q) (n - i) i).2.1
  unfold rn
  omega
theorem rn_all {q : Nat → Bool} {n i t : Nat} (h1 : i ≤ t) (h2 : t < rn q n i) : q t = true := (rnF_ge (n - i) i).2.2.1 t h1 h2
def isSp (x : Nat) : Bool := x == 32 || x == 10
def isLt (x : Nat) : Bool := decide (97 ≤ x) && decide (x ≤ 122)
def isDg (x : Nat) : Bool := decide (48 ≤ x) && decide (x ≤ 57)
def isSg (x : Nat) : Bool := x == 40 || x == 41 || x == 59 || x == 43 || x == 45 || x == 42 || x == 60 || x == 61
theorem isSp_i {x : Nat} : isSp x = true ↔ x = 32 ∨ x = 10 := by unfold isSp; simp
theorem isLt_i {x : Nat} : isLt x = true ↔ 97 ≤ x ∧ x ≤ 122 := by unfold isLt; simp
theorem isDg_i {x : Nat} : isDg x = true ↔ 48 ≤ x ∧ x ≤ 57 := by unfold isDg; simp
theorem isSg_i {x : Nat} : isSg x = true ↔ x = 40 ∨ x = 41 ∨ x = 59 ∨ x = 43 ∨ x = 45 ∨ x = 42 ∨ x = 60 ∨ x = 61 := by unfold isSg; simp [or_assoc]
/-- the letters from a on -/
def lts (B : Nat → Nat) (a m : Nat) : List Nat := (List.range m).map (fun t => B (a + t))
theorem lts_len {B : Nat → Nat} {a m : Nat} : (lts B a m).length = m := by unfold lts; simp
theorem lts_at {B : Nat → Nat} {a m t : Nat} (h : t < m) : (lts B a m).getD t 0 = B (a + t) := by
  unfold lts
  simp [List.getD, h]
/-- words: near worth hours size other day want week or and not -/
def wT : List (List Nat) := [[110, 101, 97, 114], [119, 111, 114, 116, 104], [104, 111, 117, 114, 115], [115, 105, 122, 101], [111, 116, 104, 101, 114], [100, 97, 121], [119, 97, 110, 116], [119, 101, 101, 107], [111, 114], [97, 110, 100], [110, 111, 116]]
def wxF : List (List Nat) → List Nat → Nat
  | [], _ => 0
  | w :: r, L => if w = L then 0 else wxF r L + 1
def wx (L : List Nat) : Nat := wxF wT L
def wKd (k : Nat) : Nat := if k < 2 then 3 else if k < 8 then 2 else if k = 8 then 4 else if k = 9 then 5 else if k = 10 then 6 else 7
def wVl (k : Nat) : Nat := if k < 2 then k else k - 2
theorem wx_k {k : Nat} (hk : k < 11) {L : List Nat} : wx L = k ↔ L = wT.getD k [] := by
  have key : ∀ (W : List (List Nat)), W.Nodup → ∀ k, k < W.length → (wxF W L = k ↔ L = W.getD k []) := by
    intro W
    induction W with
    | nil => intro _ k hk; exact absurd hk (by simp)
    | cons w r ih =>
      intro hN k hk
      rw [List.nodup_cons] at hN
      show (if w = L then 0 else wxF r L + 1) = k ↔ _
      cases k with
      | zero =>
        by_cases c : w = L
        · rw [if_pos c]
          simp [c]
        · rw [if_neg c]
          simp
          exact fun q => c q.symm
      | succ k =>
        by_cases c : w = L
        · rw [if_pos c]
          have hr : k < r.length := by simpa using hk
          constructor
          · intro q; omega
          · intro q
            exfalso
            apply hN.1
            rw [c, q]
            simp [List.getD, hr]
        · rw [if_neg c]
          have hr : k < r.length := by simpa using hk
          have := ih hN.2 k hr
          simp only [List.getD_cons_succ]
          rw [← this]
          omega
  exact key wT (by decide) k hk
theorem wx_le {L : List Nat} : wx L ≤ 11 := by
  have key : ∀ (W : List (List Nat)), wxF W L ≤ W.length := by
    intro W
    induction W with
    | nil => exact Nat.le_refl _
    | cons w r ih =>
      show (if w = L then 0 else wxF r L + 1) ≤ _
      by_cases c : w = L
      · rw [if_pos c]; exact Nat.zero_le _
      · rw [if_neg c]
        simp
        exact ih
  exact key wT
/-- a number's worth -/
def nvF (B : Nat → Nat) (a : Nat) : Nat → Nat
  | 0 => 0
  | m + 1 => 10 * nvF B a m + (B (a + m) - 48)
section
variable (B : Nat → Nat) (n : Nat)
def wlen (a : Nat) : Nat := rn (fun t => isLt (B t)) n a - a
def dlen (a : Nat) : Nat := rn (fun t => isDg (B t)) n a - a
def wix (a : Nat) : Nat := wx (lts B a (min (wlen B n a) 9))
def kdA (a : Nat) : Nat := if n ≤ a then 0 else if isLt (B a) = true then wKd (wix B n a) else if isDg (B a) = true then (if dlen B n a ≤ 4 then 1 else 8) else if isSg (B a) = true then B a else 8
def vlA (a : Nat) : Nat := if n ≤ a then 0 else if isLt (B a) = true then wVl (wix B n a) else if isDg (B a) = true then nvF B a (dlen B n a) else 0
def enA (a : Nat) : Nat := if n ≤ a then a else if isLt (B a) = true then rn (fun t => isLt (B t)) n a else if isDg (B a) = true then rn (fun t => isDg (B t)) n a else a + 1
def bgA (a : Nat) : Nat := rn (fun t => isSp (B t)) n a
def ps : Nat → Nat
  | 0 => 0
  | i + 1 => enA B n (bgA B n (ps i))
def bg (i : Nat) : Nat := bgA B n (ps B n i)
def kd (i : Nat) : Nat := kdA B n (bg B n i)
def vl (i : Nat) : Nat := vlA B n (bg B n i)
end
section
variable {B : Nat → Nat} {n : Nat}
theorem enA_b {a : Nat} (h : a ≤ n) : a ≤ enA B n a ∧ enA B n a ≤ n ∧ (a < n → a < enA B n a) := by
  unfold enA
  by_cases c : n ≤ a
  · rw [if_pos c]
    exact ⟨Nat.le_refl _, h, fun z => absurd z (by omega)⟩
  · rw [if_neg c]
    by_cases c1 : isLt (B a) = true
    · rw [if_pos c1]
      refine ⟨rn_ge, rn_le h, fun _ => ?_⟩
      rw [rn_y (q := fun t => isLt (B t)) (by omega) c1]
      exact rn_ge
    · rw [if_neg c1]
      by_cases c2 : isDg (B a) = true
      · rw [if_pos c2]
        refine ⟨rn_ge, rn_le h, fun _ => ?_⟩
        rw [rn_y (q := fun t => isDg (B t)) (by omega) c2]
        exact rn_ge
      · rw [if_neg c2]
        omega
theorem ps_le : ∀ i, ps B n i ≤ n
  | 0 => Nat.zero_le _
  | i + 1 => (enA_b (rn_le (ps_le i))).2.1
theorem bg_le {i : Nat} : bg B n i ≤ n := rn_le (ps_le i)
theorem ps_bg {i : Nat} : ps B n i ≤ bg B n i := rn_ge
theorem bg_ps {i : Nat} : bg B n i ≤ ps B n (i + 1) := (enA_b bg_le).1
theorem kd_lt {i : Nat} (h : kd B n i ≠ 0) : bg B n i < n := by
  unfold kd kdA at h
  by_cases c : n ≤ bg B n i
  · rw [if_pos c] at h
    exact absurd rfl h
  · omega
theorem ps_lt {i : Nat} (h : kd B n i ≠ 0) : ps B n i < ps B n (i + 1) := by
  have h1 := kd_lt h
  have h2 := (enA_b (B := B) (bg_le (B := B) (n := n) (i := i))).2.2 h1
  have h3 := ps_bg (B := B) (n := n) (i := i)
  show _ < enA B n (bg B n i)
  omega
theorem ps_ge : ∀ {i : Nat}, (∀ t, t < i → kd B n t ≠ 0) → i ≤ ps B n i
  | 0, _ => Nat.zero_le _
  | i + 1, h => by
    have h1 := ps_ge (i := i) (fun t ht => h t (by omega))
    have h2 := ps_lt (h i (by omega))
    omega
end
