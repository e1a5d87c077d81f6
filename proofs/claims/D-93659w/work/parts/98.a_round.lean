/-! PLAIN LAYER: rounds: the table of what can be sold -/
set_option maxRecDepth 100000
def slN (sz H : Nat → Int32) (o d L : Nat) : Nat := if i_shr (H o) (Int32.ofNat d) &&& 1 = 1 then min (nn (sz o)) L else 0
theorem slN_le {sz H : Nat → Int32} {o d L : Nat} : slN sz H o d L ≤ L := by
  unfold slN
  by_cases h : i_shr (H o) (Int32.ofNat d) &&& 1 = 1
  · rw [if_pos h]; exact Nat.min_le_right _ _
  · rw [if_neg h]; exact Nat.zero_le _
theorem slV_N {sz H : Nat → Int32} {o d L : Nat} (h1 : 0 ≤ (sz o).toInt) (h2 : (sz o).toInt ≤ 99) (hL : L ≤ 40) : slV sz H o d (Int32.ofNat L) = Int32.ofNat (slN sz H o d L) := by
  obtain ⟨s, hs, es⟩ := bN_of (m := 99) h1 h2 (by decide)
  unfold slV slN
  rw [es, nn_of (by omega)]
  by_cases h : i_shr (H o) (Int32.ofNat d) &&& 1 = 1
  · rw [if_pos h, if_pos h]
    by_cases c : s ≤ L
    · rw [if_pos ((n_leI (by omega) (by omega)).mpr c), Nat.min_eq_left c]
    · rw [if_neg (fun q => c ((n_leI (by omega) (by omega)).mp q)), Nat.min_eq_right (by omega)]
  · rw [if_neg h, if_neg h]
    rfl
def sbV (far sz H : Nat → Int32) (st : Int32) (nx : Nat → Nat → Int32) (d t L o : Nat) : Int32 := if far (6 * t + o) ≤ st then (if nx o (L - slN sz H o d L) = -1 then -1 else Int32.ofNat (slN sz H o d L) + nx o (L - slN sz H o d L)) else -1
def bsN (far sz H : Nat → Int32) (st : Int32) (nx : Nat → Nat → Int32) (d t L : Nat) : Nat → Int32
  | 0 => -1
  | o + 1 => if sbV far sz H st nx d t L o ≤ bsN far sz H st nx d t L o then bsN far sz H st nx d t L o else sbV far sz H st nx d t L o
def tb (far sz H : Nat → Int32) (st : Int32) (home T w : Nat) : Nat → Nat → Nat → Int32
  | 0 => fun t _ => if t = home then 0 else -1
  | k + 1 => fun t L => bsN far sz H st (tb far sz H st home T w k) (w - (k + 1)) t L T
def okT (nx : Nat → Nat → Int32) : Prop := ∀ t L, L ≤ 40 → nx t L = -1 ∨ ∃ m, m ≤ L ∧ nx t L = Int32.ofNat m
theorem ne_m1 {m : Nat} (h : m ≤ 1000) : ¬ Int32.ofNat m = -1 := by
  intro q
  have := congrArg Int32.toInt q
  rw [n_toInt (by omega), im1] at this
  omega
theorem m1_le {m : Nat} (h : m ≤ 1000) : (-1 : Int32) ≤ Int32.ofNat m := i_le.mpr (by rw [im1, n_toInt (by omega)]; omega)
theorem le_m1 {m : Nat} (h : m ≤ 1000) : ¬ Int32.ofNat m ≤ -1 := fun q => by
  have := i_le.mp q
  rw [im1, n_toInt (by omega)] at this
  omega
section
variable {far sz H : Nat → Int32} {st : Int32} {nx : Nat → Nat → Int32} {d t L : Nat}
theorem sbV_ok (h : okT nx) (hL : L ≤ 40) (o : Nat) : sbV far sz H st nx d t L o = -1 ∨ ∃ m, m ≤ L ∧ sbV far sz H st nx d t L o = Int32.ofNat m := by
  unfold sbV
  have hs := slN_le (sz := sz) (H := H) (o := o) (d := d) (L := L)
  by_cases h1 : far (6 * t + o) ≤ st
  · rw [if_pos h1]
    by_cases h2 : nx o (L - slN sz H o d L) = -1
    · rw [if_pos h2]; exact Or.inl rfl
    · rw [if_neg h2]
      obtain ⟨m, hm, em⟩ := (h o (L - slN sz H o d L) (by omega)).resolve_left h2
      exact Or.inr ⟨slN sz H o d L + m, by omega, by rw [em, n_add]⟩
  · rw [if_neg h1]; exact Or.inl rfl
theorem bsN_ok (h : okT nx) (hL : L ≤ 40) : ∀ n, bsN far sz H st nx d t L n = -1 ∨ ∃ m, m ≤ L ∧ bsN far sz H st nx d t L n = Int32.ofNat m
  | 0 => Or.inl rfl
  | n + 1 => by
    have ih := bsN_ok h hL n
    have hs := sbV_ok (far := far) (sz := sz) (H := H) (st := st) (d := d) (t := t) h hL n
    show (if _ ≤ _ then _ else _) = -1 ∨ ∃ m, m ≤ L ∧ (if _ ≤ _ then _ else _) = Int32.ofNat m
    by_cases c : sbV far sz H st nx d t L n ≤ bsN far sz H st nx d t L n
    · rw [if_pos c]; exact ih
    · rw [if_neg c]; exact hs
theorem bsN_at (h : okT nx) (hL : L ≤ 40) : ∀ n, ¬ bsN far sz H st nx d t L n = -1 → ∃ o, o < n ∧ sbV far sz H st nx d t L o = bsN far sz H st nx d t L n
  | 0, q => absurd rfl q
  | n + 1, q => by
    have e : bsN far sz H st nx d t L (n + 1) = if sbV far sz H st nx d t L n ≤ bsN far sz H st nx d t L n then bsN far sz H st nx d t L n else sbV far sz H st nx d t L n := rfl
    by_cases c : sbV far sz H st nx d t L n ≤ bsN far sz H st nx d t L n
    · rw [if_pos c] at e
      rw [e] at q ⊢
      obtain ⟨o, ho, eo⟩ := bsN_at h hL n q
      exact ⟨o, by omega, eo⟩
    · rw [if_neg c] at e
      exact ⟨n, by omega, e.symm⟩
end
section
variable {far sz H : Nat → Int32} {st : Int32} {home T w : Nat}
theorem tb_ok : ∀ k, okT (tb far sz H st home T w k)
  | 0 => fun t L hL => by
    show (if t = home then (0 : Int32) else -1) = -1 ∨ ∃ m, m ≤ L ∧ (if t = home then (0 : Int32) else -1) = Int32.ofNat m
    by_cases h : t = home
    · rw [if_pos h]; exact Or.inr ⟨0, by omega, rfl⟩
    · rw [if_neg h]; exact Or.inl rfl
  | k + 1 => fun t L hL => bsN_ok (tb_ok k) hL T
/-- a round: the towns R -/
def rdT (home : Nat) (R : Nat → Nat) : Nat → Nat
  | 0 => home
  | d + 1 => R d
def rdL (sz H : Nat → Int32) (pack : Nat) (R : Nat → Nat) : Nat → Nat
  | 0 => pack
  | d + 1 => rdL sz H pack R d - slN sz H (R d) d (rdL sz H pack R d)
theorem rdL_le {pack : Nat} {R : Nat → Nat} : ∀ d, rdL sz H pack R d ≤ pack
  | 0 => Nat.le_refl _
  | d + 1 => Nat.le_trans (Nat.sub_le _ _) (rdL_le d)
theorem rdL_mono {pack : Nat} {R : Nat → Nat} {d : Nat} : ∀ e, rdL sz H pack R (d + e) ≤ rdL sz H pack R d
  | 0 => Nat.le_refl _
  | e + 1 => Nat.le_trans (Nat.sub_le _ _) (rdL_mono e)
/-- the town of day d is the first that comes to what the table tells -/
def okR (far sz H : Nat → Int32) (st : Int32) (home T w pack : Nat) (R : Nat → Nat) (d : Nat) : Prop :=
  R d < T ∧ sbV far sz H st (tb far sz H st home T w (w - (d + 1))) d (rdT home R d) (rdL sz H pack R d) (R d) = tb far sz H st home T w (w - d) (rdT home R d) (rdL sz H pack R d) ∧
  ∀ o, o < R d → ¬ sbV far sz H st (tb far sz H st home T w (w - (d + 1))) d (rdT home R d) (rdL sz H pack R d) o = tb far sz H st home T w (w - d) (rdT home R d) (rdL sz H pack R d)
theorem tb_s {k t L : Nat} : tb far sz H st home T w (k + 1) t L = bsN far sz H st (tb far sz H st home T w k) (w - (k + 1)) t L T := rfl
theorem tb_d {d t L : Nat} (hd : d < w) : tb far sz H st home T w (w - d) t L = bsN far sz H st (tb far sz H st home T w (w - (d + 1))) d t L T := by
  rw [show w - d = (w - (d + 1)) + 1 by omega, tb_s, show w - (w - (d + 1) + 1) = d by omega]
/-- the table's worth is no none along the round -/
theorem rd_ne {pack : Nat} {R : Nat → Nat} (hp : pack ≤ 40) (h0 : ¬ tb far sz H st home T w w home pack = -1) : ∀ d, d ≤ w → (∀ e, e < d → okR far sz H st home T w pack R e) → ¬ tb far sz H st home T w (w - d) (rdT home R d) (rdL sz H pack R d) = -1
  | 0, _, _ => h0
  | d + 1, hd, hR => by
    have ih := rd_ne hp h0 d (by omega) (fun e he => hR e (by omega))
    obtain ⟨-, h2, -⟩ := hR d (by omega)
    rw [← h2] at ih
    intro q
    apply ih
    unfold sbV
    by_cases c : far (6 * rdT home R d + R d) ≤ st
    · rw [if_pos c]
      have q' : tb far sz H st home T w (w - (d + 1)) (R d) (rdL sz H pack R d - slN sz H (R d) d (rdL sz H pack R d)) = -1 := q
      rw [if_pos q']
    · rw [if_neg c]
/-- what is sold along the round -/
theorem rd_sum {pack : Nat} {R : Nat → Nat} (hp : pack ≤ 40) (h0 : ¬ tb far sz H st home T w w home pack = -1) (hR : ∀ e, e < w → okR far sz H st home T w pack R e) : ∀ j, j ≤ w → tb far sz H st home T w j (rdT home R (w - j)) (rdL sz H pack R (w - j)) = Int32.ofNat (rdL sz H pack R (w - j) - rdL sz H pack R w)
  | 0, _ => by
    have hne := rd_ne hp h0 w (Nat.le_refl _) hR
    rw [Nat.sub_self] at hne
    rw [Nat.sub_zero, Nat.sub_self]
    have e : tb far sz H st home T w 0 (rdT home R w) (rdL sz H pack R w) = if rdT home R w = home then 0 else -1 := rfl
    by_cases c : rdT home R w = home
    · rw [e, if_pos c]; rfl
    · rw [e, if_neg c] at hne
      exact absurd rfl hne
  | j + 1, hj => by
    have ih := rd_sum hp h0 hR j (by omega)
    have hlt : w - (j + 1) < w := by omega
    have hne := rd_ne hp h0 (w - (j + 1)) (by omega) (fun e he => hR e (by omega))
    obtain ⟨h1, h2, -⟩ := hR (w - (j + 1)) hlt
    have es : w - (j + 1) + 1 = w - j := by omega
    have e1 : w - (w - (j + 1) + 1) = j := by omega
    have e2 : w - (w - (j + 1)) = j + 1 := by omega
    generalize hD : w - (j + 1) = D at *
    rw [e1, e2] at h2
    rw [e2] at hne
    have hT : rdT home R (w - j) = R D := by rw [← es]; rfl
    have hL : rdL sz H pack R (w - j) = rdL sz H pack R D - slN sz H (R D) D (rdL sz H pack R D) := by rw [← es]; rfl
    rw [hT, hL] at ih
    rw [← h2] at hne ⊢
    have hw' : rdL sz H pack R w ≤ rdL sz H pack R (w - j) := by
      have := rdL_mono (sz := sz) (H := H) (pack := pack) (R := R) (d := w - j) j
      rw [show w - j + j = w by omega] at this
      exact this
    rw [hL] at hw'
    have hsl := slN_le (sz := sz) (H := H) (o := R D) (d := D) (L := rdL sz H pack R D)
    have hl := rdL_le (sz := sz) (H := H) (pack := pack) (R := R) D
    unfold sbV at hne ⊢
    by_cases c : far (6 * rdT home R D + R D) ≤ st
    · rw [if_pos c] at hne ⊢
      rw [ih, if_neg (ne_m1 (by omega)), n_add]
      congr 1
      omega
    · rw [if_neg c] at hne
      exact absurd rfl hne
end
/-- home is always in reach of home -/
theorem tb_home {far sz H : Nat → Int32} {st : Int32} {home T w : Nat} (hh : home < T) (h0 : far (6 * home + home) ≤ st) : ∀ k L, L ≤ 40 → ¬ tb far sz H st home T w k home L = -1
  | 0, L, hL => by
    show ¬ (if home = home then (0 : Int32) else -1) = -1
    rw [if_pos rfl]
    decide
  | k + 1, L, hL => by
    have hsl := slN_le (sz := sz) (H := H) (o := home) (d := w - (k + 1)) (L := L)
    have ih := tb_home (sz := sz) (H := H) (w := w) hh h0 k (L - slN sz H home (w - (k + 1)) L) (by omega)
    obtain ⟨m, hm, em⟩ := (tb_ok (far := far) (sz := sz) (H := H) (st := st) (home := home) (T := T) (w := w) k home (L - slN sz H home (w - (k + 1)) L) (by omega)).resolve_left ih
    have es : sbV far sz H st (tb far sz H st home T w k) (w - (k + 1)) home L home = Int32.ofNat (slN sz H home (w - (k + 1)) L + m) := by
      unfold sbV
      rw [if_pos h0, if_neg ih, em, n_add]
    have key : ∀ n, home < n → ¬ bsN far sz H st (tb far sz H st home T w k) (w - (k + 1)) home L n = -1 := by
      intro n
      induction n with
      | zero => intro q; omega
      | succ n ihn =>
        intro q
        show ¬ (if _ ≤ _ then _ else _) = (-1 : Int32)
        by_cases c : sbV far sz H st (tb far sz H st home T w k) (w - (k + 1)) home L n ≤ bsN far sz H st (tb far sz H st home T w k) (w - (k + 1)) home L n
        · rw [if_pos c]
          by_cases e : home = n
          · subst e
            rw [es] at c
            intro z
            rw [z] at c
            exact le_m1 (by omega) c
          · exact ihn (by omega)
        · rw [if_neg c]
          by_cases e : home = n
          · subst e
            rw [es]
            exact ne_m1 (by omega)
          · intro z
            apply ihn (by omega)
            rw [z] at c
            rcases bsN_ok (far := far) (sz := sz) (H := H) (st := st) (nx := tb far sz H st home T w k) (d := w - (k + 1)) (t := home) (L := L) (tb_ok k) hL n with y | ⟨m', hm', em'⟩
            · exact y
            · rw [em'] at c
              exact absurd (m1_le (by omega)) c
    exact key T hh
