/-! PLAIN LAYER: bits of days -/
set_option maxRecDepth 100000
/-- days (bits) of a week of w days -/
def hd (w : Nat) (x : Int32) : Prop := ∃ h : Nat, h < 2 ^ w ∧ x = Int32.ofNat h
theorem hd_lt {w h : Nat} (hw : w ≤ 7) (hh : h < 2 ^ w) : h < 128 := Nat.lt_of_lt_of_le hh (Nat.pow_le_pow_right (by decide) hw : 2 ^ w ≤ 2 ^ 7)
theorem bit_tab : ∀ a, a < 128 → ∀ k, k < 7 → (((i_shr (Int32.ofNat a) (Int32.ofNat k)) &&& 1 = 1) ↔ a.testBit k = true) := by decide +kernel
theorem and_tab : ∀ a, a < 128 → ∀ n, n < 128 → Int32.ofNat a &&& Int32.ofNat n = Int32.ofNat (a &&& n) := by decide +kernel
def ndN (w h : Nat) : Nat := ((h <<< 1) % 2 ^ w) ||| (((h <<< 1) >>> w) % 2)
def ndI (W x : Int32) : Int32 := (i_shl x 1 &&& (i_shl 1 W - 1)) ||| (i_shr (i_shl x 1) W &&& 1)
def ndC (w h : Nat) : Bool := decide (ndI (Int32.ofNat w) (Int32.ofNat h) = Int32.ofNat (ndN w h)) && decide (ndN w h < 2 ^ w) && (List.range 7).all (fun d => !decide (d < w) || (ndN w h).testBit d == h.testBit ((d + w - 1) % w))
theorem nd_all : (List.range 8).all (fun w => (List.range 128).all (fun h => !decide (2 ≤ w) || !decide (h < 2 ^ w) || ndC w h)) = true := by decide +kernel
theorem nd_tab (w : Nat) (hw8 : w < 8) (hw2 : 2 ≤ w) (h : Nat) (h128 : h < 128) (hh : h < 2 ^ w) : ndI (Int32.ofNat w) (Int32.ofNat h) = Int32.ofNat (ndN w h) ∧ ndN w h < 2 ^ w ∧ ∀ d, d < 7 → d < w → (ndN w h).testBit d = h.testBit ((d + w - 1) % w) := by
  have h1 := List.all_eq_true.mp (List.all_eq_true.mp nd_all w (List.mem_range.mpr hw8)) h (List.mem_range.mpr h128)
  rw [decide_eq_true hw2, decide_eq_true hh] at h1
  have h2 : ndC w h = true := h1
  unfold ndC at h2
  rw [Bool.and_eq_true, Bool.and_eq_true, decide_eq_true_iff, decide_eq_true_iff] at h2
  refine ⟨h2.1.1, h2.1.2, fun d hd7 hdw => ?_⟩
  have h3 := List.all_eq_true.mp h2.2 d (List.mem_range.mpr hd7)
  rw [decide_eq_true hdw] at h3
  simpa using h3
theorem and_zero {w a n : Nat} (ha : a < 2 ^ w) : (a &&& n = 0) ↔ ∀ k, k < w → ¬ (a.testBit k = true ∧ n.testBit k = true) := by
  constructor
  · intro h k _ q
    have := congrArg (fun z => Nat.testBit z k) h
    simp [q.1, q.2] at this
  · intro h
    apply Nat.eq_of_testBit_eq
    intro k
    rw [Nat.testBit_and, Nat.zero_testBit]
    by_cases hk : k < w
    · have := h k hk
      by_cases h1 : a.testBit k = true
      · by_cases h2 : n.testBit k = true
        · exact absurd ⟨h1, h2⟩ this
        · simp [h2]
      · simp [h1]
    · have : a.testBit k = false := Nat.testBit_lt_two_pow (Nat.lt_of_lt_of_le ha (Nat.pow_le_pow_right (by decide) (by omega)))
      rw [this, Bool.false_and]
theorem fol_iff {w a c k : Nat} (hw2 : 2 ≤ w) (hw7 : w ≤ 7) (ha : a < 2 ^ w) (hc : c < 2 ^ w) (hk : k < w) : fol (Int32.ofNat w) (Int32.ofNat a) (Int32.ofNat c) k = true ↔ (a.testBit k = true ∧ c.testBit ((k + w - 1) % w) = true) := by
  unfold fol
  have e : Int32.ofNat k + Int32.ofNat w - 1 = Int32.ofNat (k + w - 1) := by
    rw [n_add]
    exact n_sub (a := k + w) (b := 1) (by omega)
  have hm : (k + w - 1) % w < w := Nat.mod_lt _ (by omega)
  rw [e, n_rem (by omega) (by omega), Bool.and_eq_true, decide_eq_true_iff, decide_eq_true_iff, bit_tab a (hd_lt hw7 ha) k (by omega), bit_tab c (hd_lt hw7 hc) _ (by omega)]
theorem folN_iff {w a c : Nat} (hw2 : 2 ≤ w) (hw7 : w ≤ 7) (ha : a < 2 ^ w) (hc : c < 2 ^ w) : ∀ n, n ≤ w → (folN (Int32.ofNat w) (Int32.ofNat a) (Int32.ofNat c) n = false ↔ ∀ k, k < n → ¬ (a.testBit k = true ∧ c.testBit ((k + w - 1) % w) = true))
  | 0, _ => by simp [folN]
  | n + 1, hn => by
    have ih := folN_iff hw2 hw7 ha hc n (by omega)
    have hf := fol_iff (k := n) hw2 hw7 ha hc (by omega)
    show (folN _ _ _ n || fol _ _ _ n) = false ↔ _
    rw [Bool.or_eq_false_iff, ih]
    constructor
    · rintro ⟨h1, h2⟩ k hk
      by_cases q : k = n
      · subst q
        intro z
        rw [hf.mpr z] at h2
        exact absurd h2 (by decide)
      · exact h1 k (by omega)
    · intro h
      refine ⟨fun k hk => h k (by omega), ?_⟩
      by_cases q : fol (Int32.ofNat w) (Int32.ofNat a) (Int32.ofNat c) n = true
      · exact absurd (hf.mp q) (h n (by omega))
      · simpa using q
/-- a town's days follow another's: both ways to say it agree -/
theorem next_fol {w : Nat} {A B : Int32} (hw2 : 2 ≤ w) (hw7 : w ≤ 7) (hA : hd w A) (hB : hd w B) : (A &&& ndI (Int32.ofNat w) B = 0) ↔ folN (Int32.ofNat w) A B w = false := by
  obtain ⟨a, ha, rfl⟩ := hA
  obtain ⟨c, hc, rfl⟩ := hB
  obtain ⟨e1, e2, e3⟩ := nd_tab w (by omega) hw2 c (hd_lt hw7 hc) hc
  rw [e1, and_tab a (hd_lt hw7 ha) _ (hd_lt hw7 e2), folN_iff hw2 hw7 ha hc w (Nat.le_refl _)]
  have hz : (Int32.ofNat (a &&& ndN w c) = 0) ↔ (a &&& ndN w c = 0) := n_eqI (b := 0) (Nat.lt_of_le_of_lt Nat.and_le_left (by have := hd_lt hw7 ha; omega)) (by decide)
  rw [hz, and_zero ha]
  constructor
  · intro h k hk q
    exact h k hk ⟨q.1, by rw [e3 k (by omega) hk]; exact q.2⟩
  · intro h k hk q
    exact h k hk ⟨q.1, by rw [← e3 k (by omega) hk]; exact q.2⟩
/-! what bars: one function of both -/
def barA (may beh : Nat → Int32) (W : Int32) (w : Nat) (near : Nat → Nat → Int32) (H : Nat → Int32) (a c : Nat) : Int32 :=
  if a = c then (if H a &&& (may a ^^^ (-1)) = 0 then 0 else 1)
  else if ¬ (H a &&& H c = 0) ∧ ¬ near a c = 0 then 1
  else if (¬ H a = 0 ∧ ¬ H c = 0) ∧ ((beh a = Int32.ofNat c ∧ folN W (H a) (H c) w = false) ∨ (beh c = Int32.ofNat a ∧ folN W (H c) (H a) w = false)) then 1 else 0
theorem barA_01 {may beh : Nat → Int32} {W : Int32} {w : Nat} {near : Nat → Nat → Int32} {H : Nat → Int32} {a c : Nat} : barA may beh W w near H a c = 0 ∨ barA may beh W w near H a c = 1 := by
  unfold barA
  by_cases h1 : a = c
  · rw [if_pos h1]
    by_cases h2 : H a &&& (may a ^^^ (-1)) = 0
    · rw [if_pos h2]; exact Or.inl rfl
    · rw [if_neg h2]; exact Or.inr rfl
  · rw [if_neg h1]
    by_cases h2 : ¬ (H a &&& H c = 0) ∧ ¬ near a c = 0
    · rw [if_pos h2]; exact Or.inr rfl
    · rw [if_neg h2]
      by_cases h3 : (¬ H a = 0 ∧ ¬ H c = 0) ∧ ((beh a = Int32.ofNat c ∧ folN W (H a) (H c) w = false) ∨ (beh c = Int32.ofNat a ∧ folN W (H c) (H a) w = false))
      · rw [if_pos h3]; exact Or.inr rfl
      · rw [if_neg h3]; exact Or.inl rfl
theorem barV_A {g : St} {w a c : Nat} : barV g w a c = barA (g 2) (g 4) (g 99 6) w (fun a c => g 51 (6 * a + c)) (g 52) a c := rfl
/-- only what is asked of rows and of near counts -/
theorem barA_congr {may may' beh beh' : Nat → Int32} {W : Int32} {w : Nat} {near near' : Nat → Nat → Int32} {H H' : Nat → Int32} {a c : Nat} (h1 : may a = may' a) (h2 : beh a = beh' a) (h3 : beh c = beh' c) (h4 : a ≠ c → (near a c = 0 ↔ near' a c = 0)) (h5 : H a = H' a) (h6 : H c = H' c) : barA may beh W w near H a c = barA may' beh' W w near' H' a c := by
  unfold barA
  rw [h1, h2, h3, h5, h6]
  by_cases q : a = c
  · rw [if_pos q, if_pos q]
  · rw [if_neg q, if_neg q]
    have e : (¬ (H' a &&& H' c = 0) ∧ ¬ near a c = 0) ↔ (¬ (H' a &&& H' c = 0) ∧ ¬ near' a c = 0) := by rw [h4 q]
    simp only [e]
/-- both ways round -/
theorem barA_comm {may beh : Nat → Int32} {W : Int32} {w : Nat} {near : Nat → Nat → Int32} {H : Nat → Int32} {a c : Nat} (hn : near a c = 0 ↔ near c a = 0) : barA may beh W w near H a c = barA may beh W w near H c a := by
  by_cases q : a = c
  · subst q; rfl
  · unfold barA
    rw [if_neg q, if_neg (show ¬ c = a from fun z => q z.symm), Int32.and_comm (H a) (H c)]
    have e1 : (¬ (H c &&& H a = 0) ∧ ¬ near a c = 0) ↔ (¬ (H c &&& H a = 0) ∧ ¬ near c a = 0) := by rw [hn]
    have e2 : ((¬ H a = 0 ∧ ¬ H c = 0) ∧ ((beh a = Int32.ofNat c ∧ folN W (H a) (H c) w = false) ∨ (beh c = Int32.ofNat a ∧ folN W (H c) (H a) w = false))) ↔ ((¬ H c = 0 ∧ ¬ H a = 0) ∧ ((beh c = Int32.ofNat a ∧ folN W (H c) (H a) w = false) ∨ (beh a = Int32.ofNat c ∧ folN W (H a) (H c) w = false))) := ⟨fun z => ⟨⟨z.1.2, z.1.1⟩, z.2.symm⟩, fun z => ⟨⟨z.1.2, z.1.1⟩, z.2.symm⟩⟩
    simp only [e1, e2]
