/-! PLAIN LAYER: the relation between the class's numbers (F) and the reference's state (g); what holds of g -/
set_option maxRecDepth 100000
def nn (x : Int32) : Nat := x.toNatClampNeg
theorem nn_of {n : Nat} (h : n < 2147483648) : nn (Int32.ofNat n) = n := n_clamp h
def bN (x : Int32) (m : Nat) : Prop := ∃ n : Nat, n ≤ m ∧ x = Int32.ofNat n
def rEq (n : Nat) (F G : Nat → Int32) : Prop := ∀ i, i < n → F i = G i
def rIn (n : Nat) (F : Nat → Int32) (lo hi : Int) : Prop := ∀ i, i < n → lo ≤ (F i).toInt ∧ (F i).toInt ≤ hi
def farR (T : Nat) (F road : Nat → Int32) : Prop := fE T F (farF T road (fun _ => 0))
def tapeR (n : Nat) (F G : Nat → Int32) : Prop := ∀ i, i < n → (F i &&& 255) = G i
def foundR (x24 x25 : Int32) (F : Nat → Int32) (y20 y21 : Int32) (G : Nat → Int32) : Prop := x24 = y20 ∧ (y20 = 1 → x25 = y21 ∧ rEq (nn y21) F G)
def shR (F60 F70 : Nat → Int32) (s : Nat) (g36 g37 g38 : Nat → Int32) : Prop := F60 0 = g36 s ∧ F60 1 = g37 s ∧ ∀ i, i < 40 → F70 i = g38 (40 * s + i)
def byR (F : Nat → Int32) : Prop := ∀ i, i < 6 → fits .byte (.int (F i)) = true
def imgR (x34 x35 x36 x37 : Int32) (F30 F31 F32 F33 F8 F9 : Nat → Int32) (y25 y26 y27 y28 y29 : Int32) (g30 g31 g32 g33 g34 g35 : Nat → Int32) : Prop :=
  (y25 = 0 ∧ x34 = -1) ∨ (y25 = 1 ∧ x34 = y26 ∧ x35 = y27 ∧ x36 = y28 ∧ x37 = y29 ∧ rEq 6 F30 g30 ∧ rEq 6 F31 g31 ∧ rEq 6 F32 g32 ∧ rEq 36 F33 g33 ∧ rEq (nn y28) F8 g34 ∧ rEq (nn y28) F9 g35)
def RI (F g : St) : Prop :=
  (F 99 6 = g 99 0 ∧ F 99 7 = g 99 6 ∧ F 99 10 = g 99 7 ∧ F 99 13 = g 99 15 ∧ F 99 39 = g 99 14 ∧ F 99 41 = g 99 11) ∧
  (rEq 6 (F 0) (g 1) ∧ rEq 6 (F 1) (g 2) ∧ rEq 6 (F 2) (g 3) ∧ rEq 6 (F 3) (g 4) ∧ rEq 36 (F 4) (g 5)) ∧
  (rEq (nn (g 99 7)) (F 8) (g 8) ∧ rEq (nn (g 99 7)) (F 9) (g 9)) ∧
  farR (nn (g 99 0)) (F 5) (g 5) ∧ tapeR (nn (g 99 11)) (F 40) (g 10) ∧
  foundR (F 99 24) (F 99 25) (F 26) (g 99 20) (g 99 21) (g 22) ∧
  (F 99 28 = g 99 23 ∧ rEq (nn (g 99 23)) (F 29) (g 24)) ∧
  imgR (F 99 34) (F 99 35) (F 99 36) (F 99 37) (F 30) (F 31) (F 32) (F 33) (F 8) (F 9) (g 99 25) (g 99 26) (g 99 27) (g 99 28) (g 99 29) (g 30) (g 31) (g 32) (g 33) (g 34) (g 35) ∧
  (shR (F 60) (F 70) 0 (g 36) (g 37) (g 38) ∧ shR (F 61) (F 71) 1 (g 36) (g 37) (g 38) ∧ shR (F 62) (F 72) 2 (g 36) (g 37) (g 38) ∧ shR (F 63) (F 73) 3 (g 36) (g 37) (g 38)) ∧
  (byR (F 19) ∧ byR (F 20) ∧ byR (F 26))
/-- roads: hours of 0 to 50, none of towns that aren't there -/
def roadI (T : Nat) (R : Nat → Int32) : Prop := rIn 36 R 0 50 ∧ ∀ a b, a < 6 → b < 6 → T ≤ a ∨ T ≤ b → R (6 * a + b) = 0
def imgI (y25 y26 y27 y28 y29 : Int32) (g30 g31 g32 g33 g34 g35 : Nat → Int32) (T F X : Nat) : Prop :=
  y25 = 0 ∨ (y25 = 1 ∧ (∃ n, n ≤ T ∧ y26 = Int32.ofNat n) ∧ (∃ w, 2 ≤ w ∧ w ≤ 7 ∧ y27 = Int32.ofNat w) ∧ (∃ n, n ≤ F ∧ y28 = Int32.ofNat n) ∧ (∃ n, n < X ∧ y29 = Int32.ofNat n) ∧ rIn 6 g30 0 127 ∧ rIn 6 g31 (-1) 6 ∧ rIn 6 g32 (-1) 5 ∧ roadI (nn y26) g33 ∧ rIn (nn y28) g34 0 99 ∧ rIn (nn y28) g35 0 6)
def MI (g : St) : Prop :=
  (bN (g 99 0) 6 ∧ (∃ w, 2 ≤ w ∧ w ≤ 7 ∧ g 99 6 = Int32.ofNat w) ∧ bN (g 99 7) 10 ∧ bN (g 99 11) 160 ∧ (∃ n, 1 ≤ n ∧ n ≤ 6 ∧ g 99 14 = Int32.ofNat n) ∧ (∃ n, n < nn (g 99 14) ∧ g 99 15 = Int32.ofNat n) ∧ bN (g 99 16) 12 ∧ bN (g 99 23) 7) ∧
  (rIn 6 (g 1) 0 99 ∧ rIn 6 (g 2) 0 127 ∧ rIn 6 (g 3) (-1) 6 ∧ rIn 6 (g 4) (-1) 5 ∧ roadI (nn (g 99 0)) (g 5)) ∧
  (rIn (nn (g 99 7)) (g 8) 0 99 ∧ rIn (nn (g 99 7)) (g 9) 0 6) ∧ rIn (nn (g 99 11)) (g 10) 0 255 ∧
  ((g 99 20 = 0 ∨ g 99 20 = 1) ∧ bN (g 99 21) 6 ∧ rIn 6 (g 22) 0 6) ∧ rIn 7 (g 24) 0 5 ∧
  imgI (g 99 25) (g 99 26) (g 99 27) (g 99 28) (g 99 29) (g 30) (g 31) (g 32) (g 33) (g 34) (g 35) (nn (g 99 0)) (nn (g 99 7)) (nn (g 99 14)) ∧
  (rIn 4 (g 36) (-1) 2 ∧ rIn 4 (g 37) 0 40)
/-- an operation that leaves givings and texts alone -/
def sameG (g g' : St) : Prop := g' 12 = g 12 ∧ g' 13 = g 13 ∧ g' 17 = g 17 ∧ g' 18 = g 18 ∧ g' 19 = g 19 ∧ g' 99 14 = g 99 14 ∧ g' 99 16 = g 99 16
def OK1 (S : XS) (g : St) (S' : XS) (g' : St) : Prop := RI S'.1 g' ∧ MI g' ∧ S'.2 = S.2 ∧ sameG g g'
theorem OK1.rf {S : XS} {g : St} (h : RI S.1 g) (h2 : MI g) : OK1 S g S g := ⟨h, h2, rfl, rfl, rfl, rfl, rfl, rfl, rfl, rfl⟩
/-! in, of both -/
theorem pX7_in {f : St} {x a b : Int32} {Q : Int32 → St → Prop} (h : Q (if a.toInt ≤ x.toInt ∧ x.toInt ≤ b.toInt then 1 else 0) f) : wX7_in f x a b Q := by
  unfold wX7_in
  by_cases h1 : x < a
  · have h1' := i_lt.mp h1
    rw [if_neg (by omega)] at h
    exact ⟨fun _ => h, fun q => absurd h1 q⟩
  · have h1' : ¬ x.toInt < a.toInt := fun q => h1 (i_lt.mpr q)
    refine ⟨fun q => absurd q h1, fun _ => ?_⟩
    by_cases h2 : b < x
    · have h2' := i_lt.mp h2
      rw [if_neg (by omega)] at h
      exact ⟨fun _ => h, fun q => absurd h2 q⟩
    · have h2' : ¬ b.toInt < x.toInt := fun q => h2 (i_lt.mpr q)
      rw [if_pos (by omega)] at h
      exact ⟨fun q => absurd q h2, fun _ => h⟩
theorem lg_lt {x y : Int64} : lg_cmp x y < 0 ↔ x.toInt < y.toInt := by
  unfold lg_cmp
  have hl : ∀ a b : Int64, a < b ↔ a.toInt < b.toInt := fun a b => Int64.lt_iff_toInt_lt
  by_cases h1 : x > y
  · rw [if_pos h1]
    have := (hl y x).mp h1
    exact ⟨fun q => absurd q (by decide), fun q => by omega⟩
  · rw [if_neg h1]
    have h1' : ¬ y.toInt < x.toInt := fun q => h1 ((hl y x).mpr q)
    by_cases h2 : x = y
    · rw [if_pos h2, h2]
      exact ⟨fun q => absurd q (by decide), fun q => by omega⟩
    · rw [if_neg h2]
      have : x.toInt ≠ y.toInt := fun q => h2 (Int64.toInt_inj.mp q)
      exact ⟨fun _ => by omega, fun _ => by decide⟩
theorem lg_gt {x y : Int64} : 0 < lg_cmp x y ↔ y.toInt < x.toInt := by
  unfold lg_cmp
  have hl : ∀ a b : Int64, a < b ↔ a.toInt < b.toInt := fun a b => Int64.lt_iff_toInt_lt
  by_cases h1 : x > y
  · rw [if_pos h1]
    have := (hl y x).mp h1
    exact ⟨fun q => by omega, fun q => by decide⟩
  · rw [if_neg h1]
    have h1' : ¬ y.toInt < x.toInt := fun q => h1 ((hl y x).mpr q)
    by_cases h2 : x = y
    · rw [if_pos h2]
      exact ⟨fun q => absurd q (by decide), fun q => by omega⟩
    · rw [if_neg h2]
      exact ⟨fun q => absurd q (by decide), fun q => by omega⟩
theorem pX0_in {x a b : Int64} {Q : Int32 → Prop} (h : Q (if a.toInt ≤ x.toInt ∧ x.toInt ≤ b.toInt then 1 else 0)) : wX0_in x a b Q := by
  unfold wX0_in
  by_cases h1 : x.toInt < a.toInt
  · rw [if_neg (by omega)] at h
    exact ⟨fun _ => h, fun q => absurd (lg_lt.mpr h1) q⟩
  · refine ⟨fun q => absurd (lg_lt.mp q) h1, fun _ => ?_⟩
    by_cases h2 : b.toInt < x.toInt
    · rw [if_neg (by omega)] at h
      exact ⟨fun _ => h, fun q => absurd (lg_gt.mpr h2) q⟩
    · rw [if_pos (by omega)] at h
      exact ⟨fun q => absurd (lg_gt.mp q) h2, fun _ => h⟩
theorem l_of {x : Int32} : (Int32.toInt64 x).toInt = x.toInt := Int32.toInt_toInt64 x
theorem z1n : ¬ (1 : Int32) = 0 := by decide
theorem i_dec {n : Nat} (h : n < 2147483648) : (Int32.ofNat n - 1).toInt = (n : Int) - 1 := by
  have e : (1 : Int32).toInt = 1 := by decide
  rw [i_sub (by rw [n_toInt h, e]; omega) (by rw [n_toInt h, e]; omega), n_toInt h, e]
/-- x is one of 0 .. n-1, or not -/
def isN (x : Int32) (n : Nat) : Prop := ∃ k, k < n ∧ x = Int32.ofNat k
theorem isN_of {x : Int32} {n : Nat} (hn : n < 2147483648) : (0 ≤ x.toInt ∧ x.toInt ≤ (n : Int) - 1) ↔ isN x n := by
  constructor
  · rintro ⟨h1, h2⟩
    have h0 : ¬ x < 0 := fun q => by have := i_lt.mp q; rw [show (0 : Int32).toInt = 0 by decide] at this; omega
    obtain ⟨k, hk, rfl⟩ := n_of h0
    rw [n_toInt hk] at h2
    exact ⟨k, by omega, rfl⟩
  · rintro ⟨k, hk, rfl⟩
    rw [n_toInt (by omega)]
    omega
theorem pX7_isTown_y {g : St} {Q : Int32 → St → Prop} {T k : Nat} (hT : g 99 0 = Int32.ofNat T) (hT6 : T ≤ 6) (hk : k < T) (h : Q 1 g) : wX7_isTown g (Int32.ofNat k) Q := by
  unfold wX7_isTown
  refine pX7_in ?_
  rw [hT, i_dec (by omega), show (0 : Int32).toInt = 0 by decide, if_pos ((isN_of (by omega)).mpr ⟨k, hk, rfl⟩)]
  exact ⟨vz1, h⟩
theorem pX7_isTown_n {g : St} {Q : Int32 → St → Prop} {T : Nat} {x : Int32} (hT : g 99 0 = Int32.ofNat T) (hT6 : T ≤ 6) (hk : ¬ isN x T) (h : Q 0 g) : wX7_isTown g x Q := by
  unfold wX7_isTown
  refine pX7_in ?_
  rw [hT, i_dec (by omega), show (0 : Int32).toInt = 0 by decide, if_neg (fun q => hk ((isN_of (by omega)).mp q))]
  exact ⟨vz0, h⟩
section
variable {b o : Nat} {cs ad : Nat → Nat} {vs : Nat → Option Nat} {S : XS}
theorem pX0_isTown_y {Q : Int32 → XS → Prop} {T k : Nat} (hT : S.1 99 6 = Int32.ofNat T) (hT6 : T ≤ 6) (hk : k < T) (h : Q 1 S) : wX0_isTown b cs ad vs o S (Int32.ofNat k) Q := by
  unfold wX0_isTown
  refine pX0_in ?_
  rw [l_of, l_of, hT, i_dec (by omega), show (0 : Int64).toInt = 0 by decide, if_pos ((isN_of (by omega)).mpr ⟨k, hk, rfl⟩)]
  exact ⟨vz1, h⟩
theorem pX0_isTown_n {Q : Int32 → XS → Prop} {T : Nat} {x : Int32} (hT : S.1 99 6 = Int32.ofNat T) (hT6 : T ≤ 6) (hk : ¬ isN x T) (h : Q 0 S) : wX0_isTown b cs ad vs o S x Q := by
  unfold wX0_isTown
  refine pX0_in ?_
  rw [l_of, l_of, hT, i_dec (by omega), show (0 : Int64).toInt = 0 by decide, if_neg (fun q => hk ((isN_of (by omega)).mp q))]
  exact ⟨vz0, h⟩
end
