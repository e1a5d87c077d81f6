/-! rules of the loops (by program) -/
set_option maxRecDepth 100000
theorem ijX0_ways_12_1 {b : Nat} {cs : Nat → ClassId} {ad : Nat → Nat} {vs : Nat → Option Nat} {o : Nat} {K76 : Int32 → XS → Prop} {Q : XS → Prop} (N k0 : Nat) (hN : N < 2147483648) (h0 : k0 ≤ N) (P : Nat → Int32 → XS → Prop) (step : ∀ (K12 : Int32 → Int32 → XS → Prop) (k : Nat) (x2 : Int32) (f : XS), k0 ≤ k → k ≤ N → P k x2 f → (∀ (y2 : Int32) (f' : XS), k < N → P (k + 1) y2 f' → K12 (Int32.ofNat (k + 1)) y2 f') → wbX0_ways_12 b cs ad vs o K12 K76 Q (Int32.ofNat k) x2 f) (x2 : Int32) (f : XS) (hP : P k0 x2 f) : ∃ n : Nat, wlX0_ways_12 b cs ad vs o K76 Q n (Int32.ofNat k0) x2 f := by
  refine ilX0_ways_12 (fun x1 x2 f => ∃ k, k0 ≤ k ∧ k ≤ N ∧ x1 = Int32.ofNat k ∧ P k x2 f) (fun x1 x2 _ => N - x1.toNatClampNeg) ?_ _ _ _ ⟨k0, Nat.le_refl _, h0, rfl, hP⟩
  intro K x1 x2 f hI hK
  obtain ⟨k, h1, h2, rfl, h3⟩ := hI
  refine step K k x2 f h1 h2 h3 (fun y2 f' h4 h5 => hK _ _ _ ⟨k + 1, by omega, by omega, rfl, h5⟩ ?_)
  show N - (Int32.ofNat (k + 1)).toNatClampNeg < N - (Int32.ofNat k).toNatClampNeg
  rw [n_clamp (by omega), n_clamp (by omega)]
  omega
theorem ijX0_ways_12_2 {b : Nat} {cs : Nat → ClassId} {ad : Nat → Nat} {vs : Nat → Option Nat} {o : Nat} {K76 : Int32 → XS → Prop} {Q : XS → Prop} (N k0 : Nat) (hN : N < 2147483648) (h0 : k0 ≤ N) (P : Nat → Int32 → XS → Prop) (step : ∀ (K12 : Int32 → Int32 → XS → Prop) (k : Nat) (x1 : Int32) (f : XS), k0 ≤ k → k ≤ N → P k x1 f → (∀ (y1 : Int32) (f' : XS), k < N → P (k + 1) y1 f' → K12 y1 (Int32.ofNat (k + 1)) f') → wbX0_ways_12 b cs ad vs o K12 K76 Q x1 (Int32.ofNat k) f) (x1 : Int32) (f : XS) (hP : P k0 x1 f) : ∃ n : Nat, wlX0_ways_12 b cs ad vs o K76 Q n x1 (Int32.ofNat k0) f := by
  refine ilX0_ways_12 (fun x1 x2 f => ∃ k, k0 ≤ k ∧ k ≤ N ∧ x2 = Int32.ofNat k ∧ P k x1 f) (fun x1 x2 _ => N - x2.toNatClampNeg) ?_ _ _ _ ⟨k0, Nat.le_refl _, h0, rfl, hP⟩
  intro K x1 x2 f hI hK
  obtain ⟨k, h1, h2, rfl, h3⟩ := hI
  refine step K k x1 f h1 h2 h3 (fun y1 f' h4 h5 => hK _ _ _ ⟨k + 1, by omega, by omega, rfl, h5⟩ ?_)
  show N - (Int32.ofNat (k + 1)).toNatClampNeg < N - (Int32.ofNat k).toNatClampNeg
  rw [n_clamp (by omega), n_clamp (by omega)]
  omega
theorem ijX0_ways_2_1 {b : Nat} {cs : Nat → ClassId} {ad : Nat → Nat} {vs : Nat → Option Nat} {o : Nat} {K82 : XS → Prop} {Q : XS → Prop} (N k0 : Nat) (hN : N < 2147483648) (h0 : k0 ≤ N) (P : Nat → XS → Prop) (step : ∀ (K2 : Int32 → XS → Prop) (k : Nat)  (f : XS), k0 ≤ k → k ≤ N → P k  f → (∀  (f' : XS), k < N → P (k + 1)  f' → K2 (Int32.ofNat (k + 1)) f') → wbX0_ways_2 b cs ad vs o K2 K82 Q (Int32.ofNat k) f)  (f : XS) (hP : P k0  f) : ∃ n : Nat, wlX0_ways_2 b cs ad vs o K82 Q n (Int32.ofNat k0) f := by
  refine ilX0_ways_2 (fun x1 f => ∃ k, k0 ≤ k ∧ k ≤ N ∧ x1 = Int32.ofNat k ∧ P k  f) (fun x1 _ => N - x1.toNatClampNeg) ?_ _ _ ⟨k0, Nat.le_refl _, h0, rfl, hP⟩
  intro K x1 f hI hK
  obtain ⟨k, h1, h2, rfl, h3⟩ := hI
  refine step K k  f h1 h2 h3 (fun  f' h4 h5 => hK _ _ ⟨k + 1, by omega, by omega, rfl, h5⟩ ?_)
  show N - (Int32.ofNat (k + 1)).toNatClampNeg < N - (Int32.ofNat k).toNatClampNeg
  rw [n_clamp (by omega), n_clamp (by omega)]
  omega
theorem ijX0_ways_104_1 {b : Nat} {cs : Nat → ClassId} {ad : Nat → Nat} {vs : Nat → Option Nat} {o : Nat} {K171 : Int32 → Int32 → XS → Prop} {Q : XS → Prop} (N k0 : Nat) (hN : N < 2147483648) (h0 : k0 ≤ N) (P : Nat → Int32 → Int32 → XS → Prop) (step : ∀ (K104 : Int32 → Int32 → Int32 → XS → Prop) (k : Nat) (x2 : Int32) (x3 : Int32) (f : XS), k0 ≤ k → k ≤ N → P k x2 x3 f → (∀ (y2 : Int32) (y3 : Int32) (f' : XS), k < N → P (k + 1) y2 y3 f' → K104 (Int32.ofNat (k + 1)) y2 y3 f') → wbX0_ways_104 b cs ad vs o K104 K171 Q (Int32.ofNat k) x2 x3 f) (x2 : Int32) (x3 : Int32) (f : XS) (hP : P k0 x2 x3 f) : ∃ n : Nat, wlX0_ways_104 b cs ad vs o K171 Q n (Int32.ofNat k0) x2 x3 f := by
  refine ilX0_ways_104 (fun x1 x2 x3 f => ∃ k, k0 ≤ k ∧ k ≤ N ∧ x1 = Int32.ofNat k ∧ P k x2 x3 f) (fun x1 x2 x3 _ => N - x1.toNatClampNeg) ?_ _ _ _ _ ⟨k0, Nat.le_refl _, h0, rfl, hP⟩
  intro K x1 x2 x3 f hI hK
  obtain ⟨k, h1, h2, rfl, h3⟩ := hI
  refine step K k x2 x3 f h1 h2 h3 (fun y2 y3 f' h4 h5 => hK _ _ _ _ ⟨k + 1, by omega, by omega, rfl, h5⟩ ?_)
  show N - (Int32.ofNat (k + 1)).toNatClampNeg < N - (Int32.ofNat k).toNatClampNeg
  rw [n_clamp (by omega), n_clamp (by omega)]
  omega
theorem ijX0_ways_104_2 {b : Nat} {cs : Nat → ClassId} {ad : Nat → Nat} {vs : Nat → Option Nat} {o : Nat} {K171 : Int32 → Int32 → XS → Prop} {Q : XS → Prop} (N k0 : Nat) (hN : N < 2147483648) (h0 : k0 ≤ N) (P : Nat → Int32 → Int32 → XS → Prop) (step : ∀ (K104 : Int32 → Int32 → Int32 → XS → Prop) (k : Nat) (x1 : Int32) (x3 : Int32) (f : XS), k0 ≤ k → k ≤ N → P k x1 x3 f → (∀ (y1 : Int32) (y3 : Int32) (f' : XS), k < N → P (k + 1) y1 y3 f' → K104 y1 (Int32.ofNat (k + 1)) y3 f') → wbX0_ways_104 b cs ad vs o K104 K171 Q x1 (Int32.ofNat k) x3 f) (x1 : Int32) (x3 : Int32) (f : XS) (hP : P k0 x1 x3 f) : ∃ n : Nat, wlX0_ways_104 b cs ad vs o K171 Q n x1 (Int32.ofNat k0) x3 f := by
  refine ilX0_ways_104 (fun x1 x2 x3 f => ∃ k, k0 ≤ k ∧ k ≤ N ∧ x2 = Int32.ofNat k ∧ P k x1 x3 f) (fun x1 x2 x3 _ => N - x2.toNatClampNeg) ?_ _ _ _ _ ⟨k0, Nat.le_refl _, h0, rfl, hP⟩
  intro K x1 x2 x3 f hI hK
  obtain ⟨k, h1, h2, rfl, h3⟩ := hI
  refine step K k x1 x3 f h1 h2 h3 (fun y1 y3 f' h4 h5 => hK _ _ _ _ ⟨k + 1, by omega, by omega, rfl, h5⟩ ?_)
  show N - (Int32.ofNat (k + 1)).toNatClampNeg < N - (Int32.ofNat k).toNatClampNeg
  rw [n_clamp (by omega), n_clamp (by omega)]
  omega
theorem ijX0_ways_104_3 {b : Nat} {cs : Nat → ClassId} {ad : Nat → Nat} {vs : Nat → Option Nat} {o : Nat} {K171 : Int32 → Int32 → XS → Prop} {Q : XS → Prop} (N k0 : Nat) (hN : N < 2147483648) (h0 : k0 ≤ N) (P : Nat → Int32 → Int32 → XS → Prop) (step : ∀ (K104 : Int32 → Int32 → Int32 → XS → Prop) (k : Nat) (x1 : Int32) (x2 : Int32) (f : XS), k0 ≤ k → k ≤ N → P k x1 x2 f → (∀ (y1 : Int32) (y2 : Int32) (f' : XS), k < N → P (k + 1) y1 y2 f' → K104 y1 y2 (Int32.ofNat (k + 1)) f') → wbX0_ways_104 b cs ad vs o K104 K171 Q x1 x2 (Int32.ofNat k) f) (x1 : Int32) (x2 : Int32) (f : XS) (hP : P k0 x1 x2 f) : ∃ n : Nat, wlX0_ways_104 b cs ad vs o K171 Q n x1 x2 (Int32.ofNat k0) f := by
  refine ilX0_ways_104 (fun x1 x2 x3 f => ∃ k, k0 ≤ k ∧ k ≤ N ∧ x3 = Int32.ofNat k ∧ P k x1 x2 f) (fun x1 x2 x3 _ => N - x3.toNatClampNeg) ?_ _ _ _ _ ⟨k0, Nat.le_refl _, h0, rfl, hP⟩
  intro K x1 x2 x3 f hI hK
  obtain ⟨k, h1, h2, rfl, h3⟩ := hI
  refine step K k x1 x2 f h1 h2 h3 (fun y1 y2 f' h4 h5 => hK _ _ _ _ ⟨k + 1, by omega, by omega, rfl, h5⟩ ?_)
  show N - (Int32.ofNat (k + 1)).toNatClampNeg < N - (Int32.ofNat k).toNatClampNeg
  rw [n_clamp (by omega), n_clamp (by omega)]
  omega
theorem ijX0_ways_94_1 {b : Nat} {cs : Nat → ClassId} {ad : Nat → Nat} {vs : Nat → Option Nat} {o : Nat} {K177 : Int32 → XS → Prop} {Q : XS → Prop} (N k0 : Nat) (hN : N < 2147483648) (h0 : k0 ≤ N) (P : Nat → Int32 → XS → Prop) (step : ∀ (K94 : Int32 → Int32 → XS → Prop) (k : Nat) (x2 : Int32) (f : XS), k0 ≤ k → k ≤ N → P k x2 f → (∀ (y2 : Int32) (f' : XS), k < N → P (k + 1) y2 f' → K94 (Int32.ofNat (k + 1)) y2 f') → wbX0_ways_94 b cs ad vs o K94 K177 Q (Int32.ofNat k) x2 f) (x2 : Int32) (f : XS) (hP : P k0 x2 f) : ∃ n : Nat, wlX0_ways_94 b cs ad vs o K177 Q n (Int32.ofNat k0) x2 f := by
  refine ilX0_ways_94 (fun x1 x2 f => ∃ k, k0 ≤ k ∧ k ≤ N ∧ x1 = Int32.ofNat k ∧ P k x2 f) (fun x1 x2 _ => N - x1.toNatClampNeg) ?_ _ _ _ ⟨k0, Nat.le_refl _, h0, rfl, hP⟩
  intro K x1 x2 f hI hK
  obtain ⟨k, h1, h2, rfl, h3⟩ := hI
  refine step K k x2 f h1 h2 h3 (fun y2 f' h4 h5 => hK _ _ _ ⟨k + 1, by omega, by omega, rfl, h5⟩ ?_)
  show N - (Int32.ofNat (k + 1)).toNatClampNeg < N - (Int32.ofNat k).toNatClampNeg
  rw [n_clamp (by omega), n_clamp (by omega)]
  omega
theorem ijX0_ways_94_2 {b : Nat} {cs : Nat → ClassId} {ad : Nat → Nat} {vs : Nat → Option Nat} {o : Nat} {K177 : Int32 → XS → Prop} {Q : XS → Prop} (N k0 : Nat) (hN : N < 2147483648) (h0 : k0 ≤ N) (P : Nat → Int32 → XS → Prop) (step : ∀ (K94 : Int32 → Int32 → XS → Prop) (k : Nat) (x1 : Int32) (f : XS), k0 ≤ k → k ≤ N → P k x1 f → (∀ (y1 : Int32) (f' : XS), k < N → P (k + 1) y1 f' → K94 y1 (Int32.ofNat (k + 1)) f') → wbX0_ways_94 b cs ad vs o K94 K177 Q x1 (Int32.ofNat k) f) (x1 : Int32) (f : XS) (hP : P k0 x1 f) : ∃ n : Nat, wlX0_ways_94 b cs ad vs o K177 Q n x1 (Int32.ofNat k0) f := by
  refine ilX0_ways_94 (fun x1 x2 f => ∃ k, k0 ≤ k ∧ k ≤ N ∧ x2 = Int32.ofNat k ∧ P k x1 f) (fun x1 x2 _ => N - x2.toNatClampNeg) ?_ _ _ _ ⟨k0, Nat.le_refl _, h0, rfl, hP⟩
  intro K x1 x2 f hI hK
  obtain ⟨k, h1, h2, rfl, h3⟩ := hI
  refine step K k x1 f h1 h2 h3 (fun y1 f' h4 h5 => hK _ _ _ ⟨k + 1, by omega, by omega, rfl, h5⟩ ?_)
  show N - (Int32.ofNat (k + 1)).toNatClampNeg < N - (Int32.ofNat k).toNatClampNeg
  rw [n_clamp (by omega), n_clamp (by omega)]
  omega
theorem ijX0_ways_84_1 {b : Nat} {cs : Nat → ClassId} {ad : Nat → Nat} {vs : Nat → Option Nat} {o : Nat}  {Q : XS → Prop} (N k0 : Nat) (hN : N < 2147483648) (h0 : k0 ≤ N) (P : Nat → XS → Prop) (step : ∀ (K84 : Int32 → XS → Prop) (k : Nat)  (f : XS), k0 ≤ k → k ≤ N → P k  f → (∀  (f' : XS), k < N → P (k + 1)  f' → K84 (Int32.ofNat (k + 1)) f') → wbX0_ways_84 b cs ad vs o K84 Q (Int32.ofNat k) f)  (f : XS) (hP : P k0  f) : ∃ n : Nat, wlX0_ways_84 b cs ad vs o  Q n (Int32.ofNat k0) f := by
  refine ilX0_ways_84 (fun x1 f => ∃ k, k0 ≤ k ∧ k ≤ N ∧ x1 = Int32.ofNat k ∧ P k  f) (fun x1 _ => N - x1.toNatClampNeg) ?_ _ _ ⟨k0, Nat.le_refl _, h0, rfl, hP⟩
  intro K x1 f hI hK
  obtain ⟨k, h1, h2, rfl, h3⟩ := hI
  refine step K k  f h1 h2 h3 (fun  f' h4 h5 => hK _ _ ⟨k + 1, by omega, by omega, rfl, h5⟩ ?_)
  show N - (Int32.ofNat (k + 1)).toNatClampNeg < N - (Int32.ofNat k).toNatClampNeg
  rw [n_clamp (by omega), n_clamp (by omega)]
  omega
theorem ijX0_giving_79_6 {b : Nat} {cs : Nat → ClassId} {ad : Nat → Nat} {vs : Nat → Option Nat} {o : Nat} {K135 : Nat → XS → Prop} {Q : Int32 → XS → Prop} (N k0 : Nat) (hN : N < 2147483648) (h0 : k0 ≤ N) (P : Nat → Nat → Nat → Nat → XS → Prop) (step : ∀ (K79 : Nat → Nat → Nat → Int32 → XS → Prop) (k : Nat) (x3 : Nat) (x4 : Nat) (x5 : Nat) (f : XS), k0 ≤ k → k ≤ N → P k x3 x4 x5 f → (∀ (y3 : Nat) (y4 : Nat) (y5 : Nat) (f' : XS), k < N → P (k + 1) y3 y4 y5 f' → K79 y3 y4 y5 (Int32.ofNat (k + 1)) f') → wbX0_giving_79 b cs ad vs o K79 K135 Q x3 x4 x5 (Int32.ofNat k) f) (x3 : Nat) (x4 : Nat) (x5 : Nat) (f : XS) (hP : P k0 x3 x4 x5 f) : ∃ n : Nat, wlX0_giving_79 b cs ad vs o K135 Q n x3 x4 x5 (Int32.ofNat k0) f := by
  refine ilX0_giving_79 (fun x3 x4 x5 x6 f => ∃ k, k0 ≤ k ∧ k ≤ N ∧ x6 = Int32.ofNat k ∧ P k x3 x4 x5 f) (fun x3 x4 x5 x6 _ => N - x6.toNatClampNeg) ?_ _ _ _ _ _ ⟨k0, Nat.le_refl _, h0, rfl, hP⟩
  intro K x3 x4 x5 x6 f hI hK
  obtain ⟨k, h1, h2, rfl, h3⟩ := hI
  refine step K k x3 x4 x5 f h1 h2 h3 (fun y3 y4 y5 f' h4 h5 => hK _ _ _ _ _ ⟨k + 1, by omega, by omega, rfl, h5⟩ ?_)
  show N - (Int32.ofNat (k + 1)).toNatClampNeg < N - (Int32.ofNat k).toNatClampNeg
  rw [n_clamp (by omega), n_clamp (by omega)]
  omega
theorem ijX0_market_25_3 {b : Nat} {cs : Nat → ClassId} {ad : Nat → Nat} {vs : Nat → Option Nat} {o : Nat}  {Q : Int32 → XS → Prop} (N k0 : Nat) (hN : N < 2147483648) (h0 : k0 ≤ N) (P : Nat → Int32 → Int32 → XS → Prop) (step : ∀ (K25 : Int32 → Int32 → Int32 → XS → Prop) (k : Nat) (x4 : Int32) (x5 : Int32) (f : XS), k0 ≤ k → k ≤ N → P k x4 x5 f → (∀ (y4 : Int32) (y5 : Int32) (f' : XS), k < N → P (k + 1) y4 y5 f' → K25 (Int32.ofNat (k + 1)) y4 y5 f') → wbX0_market_25 b cs ad vs o K25 Q (Int32.ofNat k) x4 x5 f) (x4 : Int32) (x5 : Int32) (f : XS) (hP : P k0 x4 x5 f) : ∃ n : Nat, wlX0_market_25 b cs ad vs o  Q n (Int32.ofNat k0) x4 x5 f := by
  refine ilX0_market_25 (fun x3 x4 x5 f => ∃ k, k0 ≤ k ∧ k ≤ N ∧ x3 = Int32.ofNat k ∧ P k x4 x5 f) (fun x3 x4 x5 _ => N - x3.toNatClampNeg) ?_ _ _ _ _ ⟨k0, Nat.le_refl _, h0, rfl, hP⟩
  intro K x3 x4 x5 f hI hK
  obtain ⟨k, h1, h2, rfl, h3⟩ := hI
  refine step K k x4 x5 f h1 h2 h3 (fun y4 y5 f' h4 h5 => hK _ _ _ _ ⟨k + 1, by omega, by omega, rfl, h5⟩ ?_)
  show N - (Int32.ofNat (k + 1)).toNatClampNeg < N - (Int32.ofNat k).toNatClampNeg
  rw [n_clamp (by omega), n_clamp (by omega)]
  omega
theorem ijX0_market_25_4 {b : Nat} {cs : Nat → ClassId} {ad : Nat → Nat} {vs : Nat → Option Nat} {o : Nat}  {Q : Int32 → XS → Prop} (N k0 : Nat) (hN : N < 2147483648) (h0 : k0 ≤ N) (P : Nat → Int32 → Int32 → XS → Prop) (step : ∀ (K25 : Int32 → Int32 → Int32 → XS → Prop) (k : Nat) (x3 : Int32) (x5 : Int32) (f : XS), k0 ≤ k → k ≤ N → P k x3 x5 f → (∀ (y3 : Int32) (y5 : Int32) (f' : XS), k < N → P (k + 1) y3 y5 f' → K25 y3 (Int32.ofNat (k + 1)) y5 f') → wbX0_market_25 b cs ad vs o K25 Q x3 (Int32.ofNat k) x5 f) (x3 : Int32) (x5 : Int32) (f : XS) (hP : P k0 x3 x5 f) : ∃ n : Nat, wlX0_market_25 b cs ad vs o  Q n x3 (Int32.ofNat k0) x5 f := by
  refine ilX0_market_25 (fun x3 x4 x5 f => ∃ k, k0 ≤ k ∧ k ≤ N ∧ x4 = Int32.ofNat k ∧ P k x3 x5 f) (fun x3 x4 x5 _ => N - x4.toNatClampNeg) ?_ _ _ _ _ ⟨k0, Nat.le_refl _, h0, rfl, hP⟩
  intro K x3 x4 x5 f hI hK
  obtain ⟨k, h1, h2, rfl, h3⟩ := hI
  refine step K k x3 x5 f h1 h2 h3 (fun y3 y5 f' h4 h5 => hK _ _ _ _ ⟨k + 1, by omega, by omega, rfl, h5⟩ ?_)
  show N - (Int32.ofNat (k + 1)).toNatClampNeg < N - (Int32.ofNat k).toNatClampNeg
  rw [n_clamp (by omega), n_clamp (by omega)]
  omega
theorem ijX0_market_25_5 {b : Nat} {cs : Nat → ClassId} {ad : Nat → Nat} {vs : Nat → Option Nat} {o : Nat}  {Q : Int32 → XS → Prop} (N k0 : Nat) (hN : N < 2147483648) (h0 : k0 ≤ N) (P : Nat → Int32 → Int32 → XS → Prop) (step : ∀ (K25 : Int32 → Int32 → Int32 → XS → Prop) (k : Nat) (x3 : Int32) (x4 : Int32) (f : XS), k0 ≤ k → k ≤ N → P k x3 x4 f → (∀ (y3 : Int32) (y4 : Int32) (f' : XS), k < N → P (k + 1) y3 y4 f' → K25 y3 y4 (Int32.ofNat (k + 1)) f') → wbX0_market_25 b cs ad vs o K25 Q x3 x4 (Int32.ofNat k) f) (x3 : Int32) (x4 : Int32) (f : XS) (hP : P k0 x3 x4 f) : ∃ n : Nat, wlX0_market_25 b cs ad vs o  Q n x3 x4 (Int32.ofNat k0) f := by
  refine ilX0_market_25 (fun x3 x4 x5 f => ∃ k, k0 ≤ k ∧ k ≤ N ∧ x5 = Int32.ofNat k ∧ P k x3 x4 f) (fun x3 x4 x5 _ => N - x5.toNatClampNeg) ?_ _ _ _ _ ⟨k0, Nat.le_refl _, h0, rfl, hP⟩
  intro K x3 x4 x5 f hI hK
  obtain ⟨k, h1, h2, rfl, h3⟩ := hI
  refine step K k x3 x4 f h1 h2 h3 (fun y3 y4 f' h4 h5 => hK _ _ _ _ ⟨k + 1, by omega, by omega, rfl, h5⟩ ?_)
  show N - (Int32.ofNat (k + 1)).toNatClampNeg < N - (Int32.ofNat k).toNatClampNeg
  rw [n_clamp (by omega), n_clamp (by omega)]
  omega
theorem ijX0_looks_2_2 {b : Nat} {cs : Nat → ClassId} {ad : Nat → Nat} {vs : Nat → Option Nat} {o : Nat}  {Q : XS → Prop} (N k0 : Nat) (hN : N < 2147483648) (h0 : k0 ≤ N) (P : Nat → Nat → Int32 → XS → Prop) (step : ∀ (K2 : Nat → Int32 → Int32 → XS → Prop) (k : Nat) (x1 : Nat) (x3 : Int32) (f : XS), k0 ≤ k → k ≤ N → P k x1 x3 f → (∀ (y1 : Nat) (y3 : Int32) (f' : XS), k < N → P (k + 1) y1 y3 f' → K2 y1 (Int32.ofNat (k + 1)) y3 f') → wbX0_looks_2 b cs ad vs o K2 Q x1 (Int32.ofNat k) x3 f) (x1 : Nat) (x3 : Int32) (f : XS) (hP : P k0 x1 x3 f) : ∃ n : Nat, wlX0_looks_2 b cs ad vs o  Q n x1 (Int32.ofNat k0) x3 f := by
  refine ilX0_looks_2 (fun x1 x2 x3 f => ∃ k, k0 ≤ k ∧ k ≤ N ∧ x2 = Int32.ofNat k ∧ P k x1 x3 f) (fun x1 x2 x3 _ => N - x2.toNatClampNeg) ?_ _ _ _ _ ⟨k0, Nat.le_refl _, h0, rfl, hP⟩
  intro K x1 x2 x3 f hI hK
  obtain ⟨k, h1, h2, rfl, h3⟩ := hI
  refine step K k x1 x3 f h1 h2 h3 (fun y1 y3 f' h4 h5 => hK _ _ _ _ ⟨k + 1, by omega, by omega, rfl, h5⟩ ?_)
  show N - (Int32.ofNat (k + 1)).toNatClampNeg < N - (Int32.ofNat k).toNatClampNeg
  rw [n_clamp (by omega), n_clamp (by omega)]
  omega
theorem ijX0_looks_2_3 {b : Nat} {cs : Nat → ClassId} {ad : Nat → Nat} {vs : Nat → Option Nat} {o : Nat}  {Q : XS → Prop} (N k0 : Nat) (hN : N < 2147483648) (h0 : k0 ≤ N) (P : Nat → Nat → Int32 → XS → Prop) (step : ∀ (K2 : Nat → Int32 → Int32 → XS → Prop) (k : Nat) (x1 : Nat) (x2 : Int32) (f : XS), k0 ≤ k → k ≤ N → P k x1 x2 f → (∀ (y1 : Nat) (y2 : Int32) (f' : XS), k < N → P (k + 1) y1 y2 f' → K2 y1 y2 (Int32.ofNat (k + 1)) f') → wbX0_looks_2 b cs ad vs o K2 Q x1 x2 (Int32.ofNat k) f) (x1 : Nat) (x2 : Int32) (f : XS) (hP : P k0 x1 x2 f) : ∃ n : Nat, wlX0_looks_2 b cs ad vs o  Q n x1 x2 (Int32.ofNat k0) f := by
  refine ilX0_looks_2 (fun x1 x2 x3 f => ∃ k, k0 ≤ k ∧ k ≤ N ∧ x3 = Int32.ofNat k ∧ P k x1 x2 f) (fun x1 x2 x3 _ => N - x3.toNatClampNeg) ?_ _ _ _ _ ⟨k0, Nat.le_refl _, h0, rfl, hP⟩
  intro K x1 x2 x3 f hI hK
  obtain ⟨k, h1, h2, rfl, h3⟩ := hI
  refine step K k x1 x2 f h1 h2 h3 (fun y1 y2 f' h4 h5 => hK _ _ _ _ ⟨k + 1, by omega, by omega, rfl, h5⟩ ?_)
  show N - (Int32.ofNat (k + 1)).toNatClampNeg < N - (Int32.ofNat k).toNatClampNeg
  rw [n_clamp (by omega), n_clamp (by omega)]
  omega
theorem ijX0_firstBar_12_1 {b : Nat} {cs : Nat → ClassId} {ad : Nat → Nat} {vs : Nat → Option Nat} {o : Nat} {K42 : Int32 → XS → Prop} {Q : Int32 → XS → Prop} (N k0 : Nat) (hN : N < 2147483648) (h0 : k0 ≤ N) (P : Nat → Int32 → XS → Prop) (step : ∀ (K12 : Int32 → Int32 → XS → Prop) (k : Nat) (x2 : Int32) (f : XS), k0 ≤ k → k ≤ N → P k x2 f → (∀ (y2 : Int32) (f' : XS), k < N → P (k + 1) y2 f' → K12 (Int32.ofNat (k + 1)) y2 f') → wbX0_firstBar_12 b cs ad vs o K12 K42 Q (Int32.ofNat k) x2 f) (x2 : Int32) (f : XS) (hP : P k0 x2 f) : ∃ n : Nat, wlX0_firstBar_12 b cs ad vs o K42 Q n (Int32.ofNat k0) x2 f := by
  refine ilX0_firstBar_12 (fun x1 x2 f => ∃ k, k0 ≤ k ∧ k ≤ N ∧ x1 = Int32.ofNat k ∧ P k x2 f) (fun x1 x2 _ => N - x1.toNatClampNeg) ?_ _ _ _ ⟨k0, Nat.le_refl _, h0, rfl, hP⟩
  intro K x1 x2 f hI hK
  obtain ⟨k, h1, h2, rfl, h3⟩ := hI
  refine step K k x2 f h1 h2 h3 (fun y2 f' h4 h5 => hK _ _ _ ⟨k + 1, by omega, by omega, rfl, h5⟩ ?_)
  show N - (Int32.ofNat (k + 1)).toNatClampNeg < N - (Int32.ofNat k).toNatClampNeg
  rw [n_clamp (by omega), n_clamp (by omega)]
  omega
theorem ijX0_firstBar_12_2 {b : Nat} {cs : Nat → ClassId} {ad : Nat → Nat} {vs : Nat → Option Nat} {o : Nat} {K42 : Int32 → XS → Prop} {Q : Int32 → XS → Prop} (N k0 : Nat) (hN : N < 2147483648) (h0 : k0 ≤ N) (P : Nat → Int32 → XS → Prop) (step : ∀ (K12 : Int32 → Int32 → XS → Prop) (k : Nat) (x1 : Int32) (f : XS), k0 ≤ k → k ≤ N → P k x1 f → (∀ (y1 : Int32) (f' : XS), k < N → P (k + 1) y1 f' → K12 y1 (Int32.ofNat (k + 1)) f') → wbX0_firstBar_12 b cs ad vs o K12 K42 Q x1 (Int32.ofNat k) f) (x1 : Int32) (f : XS) (hP : P k0 x1 f) : ∃ n : Nat, wlX0_firstBar_12 b cs ad vs o K42 Q n x1 (Int32.ofNat k0) f := by
  refine ilX0_firstBar_12 (fun x1 x2 f => ∃ k, k0 ≤ k ∧ k ≤ N ∧ x2 = Int32.ofNat k ∧ P k x1 f) (fun x1 x2 _ => N - x2.toNatClampNeg) ?_ _ _ _ ⟨k0, Nat.le_refl _, h0, rfl, hP⟩
  intro K x1 x2 f hI hK
  obtain ⟨k, h1, h2, rfl, h3⟩ := hI
  refine step K k x1 f h1 h2 h3 (fun y1 f' h4 h5 => hK _ _ _ ⟨k + 1, by omega, by omega, rfl, h5⟩ ?_)
  show N - (Int32.ofNat (k + 1)).toNatClampNeg < N - (Int32.ofNat k).toNatClampNeg
  rw [n_clamp (by omega), n_clamp (by omega)]
  omega
theorem ijX0_firstBar_2_1 {b : Nat} {cs : Nat → ClassId} {ad : Nat → Nat} {vs : Nat → Option Nat} {o : Nat}  {Q : Int32 → XS → Prop} (N k0 : Nat) (hN : N < 2147483648) (h0 : k0 ≤ N) (P : Nat → XS → Prop) (step : ∀ (K2 : Int32 → XS → Prop) (k : Nat)  (f : XS), k0 ≤ k → k ≤ N → P k  f → (∀  (f' : XS), k < N → P (k + 1)  f' → K2 (Int32.ofNat (k + 1)) f') → wbX0_firstBar_2 b cs ad vs o K2 Q (Int32.ofNat k) f)  (f : XS) (hP : P k0  f) : ∃ n : Nat, wlX0_firstBar_2 b cs ad vs o  Q n (Int32.ofNat k0) f := by
  refine ilX0_firstBar_2 (fun x1 f => ∃ k, k0 ≤ k ∧ k ≤ N ∧ x1 = Int32.ofNat k ∧ P k  f) (fun x1 _ => N - x1.toNatClampNeg) ?_ _ _ ⟨k0, Nat.le_refl _, h0, rfl, hP⟩
  intro K x1 f hI hK
  obtain ⟨k, h1, h2, rfl, h3⟩ := hI
  refine step K k  f h1 h2 h3 (fun  f' h4 h5 => hK _ _ ⟨k + 1, by omega, by omega, rfl, h5⟩ ?_)
  show N - (Int32.ofNat (k + 1)).toNatClampNeg < N - (Int32.ofNat k).toNatClampNeg
  rw [n_clamp (by omega), n_clamp (by omega)]
  omega
theorem ijX0_lawful_24_1 {b : Nat} {cs : Nat → ClassId} {ad : Nat → Nat} {vs : Nat → Option Nat} {o : Nat}  {Q : Int32 → XS → Prop} (N k0 : Nat) (hN : N < 2147483648) (h0 : k0 ≤ N) (P : Nat → Int32 → Int32 → Int32 → XS → Prop) (step : ∀ (K24 : Int32 → Int32 → Int32 → Int32 → XS → Prop) (k : Nat) (x2 : Int32) (x3 : Int32) (x4 : Int32) (f : XS), k0 ≤ k → k ≤ N → P k x2 x3 x4 f → (∀ (y2 : Int32) (y3 : Int32) (y4 : Int32) (f' : XS), k < N → P (k + 1) y2 y3 y4 f' → K24 (Int32.ofNat (k + 1)) y2 y3 y4 f') → wbX0_lawful_24 b cs ad vs o K24 Q (Int32.ofNat k) x2 x3 x4 f) (x2 : Int32) (x3 : Int32) (x4 : Int32) (f : XS) (hP : P k0 x2 x3 x4 f) : ∃ n : Nat, wlX0_lawful_24 b cs ad vs o  Q n (Int32.ofNat k0) x2 x3 x4 f := by
  refine ilX0_lawful_24 (fun x1 x2 x3 x4 f => ∃ k, k0 ≤ k ∧ k ≤ N ∧ x1 = Int32.ofNat k ∧ P k x2 x3 x4 f) (fun x1 x2 x3 x4 _ => N - x1.toNatClampNeg) ?_ _ _ _ _ _ ⟨k0, Nat.le_refl _, h0, rfl, hP⟩
  intro K x1 x2 x3 x4 f hI hK
  obtain ⟨k, h1, h2, rfl, h3⟩ := hI
  refine step K k x2 x3 x4 f h1 h2 h3 (fun y2 y3 y4 f' h4 h5 => hK _ _ _ _ _ ⟨k + 1, by omega, by omega, rfl, h5⟩ ?_)
  show N - (Int32.ofNat (k + 1)).toNatClampNeg < N - (Int32.ofNat k).toNatClampNeg
  rw [n_clamp (by omega), n_clamp (by omega)]
  omega
theorem ijX0_lawful_24_2 {b : Nat} {cs : Nat → ClassId} {ad : Nat → Nat} {vs : Nat → Option Nat} {o : Nat}  {Q : Int32 → XS → Prop} (N k0 : Nat) (hN : N < 2147483648) (h0 : k0 ≤ N) (P : Nat → Int32 → Int32 → Int32 → XS → Prop) (step : ∀ (K24 : Int32 → Int32 → Int32 → Int32 → XS → Prop) (k : Nat) (x1 : Int32) (x3 : Int32) (x4 : Int32) (f : XS), k0 ≤ k → k ≤ N → P k x1 x3 x4 f → (∀ (y1 : Int32) (y3 : Int32) (y4 : Int32) (f' : XS), k < N → P (k + 1) y1 y3 y4 f' → K24 y1 (Int32.ofNat (k + 1)) y3 y4 f') → wbX0_lawful_24 b cs ad vs o K24 Q x1 (Int32.ofNat k) x3 x4 f) (x1 : Int32) (x3 : Int32) (x4 : Int32) (f : XS) (hP : P k0 x1 x3 x4 f) : ∃ n : Nat, wlX0_lawful_24 b cs ad vs o  Q n x1 (Int32.ofNat k0) x3 x4 f := by
  refine ilX0_lawful_24 (fun x1 x2 x3 x4 f => ∃ k, k0 ≤ k ∧ k ≤ N ∧ x2 = Int32.ofNat k ∧ P k x1 x3 x4 f) (fun x1 x2 x3 x4 _ => N - x2.toNatClampNeg) ?_ _ _ _ _ _ ⟨k0, Nat.le_refl _, h0, rfl, hP⟩
  intro K x1 x2 x3 x4 f hI hK
  obtain ⟨k, h1, h2, rfl, h3⟩ := hI
  refine step K k x1 x3 x4 f h1 h2 h3 (fun y1 y3 y4 f' h4 h5 => hK _ _ _ _ _ ⟨k + 1, by omega, by omega, rfl, h5⟩ ?_)
  show N - (Int32.ofNat (k + 1)).toNatClampNeg < N - (Int32.ofNat k).toNatClampNeg
  rw [n_clamp (by omega), n_clamp (by omega)]
  omega
theorem ijX0_lawful_24_3 {b : Nat} {cs : Nat → ClassId} {ad : Nat → Nat} {vs : Nat → Option Nat} {o : Nat}  {Q : Int32 → XS → Prop} (N k0 : Nat) (hN : N < 2147483648) (h0 : k0 ≤ N) (P : Nat → Int32 → Int32 → Int32 → XS → Prop) (step : ∀ (K24 : Int32 → Int32 → Int32 → Int32 → XS → Prop) (k : Nat) (x1 : Int32) (x2 : Int32) (x4 : Int32) (f : XS), k0 ≤ k → k ≤ N → P k x1 x2 x4 f → (∀ (y1 : Int32) (y2 : Int32) (y4 : Int32) (f' : XS), k < N → P (k + 1) y1 y2 y4 f' → K24 y1 y2 (Int32.ofNat (k + 1)) y4 f') → wbX0_lawful_24 b cs ad vs o K24 Q x1 x2 (Int32.ofNat k) x4 f) (x1 : Int32) (x2 : Int32) (x4 : Int32) (f : XS) (hP : P k0 x1 x2 x4 f) : ∃ n : Nat, wlX0_lawful_24 b cs ad vs o  Q n x1 x2 (Int32.ofNat k0) x4 f := by
  refine ilX0_lawful_24 (fun x1 x2 x3 x4 f => ∃ k, k0 ≤ k ∧ k ≤ N ∧ x3 = Int32.ofNat k ∧ P k x1 x2 x4 f) (fun x1 x2 x3 x4 _ => N - x3.toNatClampNeg) ?_ _ _ _ _ _ ⟨k0, Nat.le_refl _, h0, rfl, hP⟩
  intro K x1 x2 x3 x4 f hI hK
  obtain ⟨k, h1, h2, rfl, h3⟩ := hI
  refine step K k x1 x2 x4 f h1 h2 h3 (fun y1 y2 y4 f' h4 h5 => hK _ _ _ _ _ ⟨k + 1, by omega, by omega, rfl, h5⟩ ?_)
  show N - (Int32.ofNat (k + 1)).toNatClampNeg < N - (Int32.ofNat k).toNatClampNeg
  rw [n_clamp (by omega), n_clamp (by omega)]
  omega
theorem ijX0_lawful_24_4 {b : Nat} {cs : Nat → ClassId} {ad : Nat → Nat} {vs : Nat → Option Nat} {o : Nat}  {Q : Int32 → XS → Prop} (N k0 : Nat) (hN : N < 2147483648) (h0 : k0 ≤ N) (P : Nat → Int32 → Int32 → Int32 → XS → Prop) (step : ∀ (K24 : Int32 → Int32 → Int32 → Int32 → XS → Prop) (k : Nat) (x1 : Int32) (x2 : Int32) (x3 : Int32) (f : XS), k0 ≤ k → k ≤ N → P k x1 x2 x3 f → (∀ (y1 : Int32) (y2 : Int32) (y3 : Int32) (f' : XS), k < N → P (k + 1) y1 y2 y3 f' → K24 y1 y2 y3 (Int32.ofNat (k + 1)) f') → wbX0_lawful_24 b cs ad vs o K24 Q x1 x2 x3 (Int32.ofNat k) f) (x1 : Int32) (x2 : Int32) (x3 : Int32) (f : XS) (hP : P k0 x1 x2 x3 f) : ∃ n : Nat, wlX0_lawful_24 b cs ad vs o  Q n x1 x2 x3 (Int32.ofNat k0) f := by
  refine ilX0_lawful_24 (fun x1 x2 x3 x4 f => ∃ k, k0 ≤ k ∧ k ≤ N ∧ x4 = Int32.ofNat k ∧ P k x1 x2 x3 f) (fun x1 x2 x3 x4 _ => N - x4.toNatClampNeg) ?_ _ _ _ _ _ ⟨k0, Nat.le_refl _, h0, rfl, hP⟩
  intro K x1 x2 x3 x4 f hI hK
  obtain ⟨k, h1, h2, rfl, h3⟩ := hI
  refine step K k x1 x2 x3 f h1 h2 h3 (fun y1 y2 y3 f' h4 h5 => hK _ _ _ _ _ ⟨k + 1, by omega, by omega, rfl, h5⟩ ?_)
  show N - (Int32.ofNat (k + 1)).toNatClampNeg < N - (Int32.ofNat k).toNatClampNeg
  rw [n_clamp (by omega), n_clamp (by omega)]
  omega
theorem ijX0_hoursAhead_23_1 {b : Nat} {cs : Nat → ClassId} {ad : Nat → Nat} {vs : Nat → Option Nat} {o : Nat}  {Q : Int32 → XS → Prop} (N k0 : Nat) (hN : N < 2147483648) (h0 : k0 ≤ N) (P : Nat → Int32 → Int32 → Int32 → XS → Prop) (step : ∀ (K23 : Int32 → Int32 → Int32 → Int32 → XS → Prop) (k : Nat) (x3 : Int32) (x4 : Int32) (x5 : Int32) (f : XS), k0 ≤ k → k ≤ N → P k x3 x4 x5 f → (∀ (y3 : Int32) (y4 : Int32) (y5 : Int32) (f' : XS), k < N → P (k + 1) y3 y4 y5 f' → K23 (Int32.ofNat (k + 1)) y3 y4 y5 f') → wbX0_hoursAhead_23 b cs ad vs o K23 Q (Int32.ofNat k) x3 x4 x5 f) (x3 : Int32) (x4 : Int32) (x5 : Int32) (f : XS) (hP : P k0 x3 x4 x5 f) : ∃ n : Nat, wlX0_hoursAhead_23 b cs ad vs o  Q n (Int32.ofNat k0) x3 x4 x5 f := by
  refine ilX0_hoursAhead_23 (fun x1 x3 x4 x5 f => ∃ k, k0 ≤ k ∧ k ≤ N ∧ x1 = Int32.ofNat k ∧ P k x3 x4 x5 f) (fun x1 x3 x4 x5 _ => N - x1.toNatClampNeg) ?_ _ _ _ _ _ ⟨k0, Nat.le_refl _, h0, rfl, hP⟩
  intro K x1 x3 x4 x5 f hI hK
  obtain ⟨k, h1, h2, rfl, h3⟩ := hI
  refine step K k x3 x4 x5 f h1 h2 h3 (fun y3 y4 y5 f' h4 h5 => hK _ _ _ _ _ ⟨k + 1, by omega, by omega, rfl, h5⟩ ?_)
  show N - (Int32.ofNat (k + 1)).toNatClampNeg < N - (Int32.ofNat k).toNatClampNeg
  rw [n_clamp (by omega), n_clamp (by omega)]
  omega
theorem ijX0_hoursAhead_23_3 {b : Nat} {cs : Nat → ClassId} {ad : Nat → Nat} {vs : Nat → Option Nat} {o : Nat}  {Q : Int32 → XS → Prop} (N k0 : Nat) (hN : N < 2147483648) (h0 : k0 ≤ N) (P : Nat → Int32 → Int32 → Int32 → XS → Prop) (step : ∀ (K23 : Int32 → Int32 → Int32 → Int32 → XS → Prop) (k : Nat) (x1 : Int32) (x4 : Int32) (x5 : Int32) (f : XS), k0 ≤ k → k ≤ N → P k x1 x4 x5 f → (∀ (y1 : Int32) (y4 : Int32) (y5 : Int32) (f' : XS), k < N → P (k + 1) y1 y4 y5 f' → K23 y1 (Int32.ofNat (k + 1)) y4 y5 f') → wbX0_hoursAhead_23 b cs ad vs o K23 Q x1 (Int32.ofNat k) x4 x5 f) (x1 : Int32) (x4 : Int32) (x5 : Int32) (f : XS) (hP : P k0 x1 x4 x5 f) : ∃ n : Nat, wlX0_hoursAhead_23 b cs ad vs o  Q n x1 (Int32.ofNat k0) x4 x5 f := by
  refine ilX0_hoursAhead_23 (fun x1 x3 x4 x5 f => ∃ k, k0 ≤ k ∧ k ≤ N ∧ x3 = Int32.ofNat k ∧ P k x1 x4 x5 f) (fun x1 x3 x4 x5 _ => N - x3.toNatClampNeg) ?_ _ _ _ _ _ ⟨k0, Nat.le_refl _, h0, rfl, hP⟩
  intro K x1 x3 x4 x5 f hI hK
  obtain ⟨k, h1, h2, rfl, h3⟩ := hI
  refine step K k x1 x4 x5 f h1 h2 h3 (fun y1 y4 y5 f' h4 h5 => hK _ _ _ _ _ ⟨k + 1, by omega, by omega, rfl, h5⟩ ?_)
  show N - (Int32.ofNat (k + 1)).toNatClampNeg < N - (Int32.ofNat k).toNatClampNeg
  rw [n_clamp (by omega), n_clamp (by omega)]
  omega
theorem ijX0_hoursAhead_23_4 {b : Nat} {cs : Nat → ClassId} {ad : Nat → Nat} {vs : Nat → Option Nat} {o : Nat}  {Q : Int32 → XS → Prop} (N k0 : Nat) (hN : N < 2147483648) (h0 : k0 ≤ N) (P : Nat → Int32 → Int32 → Int32 → XS → Prop) (step : ∀ (K23 : Int32 → Int32 → Int32 → Int32 → XS → Prop) (k : Nat) (x1 : Int32) (x3 : Int32) (x5 : Int32) (f : XS), k0 ≤ k → k ≤ N → P k x1 x3 x5 f → (∀ (y1 : Int32) (y3 : Int32) (y5 : Int32) (f' : XS), k < N → P (k + 1) y1 y3 y5 f' → K23 y1 y3 (Int32.ofNat (k + 1)) y5 f') → wbX0_hoursAhead_23 b cs ad vs o K23 Q x1 x3 (Int32.ofNat k) x5 f) (x1 : Int32) (x3 : Int32) (x5 : Int32) (f : XS) (hP : P k0 x1 x3 x5 f) : ∃ n : Nat, wlX0_hoursAhead_23 b cs ad vs o  Q n x1 x3 (Int32.ofNat k0) x5 f := by
  refine ilX0_hoursAhead_23 (fun x1 x3 x4 x5 f => ∃ k, k0 ≤ k ∧ k ≤ N ∧ x4 = Int32.ofNat k ∧ P k x1 x3 x5 f) (fun x1 x3 x4 x5 _ => N - x4.toNatClampNeg) ?_ _ _ _ _ _ ⟨k0, Nat.le_refl _, h0, rfl, hP⟩
  intro K x1 x3 x4 x5 f hI hK
  obtain ⟨k, h1, h2, rfl, h3⟩ := hI
  refine step K k x1 x3 x5 f h1 h2 h3 (fun y1 y3 y5 f' h4 h5 => hK _ _ _ _ _ ⟨k + 1, by omega, by omega, rfl, h5⟩ ?_)
  show N - (Int32.ofNat (k + 1)).toNatClampNeg < N - (Int32.ofNat k).toNatClampNeg
  rw [n_clamp (by omega), n_clamp (by omega)]
  omega
theorem ijX0_hoursAhead_23_5 {b : Nat} {cs : Nat → ClassId} {ad : Nat → Nat} {vs : Nat → Option Nat} {o : Nat}  {Q : Int32 → XS → Prop} (N k0 : Nat) (hN : N < 2147483648) (h0 : k0 ≤ N) (P : Nat → Int32 → Int32 → Int32 → XS → Prop) (step : ∀ (K23 : Int32 → Int32 → Int32 → Int32 → XS → Prop) (k : Nat) (x1 : Int32) (x3 : Int32) (x4 : Int32) (f : XS), k0 ≤ k → k ≤ N → P k x1 x3 x4 f → (∀ (y1 : Int32) (y3 : Int32) (y4 : Int32) (f' : XS), k < N → P (k + 1) y1 y3 y4 f' → K23 y1 y3 y4 (Int32.ofNat (k + 1)) f') → wbX0_hoursAhead_23 b cs ad vs o K23 Q x1 x3 x4 (Int32.ofNat k) f) (x1 : Int32) (x3 : Int32) (x4 : Int32) (f : XS) (hP : P k0 x1 x3 x4 f) : ∃ n : Nat, wlX0_hoursAhead_23 b cs ad vs o  Q n x1 x3 x4 (Int32.ofNat k0) f := by
  refine ilX0_hoursAhead_23 (fun x1 x3 x4 x5 f => ∃ k, k0 ≤ k ∧ k ≤ N ∧ x5 = Int32.ofNat k ∧ P k x1 x3 x4 f) (fun x1 x3 x4 x5 _ => N - x5.toNatClampNeg) ?_ _ _ _ _ _ ⟨k0, Nat.le_refl _, h0, rfl, hP⟩
  intro K x1 x3 x4 x5 f hI hK
  obtain ⟨k, h1, h2, rfl, h3⟩ := hI
  refine step K k x1 x3 x4 f h1 h2 h3 (fun y1 y3 y4 f' h4 h5 => hK _ _ _ _ _ ⟨k + 1, by omega, by omega, rfl, h5⟩ ?_)
  show N - (Int32.ofNat (k + 1)).toNatClampNeg < N - (Int32.ofNat k).toNatClampNeg
  rw [n_clamp (by omega), n_clamp (by omega)]
  omega
theorem ijX0_others_5_1 {b : Nat} {cs : Nat → ClassId} {ad : Nat → Nat} {vs : Nat → Option Nat} {o : Nat}  {Q : Int32 → XS → Prop} (N k0 : Nat) (hN : N < 2147483648) (h0 : k0 ≤ N) (P : Nat → Int32 → Int32 → Int32 → XS → Prop) (step : ∀ (K5 : Int32 → Int32 → Int32 → Int32 → XS → Prop) (k : Nat) (x2 : Int32) (x3 : Int32) (x4 : Int32) (f : XS), k0 ≤ k → k ≤ N → P k x2 x3 x4 f → (∀ (y2 : Int32) (y3 : Int32) (y4 : Int32) (f' : XS), k < N → P (k + 1) y2 y3 y4 f' → K5 (Int32.ofNat (k + 1)) y2 y3 y4 f') → wbX0_others_5 b cs ad vs o K5 Q (Int32.ofNat k) x2 x3 x4 f) (x2 : Int32) (x3 : Int32) (x4 : Int32) (f : XS) (hP : P k0 x2 x3 x4 f) : ∃ n : Nat, wlX0_others_5 b cs ad vs o  Q n (Int32.ofNat k0) x2 x3 x4 f := by
  refine ilX0_others_5 (fun x1 x2 x3 x4 f => ∃ k, k0 ≤ k ∧ k ≤ N ∧ x1 = Int32.ofNat k ∧ P k x2 x3 x4 f) (fun x1 x2 x3 x4 _ => N - x1.toNatClampNeg) ?_ _ _ _ _ _ ⟨k0, Nat.le_refl _, h0, rfl, hP⟩
  intro K x1 x2 x3 x4 f hI hK
  obtain ⟨k, h1, h2, rfl, h3⟩ := hI
  refine step K k x2 x3 x4 f h1 h2 h3 (fun y2 y3 y4 f' h4 h5 => hK _ _ _ _ _ ⟨k + 1, by omega, by omega, rfl, h5⟩ ?_)
  show N - (Int32.ofNat (k + 1)).toNatClampNeg < N - (Int32.ofNat k).toNatClampNeg
  rw [n_clamp (by omega), n_clamp (by omega)]
  omega
theorem ijX0_others_5_2 {b : Nat} {cs : Nat → ClassId} {ad : Nat → Nat} {vs : Nat → Option Nat} {o : Nat}  {Q : Int32 → XS → Prop} (N k0 : Nat) (hN : N < 2147483648) (h0 : k0 ≤ N) (P : Nat → Int32 → Int32 → Int32 → XS → Prop) (step : ∀ (K5 : Int32 → Int32 → Int32 → Int32 → XS → Prop) (k : Nat) (x1 : Int32) (x3 : Int32) (x4 : Int32) (f : XS), k0 ≤ k → k ≤ N → P k x1 x3 x4 f → (∀ (y1 : Int32) (y3 : Int32) (y4 : Int32) (f' : XS), k < N → P (k + 1) y1 y3 y4 f' → K5 y1 (Int32.ofNat (k + 1)) y3 y4 f') → wbX0_others_5 b cs ad vs o K5 Q x1 (Int32.ofNat k) x3 x4 f) (x1 : Int32) (x3 : Int32) (x4 : Int32) (f : XS) (hP : P k0 x1 x3 x4 f) : ∃ n : Nat, wlX0_others_5 b cs ad vs o  Q n x1 (Int32.ofNat k0) x3 x4 f := by
  refine ilX0_others_5 (fun x1 x2 x3 x4 f => ∃ k, k0 ≤ k ∧ k ≤ N ∧ x2 = Int32.ofNat k ∧ P k x1 x3 x4 f) (fun x1 x2 x3 x4 _ => N - x2.toNatClampNeg) ?_ _ _ _ _ _ ⟨k0, Nat.le_refl _, h0, rfl, hP⟩
  intro K x1 x2 x3 x4 f hI hK
  obtain ⟨k, h1, h2, rfl, h3⟩ := hI
  refine step K k x1 x3 x4 f h1 h2 h3 (fun y1 y3 y4 f' h4 h5 => hK _ _ _ _ _ ⟨k + 1, by omega, by omega, rfl, h5⟩ ?_)
  show N - (Int32.ofNat (k + 1)).toNatClampNeg < N - (Int32.ofNat k).toNatClampNeg
  rw [n_clamp (by omega), n_clamp (by omega)]
  omega
theorem ijX0_others_5_3 {b : Nat} {cs : Nat → ClassId} {ad : Nat → Nat} {vs : Nat → Option Nat} {o : Nat}  {Q : Int32 → XS → Prop} (N k0 : Nat) (hN : N < 2147483648) (h0 : k0 ≤ N) (P : Nat → Int32 → Int32 → Int32 → XS → Prop) (step : ∀ (K5 : Int32 → Int32 → Int32 → Int32 → XS → Prop) (k : Nat) (x1 : Int32) (x2 : Int32) (x4 : Int32) (f : XS), k0 ≤ k → k ≤ N → P k x1 x2 x4 f → (∀ (y1 : Int32) (y2 : Int32) (y4 : Int32) (f' : XS), k < N → P (k + 1) y1 y2 y4 f' → K5 y1 y2 (Int32.ofNat (k + 1)) y4 f') → wbX0_others_5 b cs ad vs o K5 Q x1 x2 (Int32.ofNat k) x4 f) (x1 : Int32) (x2 : Int32) (x4 : Int32) (f : XS) (hP : P k0 x1 x2 x4 f) : ∃ n : Nat, wlX0_others_5 b cs ad vs o  Q n x1 x2 (Int32.ofNat k0) x4 f := by
  refine ilX0_others_5 (fun x1 x2 x3 x4 f => ∃ k, k0 ≤ k ∧ k ≤ N ∧ x3 = Int32.ofNat k ∧ P k x1 x2 x4 f) (fun x1 x2 x3 x4 _ => N - x3.toNatClampNeg) ?_ _ _ _ _ _ ⟨k0, Nat.le_refl _, h0, rfl, hP⟩
  intro K x1 x2 x3 x4 f hI hK
  obtain ⟨k, h1, h2, rfl, h3⟩ := hI
  refine step K k x1 x2 x4 f h1 h2 h3 (fun y1 y2 y4 f' h4 h5 => hK _ _ _ _ _ ⟨k + 1, by omega, by omega, rfl, h5⟩ ?_)
  show N - (Int32.ofNat (k + 1)).toNatClampNeg < N - (Int32.ofNat k).toNatClampNeg
  rw [n_clamp (by omega), n_clamp (by omega)]
  omega
theorem ijX0_others_5_4 {b : Nat} {cs : Nat → ClassId} {ad : Nat → Nat} {vs : Nat → Option Nat} {o : Nat}  {Q : Int32 → XS → Prop} (N k0 : Nat) (hN : N < 2147483648) (h0 : k0 ≤ N) (P : Nat → Int32 → Int32 → Int32 → XS → Prop) (step : ∀ (K5 : Int32 → Int32 → Int32 → Int32 → XS → Prop) (k : Nat) (x1 : Int32) (x2 : Int32) (x3 : Int32) (f : XS), k0 ≤ k → k ≤ N → P k x1 x2 x3 f → (∀ (y1 : Int32) (y2 : Int32) (y3 : Int32) (f' : XS), k < N → P (k + 1) y1 y2 y3 f' → K5 y1 y2 y3 (Int32.ofNat (k + 1)) f') → wbX0_others_5 b cs ad vs o K5 Q x1 x2 x3 (Int32.ofNat k) f) (x1 : Int32) (x2 : Int32) (x3 : Int32) (f : XS) (hP : P k0 x1 x2 x3 f) : ∃ n : Nat, wlX0_others_5 b cs ad vs o  Q n x1 x2 x3 (Int32.ofNat k0) f := by
  refine ilX0_others_5 (fun x1 x2 x3 x4 f => ∃ k, k0 ≤ k ∧ k ≤ N ∧ x4 = Int32.ofNat k ∧ P k x1 x2 x3 f) (fun x1 x2 x3 x4 _ => N - x4.toNatClampNeg) ?_ _ _ _ _ _ ⟨k0, Nat.le_refl _, h0, rfl, hP⟩
  intro K x1 x2 x3 x4 f hI hK
  obtain ⟨k, h1, h2, rfl, h3⟩ := hI
  refine step K k x1 x2 x3 f h1 h2 h3 (fun y1 y2 y3 f' h4 h5 => hK _ _ _ _ _ ⟨k + 1, by omega, by omega, rfl, h5⟩ ?_)
  show N - (Int32.ofNat (k + 1)).toNatClampNeg < N - (Int32.ofNat k).toNatClampNeg
  rw [n_clamp (by omega), n_clamp (by omega)]
  omega
theorem ijX0_worthAt_8_2 {b : Nat} {cs : Nat → ClassId} {ad : Nat → Nat} {vs : Nat → Option Nat} {o : Nat} {K67 : Nat → Int32 → Int32 → XS → Prop} {Q : Int32 → XS → Prop} (N k0 : Nat) (hN : N < 2147483648) (h0 : k0 ≤ N) (P : Nat → Nat → Int32 → Int32 → Int32 → XS → Prop) (step : ∀ (K8 : Nat → Int32 → Int32 → Int32 → Int32 → XS → Prop) (k : Nat) (x1 : Nat) (x3 : Int32) (x4 : Int32) (x5 : Int32) (f : XS), k0 ≤ k → k ≤ N → P k x1 x3 x4 x5 f → (∀ (y1 : Nat) (y3 : Int32) (y4 : Int32) (y5 : Int32) (f' : XS), k < N → P (k + 1) y1 y3 y4 y5 f' → K8 y1 (Int32.ofNat (k + 1)) y3 y4 y5 f') → wbX0_worthAt_8 b cs ad vs o K8 K67 Q x1 (Int32.ofNat k) x3 x4 x5 f) (x1 : Nat) (x3 : Int32) (x4 : Int32) (x5 : Int32) (f : XS) (hP : P k0 x1 x3 x4 x5 f) : ∃ n : Nat, wlX0_worthAt_8 b cs ad vs o K67 Q n x1 (Int32.ofNat k0) x3 x4 x5 f := by
  refine ilX0_worthAt_8 (fun x1 x2 x3 x4 x5 f => ∃ k, k0 ≤ k ∧ k ≤ N ∧ x2 = Int32.ofNat k ∧ P k x1 x3 x4 x5 f) (fun x1 x2 x3 x4 x5 _ => N - x2.toNatClampNeg) ?_ _ _ _ _ _ _ ⟨k0, Nat.le_refl _, h0, rfl, hP⟩
  intro K x1 x2 x3 x4 x5 f hI hK
  obtain ⟨k, h1, h2, rfl, h3⟩ := hI
  refine step K k x1 x3 x4 x5 f h1 h2 h3 (fun y1 y3 y4 y5 f' h4 h5 => hK _ _ _ _ _ _ ⟨k + 1, by omega, by omega, rfl, h5⟩ ?_)
  show N - (Int32.ofNat (k + 1)).toNatClampNeg < N - (Int32.ofNat k).toNatClampNeg
  rw [n_clamp (by omega), n_clamp (by omega)]
  omega
theorem ijX0_worthAt_8_3 {b : Nat} {cs : Nat → ClassId} {ad : Nat → Nat} {vs : Nat → Option Nat} {o : Nat} {K67 : Nat → Int32 → Int32 → XS → Prop} {Q : Int32 → XS → Prop} (N k0 : Nat) (hN : N < 2147483648) (h0 : k0 ≤ N) (P : Nat → Nat → Int32 → Int32 → Int32 → XS → Prop) (step : ∀ (K8 : Nat → Int32 → Int32 → Int32 → Int32 → XS → Prop) (k : Nat) (x1 : Nat) (x2 : Int32) (x4 : Int32) (x5 : Int32) (f : XS), k0 ≤ k → k ≤ N → P k x1 x2 x4 x5 f → (∀ (y1 : Nat) (y2 : Int32) (y4 : Int32) (y5 : Int32) (f' : XS), k < N → P (k + 1) y1 y2 y4 y5 f' → K8 y1 y2 (Int32.ofNat (k + 1)) y4 y5 f') → wbX0_worthAt_8 b cs ad vs o K8 K67 Q x1 x2 (Int32.ofNat k) x4 x5 f) (x1 : Nat) (x2 : Int32) (x4 : Int32) (x5 : Int32) (f : XS) (hP : P k0 x1 x2 x4 x5 f) : ∃ n : Nat, wlX0_worthAt_8 b cs ad vs o K67 Q n x1 x2 (Int32.ofNat k0) x4 x5 f := by
  refine ilX0_worthAt_8 (fun x1 x2 x3 x4 x5 f => ∃ k, k0 ≤ k ∧ k ≤ N ∧ x3 = Int32.ofNat k ∧ P k x1 x2 x4 x5 f) (fun x1 x2 x3 x4 x5 _ => N - x3.toNatClampNeg) ?_ _ _ _ _ _ _ ⟨k0, Nat.le_refl _, h0, rfl, hP⟩
  intro K x1 x2 x3 x4 x5 f hI hK
  obtain ⟨k, h1, h2, rfl, h3⟩ := hI
  refine step K k x1 x2 x4 x5 f h1 h2 h3 (fun y1 y2 y4 y5 f' h4 h5 => hK _ _ _ _ _ _ ⟨k + 1, by omega, by omega, rfl, h5⟩ ?_)
  show N - (Int32.ofNat (k + 1)).toNatClampNeg < N - (Int32.ofNat k).toNatClampNeg
  rw [n_clamp (by omega), n_clamp (by omega)]
  omega
theorem ijX0_worthAt_8_4 {b : Nat} {cs : Nat → ClassId} {ad : Nat → Nat} {vs : Nat → Option Nat} {o : Nat} {K67 : Nat → Int32 → Int32 → XS → Prop} {Q : Int32 → XS → Prop} (N k0 : Nat) (hN : N < 2147483648) (h0 : k0 ≤ N) (P : Nat → Nat → Int32 → Int32 → Int32 → XS → Prop) (step : ∀ (K8 : Nat → Int32 → Int32 → Int32 → Int32 → XS → Prop) (k : Nat) (x1 : Nat) (x2 : Int32) (x3 : Int32) (x5 : Int32) (f : XS), k0 ≤ k → k ≤ N → P k x1 x2 x3 x5 f → (∀ (y1 : Nat) (y2 : Int32) (y3 : Int32) (y5 : Int32) (f' : XS), k < N → P (k + 1) y1 y2 y3 y5 f' → K8 y1 y2 y3 (Int32.ofNat (k + 1)) y5 f') → wbX0_worthAt_8 b cs ad vs o K8 K67 Q x1 x2 x3 (Int32.ofNat k) x5 f) (x1 : Nat) (x2 : Int32) (x3 : Int32) (x5 : Int32) (f : XS) (hP : P k0 x1 x2 x3 x5 f) : ∃ n : Nat, wlX0_worthAt_8 b cs ad vs o K67 Q n x1 x2 x3 (Int32.ofNat k0) x5 f := by
  refine ilX0_worthAt_8 (fun x1 x2 x3 x4 x5 f => ∃ k, k0 ≤ k ∧ k ≤ N ∧ x4 = Int32.ofNat k ∧ P k x1 x2 x3 x5 f) (fun x1 x2 x3 x4 x5 _ => N - x4.toNatClampNeg) ?_ _ _ _ _ _ _ ⟨k0, Nat.le_refl _, h0, rfl, hP⟩
  intro K x1 x2 x3 x4 x5 f hI hK
  obtain ⟨k, h1, h2, rfl, h3⟩ := hI
  refine step K k x1 x2 x3 x5 f h1 h2 h3 (fun y1 y2 y3 y5 f' h4 h5 => hK _ _ _ _ _ _ ⟨k + 1, by omega, by omega, rfl, h5⟩ ?_)
  show N - (Int32.ofNat (k + 1)).toNatClampNeg < N - (Int32.ofNat k).toNatClampNeg
  rw [n_clamp (by omega), n_clamp (by omega)]
  omega
theorem ijX0_worthAt_8_5 {b : Nat} {cs : Nat → ClassId} {ad : Nat → Nat} {vs : Nat → Option Nat} {o : Nat} {K67 : Nat → Int32 → Int32 → XS → Prop} {Q : Int32 → XS → Prop} (N k0 : Nat) (hN : N < 2147483648) (h0 : k0 ≤ N) (P : Nat → Nat → Int32 → Int32 → Int32 → XS → Prop) (step : ∀ (K8 : Nat → Int32 → Int32 → Int32 → Int32 → XS → Prop) (k : Nat) (x1 : Nat) (x2 : Int32) (x3 : Int32) (x4 : Int32) (f : XS), k0 ≤ k → k ≤ N → P k x1 x2 x3 x4 f → (∀ (y1 : Nat) (y2 : Int32) (y3 : Int32) (y4 : Int32) (f' : XS), k < N → P (k + 1) y1 y2 y3 y4 f' → K8 y1 y2 y3 y4 (Int32.ofNat (k + 1)) f') → wbX0_worthAt_8 b cs ad vs o K8 K67 Q x1 x2 x3 x4 (Int32.ofNat k) f) (x1 : Nat) (x2 : Int32) (x3 : Int32) (x4 : Int32) (f : XS) (hP : P k0 x1 x2 x3 x4 f) : ∃ n : Nat, wlX0_worthAt_8 b cs ad vs o K67 Q n x1 x2 x3 x4 (Int32.ofNat k0) f := by
  refine ilX0_worthAt_8 (fun x1 x2 x3 x4 x5 f => ∃ k, k0 ≤ k ∧ k ≤ N ∧ x5 = Int32.ofNat k ∧ P k x1 x2 x3 x4 f) (fun x1 x2 x3 x4 x5 _ => N - x5.toNatClampNeg) ?_ _ _ _ _ _ _ ⟨k0, Nat.le_refl _, h0, rfl, hP⟩
  intro K x1 x2 x3 x4 x5 f hI hK
  obtain ⟨k, h1, h2, rfl, h3⟩ := hI
  refine step K k x1 x2 x3 x4 f h1 h2 h3 (fun y1 y2 y3 y4 f' h4 h5 => hK _ _ _ _ _ _ ⟨k + 1, by omega, by omega, rfl, h5⟩ ?_)
  show N - (Int32.ofNat (k + 1)).toNatClampNeg < N - (Int32.ofNat k).toNatClampNeg
  rw [n_clamp (by omega), n_clamp (by omega)]
  omega
theorem ijX0_judge_83_1 {b : Nat} {cs : Nat → ClassId} {ad : Nat → Nat} {vs : Nat → Option Nat} {o : Nat}  {Q : Int64 → XS → Prop} (N k0 : Nat) (hN : N < 2147483648) (h0 : k0 ≤ N) (P : Nat → Int64 → Int32 → XS → Prop) (step : ∀ (K83 : Int32 → Int64 → Int32 → XS → Prop) (k : Nat) (x4 : Int64) (x6 : Int32) (f : XS), k0 ≤ k → k ≤ N → P k x4 x6 f → (∀ (y4 : Int64) (y6 : Int32) (f' : XS), k < N → P (k + 1) y4 y6 f' → K83 (Int32.ofNat (k + 1)) y4 y6 f') → wbX0_judge_83 b cs ad vs o K83 Q (Int32.ofNat k) x4 x6 f) (x4 : Int64) (x6 : Int32) (f : XS) (hP : P k0 x4 x6 f) : ∃ n : Nat, wlX0_judge_83 b cs ad vs o  Q n (Int32.ofNat k0) x4 x6 f := by
  refine ilX0_judge_83 (fun x1 x4 x6 f => ∃ k, k0 ≤ k ∧ k ≤ N ∧ x1 = Int32.ofNat k ∧ P k x4 x6 f) (fun x1 x4 x6 _ => N - x1.toNatClampNeg) ?_ _ _ _ _ ⟨k0, Nat.le_refl _, h0, rfl, hP⟩
  intro K x1 x4 x6 f hI hK
  obtain ⟨k, h1, h2, rfl, h3⟩ := hI
  refine step K k x4 x6 f h1 h2 h3 (fun y4 y6 f' h4 h5 => hK _ _ _ _ ⟨k + 1, by omega, by omega, rfl, h5⟩ ?_)
  show N - (Int32.ofNat (k + 1)).toNatClampNeg < N - (Int32.ofNat k).toNatClampNeg
  rw [n_clamp (by omega), n_clamp (by omega)]
  omega
theorem ijX0_judge_83_6 {b : Nat} {cs : Nat → ClassId} {ad : Nat → Nat} {vs : Nat → Option Nat} {o : Nat}  {Q : Int64 → XS → Prop} (N k0 : Nat) (hN : N < 2147483648) (h0 : k0 ≤ N) (P : Nat → Int32 → Int64 → XS → Prop) (step : ∀ (K83 : Int32 → Int64 → Int32 → XS → Prop) (k : Nat) (x1 : Int32) (x4 : Int64) (f : XS), k0 ≤ k → k ≤ N → P k x1 x4 f → (∀ (y1 : Int32) (y4 : Int64) (f' : XS), k < N → P (k + 1) y1 y4 f' → K83 y1 y4 (Int32.ofNat (k + 1)) f') → wbX0_judge_83 b cs ad vs o K83 Q x1 x4 (Int32.ofNat k) f) (x1 : Int32) (x4 : Int64) (f : XS) (hP : P k0 x1 x4 f) : ∃ n : Nat, wlX0_judge_83 b cs ad vs o  Q n x1 x4 (Int32.ofNat k0) f := by
  refine ilX0_judge_83 (fun x1 x4 x6 f => ∃ k, k0 ≤ k ∧ k ≤ N ∧ x6 = Int32.ofNat k ∧ P k x1 x4 f) (fun x1 x4 x6 _ => N - x6.toNatClampNeg) ?_ _ _ _ _ ⟨k0, Nat.le_refl _, h0, rfl, hP⟩
  intro K x1 x4 x6 f hI hK
  obtain ⟨k, h1, h2, rfl, h3⟩ := hI
  refine step K k x1 x4 f h1 h2 h3 (fun y1 y4 f' h4 h5 => hK _ _ _ _ ⟨k + 1, by omega, by omega, rfl, h5⟩ ?_)
  show N - (Int32.ofNat (k + 1)).toNatClampNeg < N - (Int32.ofNat k).toNatClampNeg
  rw [n_clamp (by omega), n_clamp (by omega)]
  omega
theorem ijX0_wholeWorth_58_3 {b : Nat} {cs : Nat → ClassId} {ad : Nat → Nat} {vs : Nat → Option Nat} {o : Nat} {K174 : Int64 → Int32 → Int32 → Int32 → XS → Prop} {Q : Int64 → XS → Prop} (N k0 : Nat) (hN : N < 2147483648) (h0 : k0 ≤ N) (P : Nat → Int64 → Int32 → Int32 → Int32 → Int32 → XS → Prop) (step : ∀ (K58 : Int64 → Int32 → Int32 → Int32 → Int32 → Int32 → XS → Prop) (k : Nat) (x1 : Int64) (x4 : Int32) (x5 : Int32) (x6 : Int32) (x7 : Int32) (f : XS), k0 ≤ k → k ≤ N → P k x1 x4 x5 x6 x7 f → (∀ (y1 : Int64) (y4 : Int32) (y5 : Int32) (y6 : Int32) (y7 : Int32) (f' : XS), k < N → P (k + 1) y1 y4 y5 y6 y7 f' → K58 y1 (Int32.ofNat (k + 1)) y4 y5 y6 y7 f') → wbX0_wholeWorth_58 b cs ad vs o K58 K174 Q x1 (Int32.ofNat k) x4 x5 x6 x7 f) (x1 : Int64) (x4 : Int32) (x5 : Int32) (x6 : Int32) (x7 : Int32) (f : XS) (hP : P k0 x1 x4 x5 x6 x7 f) : ∃ n : Nat, wlX0_wholeWorth_58 b cs ad vs o K174 Q n x1 (Int32.ofNat k0) x4 x5 x6 x7 f := by
  refine ilX0_wholeWorth_58 (fun x1 x3 x4 x5 x6 x7 f => ∃ k, k0 ≤ k ∧ k ≤ N ∧ x3 = Int32.ofNat k ∧ P k x1 x4 x5 x6 x7 f) (fun x1 x3 x4 x5 x6 x7 _ => N - x3.toNatClampNeg) ?_ _ _ _ _ _ _ _ ⟨k0, Nat.le_refl _, h0, rfl, hP⟩
  intro K x1 x3 x4 x5 x6 x7 f hI hK
  obtain ⟨k, h1, h2, rfl, h3⟩ := hI
  refine step K k x1 x4 x5 x6 x7 f h1 h2 h3 (fun y1 y4 y5 y6 y7 f' h4 h5 => hK _ _ _ _ _ _ _ ⟨k + 1, by omega, by omega, rfl, h5⟩ ?_)
  show N - (Int32.ofNat (k + 1)).toNatClampNeg < N - (Int32.ofNat k).toNatClampNeg
  rw [n_clamp (by omega), n_clamp (by omega)]
  omega
theorem ijX0_wholeWorth_58_4 {b : Nat} {cs : Nat → ClassId} {ad : Nat → Nat} {vs : Nat → Option Nat} {o : Nat} {K174 : Int64 → Int32 → Int32 → Int32 → XS → Prop} {Q : Int64 → XS → Prop} (N k0 : Nat) (hN : N < 2147483648) (h0 : k0 ≤ N) (P : Nat → Int64 → Int32 → Int32 → Int32 → Int32 → XS → Prop) (step : ∀ (K58 : Int64 → Int32 → Int32 → Int32 → Int32 → Int32 → XS → Prop) (k : Nat) (x1 : Int64) (x3 : Int32) (x5 : Int32) (x6 : Int32) (x7 : Int32) (f : XS), k0 ≤ k → k ≤ N → P k x1 x3 x5 x6 x7 f → (∀ (y1 : Int64) (y3 : Int32) (y5 : Int32) (y6 : Int32) (y7 : Int32) (f' : XS), k < N → P (k + 1) y1 y3 y5 y6 y7 f' → K58 y1 y3 (Int32.ofNat (k + 1)) y5 y6 y7 f') → wbX0_wholeWorth_58 b cs ad vs o K58 K174 Q x1 x3 (Int32.ofNat k) x5 x6 x7 f) (x1 : Int64) (x3 : Int32) (x5 : Int32) (x6 : Int32) (x7 : Int32) (f : XS) (hP : P k0 x1 x3 x5 x6 x7 f) : ∃ n : Nat, wlX0_wholeWorth_58 b cs ad vs o K174 Q n x1 x3 (Int32.ofNat k0) x5 x6 x7 f := by
  refine ilX0_wholeWorth_58 (fun x1 x3 x4 x5 x6 x7 f => ∃ k, k0 ≤ k ∧ k ≤ N ∧ x4 = Int32.ofNat k ∧ P k x1 x3 x5 x6 x7 f) (fun x1 x3 x4 x5 x6 x7 _ => N - x4.toNatClampNeg) ?_ _ _ _ _ _ _ _ ⟨k0, Nat.le_refl _, h0, rfl, hP⟩
  intro K x1 x3 x4 x5 x6 x7 f hI hK
  obtain ⟨k, h1, h2, rfl, h3⟩ := hI
  refine step K k x1 x3 x5 x6 x7 f h1 h2 h3 (fun y1 y3 y5 y6 y7 f' h4 h5 => hK _ _ _ _ _ _ _ ⟨k + 1, by omega, by omega, rfl, h5⟩ ?_)
  show N - (Int32.ofNat (k + 1)).toNatClampNeg < N - (Int32.ofNat k).toNatClampNeg
  rw [n_clamp (by omega), n_clamp (by omega)]
  omega
theorem ijX0_wholeWorth_58_5 {b : Nat} {cs : Nat → ClassId} {ad : Nat → Nat} {vs : Nat → Option Nat} {o : Nat} {K174 : Int64 → Int32 → Int32 → Int32 → XS → Prop} {Q : Int64 → XS → Prop} (N k0 : Nat) (hN : N < 2147483648) (h0 : k0 ≤ N) (P : Nat → Int64 → Int32 → Int32 → Int32 → Int32 → XS → Prop) (step : ∀ (K58 : Int64 → Int32 → Int32 → Int32 → Int32 → Int32 → XS → Prop) (k : Nat) (x1 : Int64) (x3 : Int32) (x4 : Int32) (x6 : Int32) (x7 : Int32) (f : XS), k0 ≤ k → k ≤ N → P k x1 x3 x4 x6 x7 f → (∀ (y1 : Int64) (y3 : Int32) (y4 : Int32) (y6 : Int32) (y7 : Int32) (f' : XS), k < N → P (k + 1) y1 y3 y4 y6 y7 f' → K58 y1 y3 y4 (Int32.ofNat (k + 1)) y6 y7 f') → wbX0_wholeWorth_58 b cs ad vs o K58 K174 Q x1 x3 x4 (Int32.ofNat k) x6 x7 f) (x1 : Int64) (x3 : Int32) (x4 : Int32) (x6 : Int32) (x7 : Int32) (f : XS) (hP : P k0 x1 x3 x4 x6 x7 f) : ∃ n : Nat, wlX0_wholeWorth_58 b cs ad vs o K174 Q n x1 x3 x4 (Int32.ofNat k0) x6 x7 f := by
  refine ilX0_wholeWorth_58 (fun x1 x3 x4 x5 x6 x7 f => ∃ k, k0 ≤ k ∧ k ≤ N ∧ x5 = Int32.ofNat k ∧ P k x1 x3 x4 x6 x7 f) (fun x1 x3 x4 x5 x6 x7 _ => N - x5.toNatClampNeg) ?_ _ _ _ _ _ _ _ ⟨k0, Nat.le_refl _, h0, rfl, hP⟩
  intro K x1 x3 x4 x5 x6 x7 f hI hK
  obtain ⟨k, h1, h2, rfl, h3⟩ := hI
  refine step K k x1 x3 x4 x6 x7 f h1 h2 h3 (fun y1 y3 y4 y6 y7 f' h4 h5 => hK _ _ _ _ _ _ _ ⟨k + 1, by omega, by omega, rfl, h5⟩ ?_)
  show N - (Int32.ofNat (k + 1)).toNatClampNeg < N - (Int32.ofNat k).toNatClampNeg
  rw [n_clamp (by omega), n_clamp (by omega)]
  omega
theorem ijX0_wholeWorth_58_6 {b : Nat} {cs : Nat → ClassId} {ad : Nat → Nat} {vs : Nat → Option Nat} {o : Nat} {K174 : Int64 → Int32 → Int32 → Int32 → XS → Prop} {Q : Int64 → XS → Prop} (N k0 : Nat) (hN : N < 2147483648) (h0 : k0 ≤ N) (P : Nat → Int64 → Int32 → Int32 → Int32 → Int32 → XS → Prop) (step : ∀ (K58 : Int64 → Int32 → Int32 → Int32 → Int32 → Int32 → XS → Prop) (k : Nat) (x1 : Int64) (x3 : Int32) (x4 : Int32) (x5 : Int32) (x7 : Int32) (f : XS), k0 ≤ k → k ≤ N → P k x1 x3 x4 x5 x7 f → (∀ (y1 : Int64) (y3 : Int32) (y4 : Int32) (y5 : Int32) (y7 : Int32) (f' : XS), k < N → P (k + 1) y1 y3 y4 y5 y7 f' → K58 y1 y3 y4 y5 (Int32.ofNat (k + 1)) y7 f') → wbX0_wholeWorth_58 b cs ad vs o K58 K174 Q x1 x3 x4 x5 (Int32.ofNat k) x7 f) (x1 : Int64) (x3 : Int32) (x4 : Int32) (x5 : Int32) (x7 : Int32) (f : XS) (hP : P k0 x1 x3 x4 x5 x7 f) : ∃ n : Nat, wlX0_wholeWorth_58 b cs ad vs o K174 Q n x1 x3 x4 x5 (Int32.ofNat k0) x7 f := by
  refine ilX0_wholeWorth_58 (fun x1 x3 x4 x5 x6 x7 f => ∃ k, k0 ≤ k ∧ k ≤ N ∧ x6 = Int32.ofNat k ∧ P k x1 x3 x4 x5 x7 f) (fun x1 x3 x4 x5 x6 x7 _ => N - x6.toNatClampNeg) ?_ _ _ _ _ _ _ _ ⟨k0, Nat.le_refl _, h0, rfl, hP⟩
  intro K x1 x3 x4 x5 x6 x7 f hI hK
  obtain ⟨k, h1, h2, rfl, h3⟩ := hI
  refine step K k x1 x3 x4 x5 x7 f h1 h2 h3 (fun y1 y3 y4 y5 y7 f' h4 h5 => hK _ _ _ _ _ _ _ ⟨k + 1, by omega, by omega, rfl, h5⟩ ?_)
  show N - (Int32.ofNat (k + 1)).toNatClampNeg < N - (Int32.ofNat k).toNatClampNeg
  rw [n_clamp (by omega), n_clamp (by omega)]
  omega
theorem ijX0_wholeWorth_58_7 {b : Nat} {cs : Nat → ClassId} {ad : Nat → Nat} {vs : Nat → Option Nat} {o : Nat} {K174 : Int64 → Int32 → Int32 → Int32 → XS → Prop} {Q : Int64 → XS → Prop} (N k0 : Nat) (hN : N < 2147483648) (h0 : k0 ≤ N) (P : Nat → Int64 → Int32 → Int32 → Int32 → Int32 → XS → Prop) (step : ∀ (K58 : Int64 → Int32 → Int32 → Int32 → Int32 → Int32 → XS → Prop) (k : Nat) (x1 : Int64) (x3 : Int32) (x4 : Int32) (x5 : Int32) (x6 : Int32) (f : XS), k0 ≤ k → k ≤ N → P k x1 x3 x4 x5 x6 f → (∀ (y1 : Int64) (y3 : Int32) (y4 : Int32) (y5 : Int32) (y6 : Int32) (f' : XS), k < N → P (k + 1) y1 y3 y4 y5 y6 f' → K58 y1 y3 y4 y5 y6 (Int32.ofNat (k + 1)) f') → wbX0_wholeWorth_58 b cs ad vs o K58 K174 Q x1 x3 x4 x5 x6 (Int32.ofNat k) f) (x1 : Int64) (x3 : Int32) (x4 : Int32) (x5 : Int32) (x6 : Int32) (f : XS) (hP : P k0 x1 x3 x4 x5 x6 f) : ∃ n : Nat, wlX0_wholeWorth_58 b cs ad vs o K174 Q n x1 x3 x4 x5 x6 (Int32.ofNat k0) f := by
  refine ilX0_wholeWorth_58 (fun x1 x3 x4 x5 x6 x7 f => ∃ k, k0 ≤ k ∧ k ≤ N ∧ x7 = Int32.ofNat k ∧ P k x1 x3 x4 x5 x6 f) (fun x1 x3 x4 x5 x6 x7 _ => N - x7.toNatClampNeg) ?_ _ _ _ _ _ _ _ ⟨k0, Nat.le_refl _, h0, rfl, hP⟩
  intro K x1 x3 x4 x5 x6 x7 f hI hK
  obtain ⟨k, h1, h2, rfl, h3⟩ := hI
  refine step K k x1 x3 x4 x5 x6 f h1 h2 h3 (fun y1 y3 y4 y5 y6 f' h4 h5 => hK _ _ _ _ _ _ _ ⟨k + 1, by omega, by omega, rfl, h5⟩ ?_)
  show N - (Int32.ofNat (k + 1)).toNatClampNeg < N - (Int32.ofNat k).toNatClampNeg
  rw [n_clamp (by omega), n_clamp (by omega)]
  omega
theorem ijX0_wholeWorth_4_3 {b : Nat} {cs : Nat → ClassId} {ad : Nat → Nat} {vs : Nat → Option Nat} {o : Nat}  {Q : Int64 → XS → Prop} (N k0 : Nat) (hN : N < 2147483648) (h0 : k0 ≤ N) (P : Nat → Int64 → XS → Prop) (step : ∀ (K4 : Int64 → Int32 → XS → Prop) (k : Nat) (x1 : Int64) (f : XS), k0 ≤ k → k ≤ N → P k x1 f → (∀ (y1 : Int64) (f' : XS), k < N → P (k + 1) y1 f' → K4 y1 (Int32.ofNat (k + 1)) f') → wbX0_wholeWorth_4 b cs ad vs o K4 Q x1 (Int32.ofNat k) f) (x1 : Int64) (f : XS) (hP : P k0 x1 f) : ∃ n : Nat, wlX0_wholeWorth_4 b cs ad vs o  Q n x1 (Int32.ofNat k0) f := by
  refine ilX0_wholeWorth_4 (fun x1 x3 f => ∃ k, k0 ≤ k ∧ k ≤ N ∧ x3 = Int32.ofNat k ∧ P k x1 f) (fun x1 x3 _ => N - x3.toNatClampNeg) ?_ _ _ _ ⟨k0, Nat.le_refl _, h0, rfl, hP⟩
  intro K x1 x3 f hI hK
  obtain ⟨k, h1, h2, rfl, h3⟩ := hI
  refine step K k x1 f h1 h2 h3 (fun y1 f' h4 h5 => hK _ _ _ ⟨k + 1, by omega, by omega, rfl, h5⟩ ?_)
  show N - (Int32.ofNat (k + 1)).toNatClampNeg < N - (Int32.ofNat k).toNatClampNeg
  rw [n_clamp (by omega), n_clamp (by omega)]
  omega
theorem ijX0_moved_4_1 {b : Nat} {cs : Nat → ClassId} {ad : Nat → Nat} {vs : Nat → Option Nat} {o : Nat}  {Q : Int32 → XS → Prop} (N k0 : Nat) (hN : N < 2147483648) (h0 : k0 ≤ N) (P : Nat → Int32 → XS → Prop) (step : ∀ (K4 : Int32 → Int32 → XS → Prop) (k : Nat) (x2 : Int32) (f : XS), k0 ≤ k → k ≤ N → P k x2 f → (∀ (y2 : Int32) (f' : XS), k < N → P (k + 1) y2 f' → K4 (Int32.ofNat (k + 1)) y2 f') → wbX0_moved_4 b cs ad vs o K4 Q (Int32.ofNat k) x2 f) (x2 : Int32) (f : XS) (hP : P k0 x2 f) : ∃ n : Nat, wlX0_moved_4 b cs ad vs o  Q n (Int32.ofNat k0) x2 f := by
  refine ilX0_moved_4 (fun x1 x2 f => ∃ k, k0 ≤ k ∧ k ≤ N ∧ x1 = Int32.ofNat k ∧ P k x2 f) (fun x1 x2 _ => N - x1.toNatClampNeg) ?_ _ _ _ ⟨k0, Nat.le_refl _, h0, rfl, hP⟩
  intro K x1 x2 f hI hK
  obtain ⟨k, h1, h2, rfl, h3⟩ := hI
  refine step K k x2 f h1 h2 h3 (fun y2 f' h4 h5 => hK _ _ _ ⟨k + 1, by omega, by omega, rfl, h5⟩ ?_)
  show N - (Int32.ofNat (k + 1)).toNatClampNeg < N - (Int32.ofNat k).toNatClampNeg
  rw [n_clamp (by omega), n_clamp (by omega)]
  omega
theorem ijX0_moved_4_2 {b : Nat} {cs : Nat → ClassId} {ad : Nat → Nat} {vs : Nat → Option Nat} {o : Nat}  {Q : Int32 → XS → Prop} (N k0 : Nat) (hN : N < 2147483648) (h0 : k0 ≤ N) (P : Nat → Int32 → XS → Prop) (step : ∀ (K4 : Int32 → Int32 → XS → Prop) (k : Nat) (x1 : Int32) (f : XS), k0 ≤ k → k ≤ N → P k x1 f → (∀ (y1 : Int32) (f' : XS), k < N → P (k + 1) y1 f' → K4 y1 (Int32.ofNat (k + 1)) f') → wbX0_moved_4 b cs ad vs o K4 Q x1 (Int32.ofNat k) f) (x1 : Int32) (f : XS) (hP : P k0 x1 f) : ∃ n : Nat, wlX0_moved_4 b cs ad vs o  Q n x1 (Int32.ofNat k0) f := by
  refine ilX0_moved_4 (fun x1 x2 f => ∃ k, k0 ≤ k ∧ k ≤ N ∧ x2 = Int32.ofNat k ∧ P k x1 f) (fun x1 x2 _ => N - x2.toNatClampNeg) ?_ _ _ _ ⟨k0, Nat.le_refl _, h0, rfl, hP⟩
  intro K x1 x2 f hI hK
  obtain ⟨k, h1, h2, rfl, h3⟩ := hI
  refine step K k x1 f h1 h2 h3 (fun y1 f' h4 h5 => hK _ _ _ ⟨k + 1, by omega, by omega, rfl, h5⟩ ?_)
  show N - (Int32.ofNat (k + 1)).toNatClampNeg < N - (Int32.ofNat k).toNatClampNeg
  rw [n_clamp (by omega), n_clamp (by omega)]
  omega
theorem ijX0_barsAhead_2_1 {b : Nat} {cs : Nat → ClassId} {ad : Nat → Nat} {vs : Nat → Option Nat} {o : Nat}  {Q : Int32 → XS → Prop} (N k0 : Nat) (hN : N < 2147483648) (h0 : k0 ≤ N) (P : Nat → Int32 → XS → Prop) (step : ∀ (K2 : Int32 → Int32 → XS → Prop) (k : Nat) (x2 : Int32) (f : XS), k0 ≤ k → k ≤ N → P k x2 f → (∀ (y2 : Int32) (f' : XS), k < N → P (k + 1) y2 f' → K2 (Int32.ofNat (k + 1)) y2 f') → wbX0_barsAhead_2 b cs ad vs o K2 Q (Int32.ofNat k) x2 f) (x2 : Int32) (f : XS) (hP : P k0 x2 f) : ∃ n : Nat, wlX0_barsAhead_2 b cs ad vs o  Q n (Int32.ofNat k0) x2 f := by
  refine ilX0_barsAhead_2 (fun x1 x2 f => ∃ k, k0 ≤ k ∧ k ≤ N ∧ x1 = Int32.ofNat k ∧ P k x2 f) (fun x1 x2 _ => N - x1.toNatClampNeg) ?_ _ _ _ ⟨k0, Nat.le_refl _, h0, rfl, hP⟩
  intro K x1 x2 f hI hK
  obtain ⟨k, h1, h2, rfl, h3⟩ := hI
  refine step K k x2 f h1 h2 h3 (fun y2 f' h4 h5 => hK _ _ _ ⟨k + 1, by omega, by omega, rfl, h5⟩ ?_)
  show N - (Int32.ofNat (k + 1)).toNatClampNeg < N - (Int32.ofNat k).toNatClampNeg
  rw [n_clamp (by omega), n_clamp (by omega)]
  omega
theorem ijX0_barsAhead_2_2 {b : Nat} {cs : Nat → ClassId} {ad : Nat → Nat} {vs : Nat → Option Nat} {o : Nat}  {Q : Int32 → XS → Prop} (N k0 : Nat) (hN : N < 2147483648) (h0 : k0 ≤ N) (P : Nat → Int32 → XS → Prop) (step : ∀ (K2 : Int32 → Int32 → XS → Prop) (k : Nat) (x1 : Int32) (f : XS), k0 ≤ k → k ≤ N → P k x1 f → (∀ (y1 : Int32) (f' : XS), k < N → P (k + 1) y1 f' → K2 y1 (Int32.ofNat (k + 1)) f') → wbX0_barsAhead_2 b cs ad vs o K2 Q x1 (Int32.ofNat k) f) (x1 : Int32) (f : XS) (hP : P k0 x1 f) : ∃ n : Nat, wlX0_barsAhead_2 b cs ad vs o  Q n x1 (Int32.ofNat k0) f := by
  refine ilX0_barsAhead_2 (fun x1 x2 f => ∃ k, k0 ≤ k ∧ k ≤ N ∧ x2 = Int32.ofNat k ∧ P k x1 f) (fun x1 x2 _ => N - x2.toNatClampNeg) ?_ _ _ _ ⟨k0, Nat.le_refl _, h0, rfl, hP⟩
  intro K x1 x2 f hI hK
  obtain ⟨k, h1, h2, rfl, h3⟩ := hI
  refine step K k x1 f h1 h2 h3 (fun y1 f' h4 h5 => hK _ _ _ ⟨k + 1, by omega, by omega, rfl, h5⟩ ?_)
  show N - (Int32.ofNat (k + 1)).toNatClampNeg < N - (Int32.ofNat k).toNatClampNeg
  rw [n_clamp (by omega), n_clamp (by omega)]
  omega
theorem ijX0_walks_34_1 {b : Nat} {cs : Nat → ClassId} {ad : Nat → Nat} {vs : Nat → Option Nat} {o : Nat} {NW : XS → Int32 → (Int32 → XS → Prop) → Prop} {K85 : Int32 → XS → Prop} {Q : Int32 → XS → Prop} (N k0 : Nat) (hN : N < 2147483648) (h0 : k0 ≤ N) (P : Nat → Int32 → XS → Prop) (step : ∀ (K34 : Int32 → Int32 → XS → Prop) (k : Nat) (x2 : Int32) (f : XS), k0 ≤ k → k ≤ N → P k x2 f → (∀ (y2 : Int32) (f' : XS), k < N → P (k + 1) y2 f' → K34 (Int32.ofNat (k + 1)) y2 f') → wbX0_walks_34 b cs ad vs o NW K34 K85 Q (Int32.ofNat k) x2 f) (x2 : Int32) (f : XS) (hP : P k0 x2 f) : ∃ n : Nat, wlX0_walks_34 b cs ad vs o NW K85 Q n (Int32.ofNat k0) x2 f := by
  refine ilX0_walks_34 (fun x1 x2 f => ∃ k, k0 ≤ k ∧ k ≤ N ∧ x1 = Int32.ofNat k ∧ P k x2 f) (fun x1 x2 _ => N - x1.toNatClampNeg) ?_ _ _ _ ⟨k0, Nat.le_refl _, h0, rfl, hP⟩
  intro K x1 x2 f hI hK
  obtain ⟨k, h1, h2, rfl, h3⟩ := hI
  refine step K k x2 f h1 h2 h3 (fun y2 f' h4 h5 => hK _ _ _ ⟨k + 1, by omega, by omega, rfl, h5⟩ ?_)
  show N - (Int32.ofNat (k + 1)).toNatClampNeg < N - (Int32.ofNat k).toNatClampNeg
  rw [n_clamp (by omega), n_clamp (by omega)]
  omega
theorem ijX0_walks_34_2 {b : Nat} {cs : Nat → ClassId} {ad : Nat → Nat} {vs : Nat → Option Nat} {o : Nat} {NW : XS → Int32 → (Int32 → XS → Prop) → Prop} {K85 : Int32 → XS → Prop} {Q : Int32 → XS → Prop} (N k0 : Nat) (hN : N < 2147483648) (h0 : k0 ≤ N) (P : Nat → Int32 → XS → Prop) (step : ∀ (K34 : Int32 → Int32 → XS → Prop) (k : Nat) (x1 : Int32) (f : XS), k0 ≤ k → k ≤ N → P k x1 f → (∀ (y1 : Int32) (f' : XS), k < N → P (k + 1) y1 f' → K34 y1 (Int32.ofNat (k + 1)) f') → wbX0_walks_34 b cs ad vs o NW K34 K85 Q x1 (Int32.ofNat k) f) (x1 : Int32) (f : XS) (hP : P k0 x1 f) : ∃ n : Nat, wlX0_walks_34 b cs ad vs o NW K85 Q n x1 (Int32.ofNat k0) f := by
  refine ilX0_walks_34 (fun x1 x2 f => ∃ k, k0 ≤ k ∧ k ≤ N ∧ x2 = Int32.ofNat k ∧ P k x1 f) (fun x1 x2 _ => N - x2.toNatClampNeg) ?_ _ _ _ ⟨k0, Nat.le_refl _, h0, rfl, hP⟩
  intro K x1 x2 f hI hK
  obtain ⟨k, h1, h2, rfl, h3⟩ := hI
  refine step K k x1 f h1 h2 h3 (fun y1 f' h4 h5 => hK _ _ _ ⟨k + 1, by omega, by omega, rfl, h5⟩ ?_)
  show N - (Int32.ofNat (k + 1)).toNatClampNeg < N - (Int32.ofNat k).toNatClampNeg
  rw [n_clamp (by omega), n_clamp (by omega)]
  omega
theorem ijX0_lays_33_1 {b : Nat} {cs : Nat → ClassId} {ad : Nat → Nat} {vs : Nat → Option Nat} {o : Nat} {K100 : Int32 → Int32 → Int32 → XS → Prop} {Q : XS → Prop} (N k0 : Nat) (hN : N < 2147483648) (h0 : k0 ≤ N) (P : Nat → Int32 → Int32 → Int32 → XS → Prop) (step : ∀ (K33 : Int32 → Int32 → Int32 → Int32 → XS → Prop) (k : Nat) (x2 : Int32) (x3 : Int32) (x4 : Int32) (f : XS), k0 ≤ k → k ≤ N → P k x2 x3 x4 f → (∀ (y2 : Int32) (y3 : Int32) (y4 : Int32) (f' : XS), k < N → P (k + 1) y2 y3 y4 f' → K33 (Int32.ofNat (k + 1)) y2 y3 y4 f') → wbX0_lays_33 b cs ad vs o K33 K100 Q (Int32.ofNat k) x2 x3 x4 f) (x2 : Int32) (x3 : Int32) (x4 : Int32) (f : XS) (hP : P k0 x2 x3 x4 f) : ∃ n : Nat, wlX0_lays_33 b cs ad vs o K100 Q n (Int32.ofNat k0) x2 x3 x4 f := by
  refine ilX0_lays_33 (fun x1 x2 x3 x4 f => ∃ k, k0 ≤ k ∧ k ≤ N ∧ x1 = Int32.ofNat k ∧ P k x2 x3 x4 f) (fun x1 x2 x3 x4 _ => N - x1.toNatClampNeg) ?_ _ _ _ _ _ ⟨k0, Nat.le_refl _, h0, rfl, hP⟩
  intro K x1 x2 x3 x4 f hI hK
  obtain ⟨k, h1, h2, rfl, h3⟩ := hI
  refine step K k x2 x3 x4 f h1 h2 h3 (fun y2 y3 y4 f' h4 h5 => hK _ _ _ _ _ ⟨k + 1, by omega, by omega, rfl, h5⟩ ?_)
  show N - (Int32.ofNat (k + 1)).toNatClampNeg < N - (Int32.ofNat k).toNatClampNeg
  rw [n_clamp (by omega), n_clamp (by omega)]
  omega
theorem ijX0_lays_33_2 {b : Nat} {cs : Nat → ClassId} {ad : Nat → Nat} {vs : Nat → Option Nat} {o : Nat} {K100 : Int32 → Int32 → Int32 → XS → Prop} {Q : XS → Prop} (N k0 : Nat) (hN : N < 2147483648) (h0 : k0 ≤ N) (P : Nat → Int32 → Int32 → Int32 → XS → Prop) (step : ∀ (K33 : Int32 → Int32 → Int32 → Int32 → XS → Prop) (k : Nat) (x1 : Int32) (x3 : Int32) (x4 : Int32) (f : XS), k0 ≤ k → k ≤ N → P k x1 x3 x4 f → (∀ (y1 : Int32) (y3 : Int32) (y4 : Int32) (f' : XS), k < N → P (k + 1) y1 y3 y4 f' → K33 y1 (Int32.ofNat (k + 1)) y3 y4 f') → wbX0_lays_33 b cs ad vs o K33 K100 Q x1 (Int32.ofNat k) x3 x4 f) (x1 : Int32) (x3 : Int32) (x4 : Int32) (f : XS) (hP : P k0 x1 x3 x4 f) : ∃ n : Nat, wlX0_lays_33 b cs ad vs o K100 Q n x1 (Int32.ofNat k0) x3 x4 f := by
  refine ilX0_lays_33 (fun x1 x2 x3 x4 f => ∃ k, k0 ≤ k ∧ k ≤ N ∧ x2 = Int32.ofNat k ∧ P k x1 x3 x4 f) (fun x1 x2 x3 x4 _ => N - x2.toNatClampNeg) ?_ _ _ _ _ _ ⟨k0, Nat.le_refl _, h0, rfl, hP⟩
  intro K x1 x2 x3 x4 f hI hK
  obtain ⟨k, h1, h2, rfl, h3⟩ := hI
  refine step K k x1 x3 x4 f h1 h2 h3 (fun y1 y3 y4 f' h4 h5 => hK _ _ _ _ _ ⟨k + 1, by omega, by omega, rfl, h5⟩ ?_)
  show N - (Int32.ofNat (k + 1)).toNatClampNeg < N - (Int32.ofNat k).toNatClampNeg
  rw [n_clamp (by omega), n_clamp (by omega)]
  omega
theorem ijX0_lays_33_3 {b : Nat} {cs : Nat → ClassId} {ad : Nat → Nat} {vs : Nat → Option Nat} {o : Nat} {K100 : Int32 → Int32 → Int32 → XS → Prop} {Q : XS → Prop} (N k0 : Nat) (hN : N < 2147483648) (h0 : k0 ≤ N) (P : Nat → Int32 → Int32 → Int32 → XS → Prop) (step : ∀ (K33 : Int32 → Int32 → Int32 → Int32 → XS → Prop) (k : Nat) (x1 : Int32) (x2 : Int32) (x4 : Int32) (f : XS), k0 ≤ k → k ≤ N → P k x1 x2 x4 f → (∀ (y1 : Int32) (y2 : Int32) (y4 : Int32) (f' : XS), k < N → P (k + 1) y1 y2 y4 f' → K33 y1 y2 (Int32.ofNat (k + 1)) y4 f') → wbX0_lays_33 b cs ad vs o K33 K100 Q x1 x2 (Int32.ofNat k) x4 f) (x1 : Int32) (x2 : Int32) (x4 : Int32) (f : XS) (hP : P k0 x1 x2 x4 f) : ∃ n : Nat, wlX0_lays_33 b cs ad vs o K100 Q n x1 x2 (Int32.ofNat k0) x4 f := by
  refine ilX0_lays_33 (fun x1 x2 x3 x4 f => ∃ k, k0 ≤ k ∧ k ≤ N ∧ x3 = Int32.ofNat k ∧ P k x1 x2 x4 f) (fun x1 x2 x3 x4 _ => N - x3.toNatClampNeg) ?_ _ _ _ _ _ ⟨k0, Nat.le_refl _, h0, rfl, hP⟩
  intro K x1 x2 x3 x4 f hI hK
  obtain ⟨k, h1, h2, rfl, h3⟩ := hI
  refine step K k x1 x2 x4 f h1 h2 h3 (fun y1 y2 y4 f' h4 h5 => hK _ _ _ _ _ ⟨k + 1, by omega, by omega, rfl, h5⟩ ?_)
  show N - (Int32.ofNat (k + 1)).toNatClampNeg < N - (Int32.ofNat k).toNatClampNeg
  rw [n_clamp (by omega), n_clamp (by omega)]
  omega
theorem ijX0_lays_33_4 {b : Nat} {cs : Nat → ClassId} {ad : Nat → Nat} {vs : Nat → Option Nat} {o : Nat} {K100 : Int32 → Int32 → Int32 → XS → Prop} {Q : XS → Prop} (N k0 : Nat) (hN : N < 2147483648) (h0 : k0 ≤ N) (P : Nat → Int32 → Int32 → Int32 → XS → Prop) (step : ∀ (K33 : Int32 → Int32 → Int32 → Int32 → XS → Prop) (k : Nat) (x1 : Int32) (x2 : Int32) (x3 : Int32) (f : XS), k0 ≤ k → k ≤ N → P k x1 x2 x3 f → (∀ (y1 : Int32) (y2 : Int32) (y3 : Int32) (f' : XS), k < N → P (k + 1) y1 y2 y3 f' → K33 y1 y2 y3 (Int32.ofNat (k + 1)) f') → wbX0_lays_33 b cs ad vs o K33 K100 Q x1 x2 x3 (Int32.ofNat k) f) (x1 : Int32) (x2 : Int32) (x3 : Int32) (f : XS) (hP : P k0 x1 x2 x3 f) : ∃ n : Nat, wlX0_lays_33 b cs ad vs o K100 Q n x1 x2 x3 (Int32.ofNat k0) f := by
  refine ilX0_lays_33 (fun x1 x2 x3 x4 f => ∃ k, k0 ≤ k ∧ k ≤ N ∧ x4 = Int32.ofNat k ∧ P k x1 x2 x3 f) (fun x1 x2 x3 x4 _ => N - x4.toNatClampNeg) ?_ _ _ _ _ _ ⟨k0, Nat.le_refl _, h0, rfl, hP⟩
  intro K x1 x2 x3 x4 f hI hK
  obtain ⟨k, h1, h2, rfl, h3⟩ := hI
  refine step K k x1 x2 x3 f h1 h2 h3 (fun y1 y2 y3 f' h4 h5 => hK _ _ _ _ _ ⟨k + 1, by omega, by omega, rfl, h5⟩ ?_)
  show N - (Int32.ofNat (k + 1)).toNatClampNeg < N - (Int32.ofNat k).toNatClampNeg
  rw [n_clamp (by omega), n_clamp (by omega)]
  omega
theorem ijX0_lays_22_1 {b : Nat} {cs : Nat → ClassId} {ad : Nat → Nat} {vs : Nat → Option Nat} {o : Nat} {K106 : Int32 → Int32 → XS → Prop} {Q : XS → Prop} (N k0 : Nat) (hN : N < 2147483648) (h0 : k0 ≤ N) (P : Nat → Int32 → Int32 → XS → Prop) (step : ∀ (K22 : Int32 → Int32 → Int32 → XS → Prop) (k : Nat) (x2 : Int32) (x3 : Int32) (f : XS), k0 ≤ k → k ≤ N → P k x2 x3 f → (∀ (y2 : Int32) (y3 : Int32) (f' : XS), k < N → P (k + 1) y2 y3 f' → K22 (Int32.ofNat (k + 1)) y2 y3 f') → wbX0_lays_22 b cs ad vs o K22 K106 Q (Int32.ofNat k) x2 x3 f) (x2 : Int32) (x3 : Int32) (f : XS) (hP : P k0 x2 x3 f) : ∃ n : Nat, wlX0_lays_22 b cs ad vs o K106 Q n (Int32.ofNat k0) x2 x3 f := by
  refine ilX0_lays_22 (fun x1 x2 x3 f => ∃ k, k0 ≤ k ∧ k ≤ N ∧ x1 = Int32.ofNat k ∧ P k x2 x3 f) (fun x1 x2 x3 _ => N - x1.toNatClampNeg) ?_ _ _ _ _ ⟨k0, Nat.le_refl _, h0, rfl, hP⟩
  intro K x1 x2 x3 f hI hK
  obtain ⟨k, h1, h2, rfl, h3⟩ := hI
  refine step K k x2 x3 f h1 h2 h3 (fun y2 y3 f' h4 h5 => hK _ _ _ _ ⟨k + 1, by omega, by omega, rfl, h5⟩ ?_)
  show N - (Int32.ofNat (k + 1)).toNatClampNeg < N - (Int32.ofNat k).toNatClampNeg
  rw [n_clamp (by omega), n_clamp (by omega)]
  omega
theorem ijX0_lays_22_2 {b : Nat} {cs : Nat → ClassId} {ad : Nat → Nat} {vs : Nat → Option Nat} {o : Nat} {K106 : Int32 → Int32 → XS → Prop} {Q : XS → Prop} (N k0 : Nat) (hN : N < 2147483648) (h0 : k0 ≤ N) (P : Nat → Int32 → Int32 → XS → Prop) (step : ∀ (K22 : Int32 → Int32 → Int32 → XS → Prop) (k : Nat) (x1 : Int32) (x3 : Int32) (f : XS), k0 ≤ k → k ≤ N → P k x1 x3 f → (∀ (y1 : Int32) (y3 : Int32) (f' : XS), k < N → P (k + 1) y1 y3 f' → K22 y1 (Int32.ofNat (k + 1)) y3 f') → wbX0_lays_22 b cs ad vs o K22 K106 Q x1 (Int32.ofNat k) x3 f) (x1 : Int32) (x3 : Int32) (f : XS) (hP : P k0 x1 x3 f) : ∃ n : Nat, wlX0_lays_22 b cs ad vs o K106 Q n x1 (Int32.ofNat k0) x3 f := by
  refine ilX0_lays_22 (fun x1 x2 x3 f => ∃ k, k0 ≤ k ∧ k ≤ N ∧ x2 = Int32.ofNat k ∧ P k x1 x3 f) (fun x1 x2 x3 _ => N - x2.toNatClampNeg) ?_ _ _ _ _ ⟨k0, Nat.le_refl _, h0, rfl, hP⟩
  intro K x1 x2 x3 f hI hK
  obtain ⟨k, h1, h2, rfl, h3⟩ := hI
  refine step K k x1 x3 f h1 h2 h3 (fun y1 y3 f' h4 h5 => hK _ _ _ _ ⟨k + 1, by omega, by omega, rfl, h5⟩ ?_)
  show N - (Int32.ofNat (k + 1)).toNatClampNeg < N - (Int32.ofNat k).toNatClampNeg
  rw [n_clamp (by omega), n_clamp (by omega)]
  omega
theorem ijX0_lays_22_3 {b : Nat} {cs : Nat → ClassId} {ad : Nat → Nat} {vs : Nat → Option Nat} {o : Nat} {K106 : Int32 → Int32 → XS → Prop} {Q : XS → Prop} (N k0 : Nat) (hN : N < 2147483648) (h0 : k0 ≤ N) (P : Nat → Int32 → Int32 → XS → Prop) (step : ∀ (K22 : Int32 → Int32 → Int32 → XS → Prop) (k : Nat) (x1 : Int32) (x2 : Int32) (f : XS), k0 ≤ k → k ≤ N → P k x1 x2 f → (∀ (y1 : Int32) (y2 : Int32) (f' : XS), k < N → P (k + 1) y1 y2 f' → K22 y1 y2 (Int32.ofNat (k + 1)) f') → wbX0_lays_22 b cs ad vs o K22 K106 Q x1 x2 (Int32.ofNat k) f) (x1 : Int32) (x2 : Int32) (f : XS) (hP : P k0 x1 x2 f) : ∃ n : Nat, wlX0_lays_22 b cs ad vs o K106 Q n x1 x2 (Int32.ofNat k0) f := by
  refine ilX0_lays_22 (fun x1 x2 x3 f => ∃ k, k0 ≤ k ∧ k ≤ N ∧ x3 = Int32.ofNat k ∧ P k x1 x2 f) (fun x1 x2 x3 _ => N - x3.toNatClampNeg) ?_ _ _ _ _ ⟨k0, Nat.le_refl _, h0, rfl, hP⟩
  intro K x1 x2 x3 f hI hK
  obtain ⟨k, h1, h2, rfl, h3⟩ := hI
  refine step K k x1 x2 f h1 h2 h3 (fun y1 y2 f' h4 h5 => hK _ _ _ _ ⟨k + 1, by omega, by omega, rfl, h5⟩ ?_)
  show N - (Int32.ofNat (k + 1)).toNatClampNeg < N - (Int32.ofNat k).toNatClampNeg
  rw [n_clamp (by omega), n_clamp (by omega)]
  omega
theorem ijX0_lays_12_1 {b : Nat} {cs : Nat → ClassId} {ad : Nat → Nat} {vs : Nat → Option Nat} {o : Nat} {K112 : Int32 → XS → Prop} {Q : XS → Prop} (N k0 : Nat) (hN : N < 2147483648) (h0 : k0 ≤ N) (P : Nat → Int32 → XS → Prop) (step : ∀ (K12 : Int32 → Int32 → XS → Prop) (k : Nat) (x2 : Int32) (f : XS), k0 ≤ k → k ≤ N → P k x2 f → (∀ (y2 : Int32) (f' : XS), k < N → P (k + 1) y2 f' → K12 (Int32.ofNat (k + 1)) y2 f') → wbX0_lays_12 b cs ad vs o K12 K112 Q (Int32.ofNat k) x2 f) (x2 : Int32) (f : XS) (hP : P k0 x2 f) : ∃ n : Nat, wlX0_lays_12 b cs ad vs o K112 Q n (Int32.ofNat k0) x2 f := by
  refine ilX0_lays_12 (fun x1 x2 f => ∃ k, k0 ≤ k ∧ k ≤ N ∧ x1 = Int32.ofNat k ∧ P k x2 f) (fun x1 x2 _ => N - x1.toNatClampNeg) ?_ _ _ _ ⟨k0, Nat.le_refl _, h0, rfl, hP⟩
  intro K x1 x2 f hI hK
  obtain ⟨k, h1, h2, rfl, h3⟩ := hI
  refine step K k x2 f h1 h2 h3 (fun y2 f' h4 h5 => hK _ _ _ ⟨k + 1, by omega, by omega, rfl, h5⟩ ?_)
  show N - (Int32.ofNat (k + 1)).toNatClampNeg < N - (Int32.ofNat k).toNatClampNeg
  rw [n_clamp (by omega), n_clamp (by omega)]
  omega
theorem ijX0_lays_12_2 {b : Nat} {cs : Nat → ClassId} {ad : Nat → Nat} {vs : Nat → Option Nat} {o : Nat} {K112 : Int32 → XS → Prop} {Q : XS → Prop} (N k0 : Nat) (hN : N < 2147483648) (h0 : k0 ≤ N) (P : Nat → Int32 → XS → Prop) (step : ∀ (K12 : Int32 → Int32 → XS → Prop) (k : Nat) (x1 : Int32) (f : XS), k0 ≤ k → k ≤ N → P k x1 f → (∀ (y1 : Int32) (f' : XS), k < N → P (k + 1) y1 f' → K12 y1 (Int32.ofNat (k + 1)) f') → wbX0_lays_12 b cs ad vs o K12 K112 Q x1 (Int32.ofNat k) f) (x1 : Int32) (f : XS) (hP : P k0 x1 f) : ∃ n : Nat, wlX0_lays_12 b cs ad vs o K112 Q n x1 (Int32.ofNat k0) f := by
  refine ilX0_lays_12 (fun x1 x2 f => ∃ k, k0 ≤ k ∧ k ≤ N ∧ x2 = Int32.ofNat k ∧ P k x1 f) (fun x1 x2 _ => N - x2.toNatClampNeg) ?_ _ _ _ ⟨k0, Nat.le_refl _, h0, rfl, hP⟩
  intro K x1 x2 f hI hK
  obtain ⟨k, h1, h2, rfl, h3⟩ := hI
  refine step K k x1 f h1 h2 h3 (fun y1 f' h4 h5 => hK _ _ _ ⟨k + 1, by omega, by omega, rfl, h5⟩ ?_)
  show N - (Int32.ofNat (k + 1)).toNatClampNeg < N - (Int32.ofNat k).toNatClampNeg
  rw [n_clamp (by omega), n_clamp (by omega)]
  omega
theorem ijX0_lays_2_1 {b : Nat} {cs : Nat → ClassId} {ad : Nat → Nat} {vs : Nat → Option Nat} {o : Nat}  {Q : XS → Prop} (N k0 : Nat) (hN : N < 2147483648) (h0 : k0 ≤ N) (P : Nat → XS → Prop) (step : ∀ (K2 : Int32 → XS → Prop) (k : Nat)  (f : XS), k0 ≤ k → k ≤ N → P k  f → (∀  (f' : XS), k < N → P (k + 1)  f' → K2 (Int32.ofNat (k + 1)) f') → wbX0_lays_2 b cs ad vs o K2 Q (Int32.ofNat k) f)  (f : XS) (hP : P k0  f) : ∃ n : Nat, wlX0_lays_2 b cs ad vs o  Q n (Int32.ofNat k0) f := by
  refine ilX0_lays_2 (fun x1 f => ∃ k, k0 ≤ k ∧ k ≤ N ∧ x1 = Int32.ofNat k ∧ P k  f) (fun x1 _ => N - x1.toNatClampNeg) ?_ _ _ ⟨k0, Nat.le_refl _, h0, rfl, hP⟩
  intro K x1 f hI hK
  obtain ⟨k, h1, h2, rfl, h3⟩ := hI
  refine step K k  f h1 h2 h3 (fun  f' h4 h5 => hK _ _ ⟨k + 1, by omega, by omega, rfl, h5⟩ ?_)
  show N - (Int32.ofNat (k + 1)).toNatClampNeg < N - (Int32.ofNat k).toNatClampNeg
  rw [n_clamp (by omega), n_clamp (by omega)]
  omega
theorem ijX0_least_9_1 {b : Nat} {cs : Nat → ClassId} {ad : Nat → Nat} {vs : Nat → Option Nat} {o : Nat} {K50 : Int32 → Int32 → XS → Prop} {Q : Int32 → XS → Prop} (N k0 : Nat) (hN : N < 2147483648) (h0 : k0 ≤ N) (P : Nat → Int32 → Int32 → XS → Prop) (step : ∀ (K9 : Int32 → Int32 → Int32 → XS → Prop) (k : Nat) (x2 : Int32) (x3 : Int32) (f : XS), k0 ≤ k → k ≤ N → P k x2 x3 f → (∀ (y2 : Int32) (y3 : Int32) (f' : XS), k < N → P (k + 1) y2 y3 f' → K9 (Int32.ofNat (k + 1)) y2 y3 f') → wbX0_least_9 b cs ad vs o K9 K50 Q (Int32.ofNat k) x2 x3 f) (x2 : Int32) (x3 : Int32) (f : XS) (hP : P k0 x2 x3 f) : ∃ n : Nat, wlX0_least_9 b cs ad vs o K50 Q n (Int32.ofNat k0) x2 x3 f := by
  refine ilX0_least_9 (fun x1 x2 x3 f => ∃ k, k0 ≤ k ∧ k ≤ N ∧ x1 = Int32.ofNat k ∧ P k x2 x3 f) (fun x1 x2 x3 _ => N - x1.toNatClampNeg) ?_ _ _ _ _ ⟨k0, Nat.le_refl _, h0, rfl, hP⟩
  intro K x1 x2 x3 f hI hK
  obtain ⟨k, h1, h2, rfl, h3⟩ := hI
  refine step K k x2 x3 f h1 h2 h3 (fun y2 y3 f' h4 h5 => hK _ _ _ _ ⟨k + 1, by omega, by omega, rfl, h5⟩ ?_)
  show N - (Int32.ofNat (k + 1)).toNatClampNeg < N - (Int32.ofNat k).toNatClampNeg
  rw [n_clamp (by omega), n_clamp (by omega)]
  omega
theorem ijX0_least_9_2 {b : Nat} {cs : Nat → ClassId} {ad : Nat → Nat} {vs : Nat → Option Nat} {o : Nat} {K50 : Int32 → Int32 → XS → Prop} {Q : Int32 → XS → Prop} (N k0 : Nat) (hN : N < 2147483648) (h0 : k0 ≤ N) (P : Nat → Int32 → Int32 → XS → Prop) (step : ∀ (K9 : Int32 → Int32 → Int32 → XS → Prop) (k : Nat) (x1 : Int32) (x3 : Int32) (f : XS), k0 ≤ k → k ≤ N → P k x1 x3 f → (∀ (y1 : Int32) (y3 : Int32) (f' : XS), k < N → P (k + 1) y1 y3 f' → K9 y1 (Int32.ofNat (k + 1)) y3 f') → wbX0_least_9 b cs ad vs o K9 K50 Q x1 (Int32.ofNat k) x3 f) (x1 : Int32) (x3 : Int32) (f : XS) (hP : P k0 x1 x3 f) : ∃ n : Nat, wlX0_least_9 b cs ad vs o K50 Q n x1 (Int32.ofNat k0) x3 f := by
  refine ilX0_least_9 (fun x1 x2 x3 f => ∃ k, k0 ≤ k ∧ k ≤ N ∧ x2 = Int32.ofNat k ∧ P k x1 x3 f) (fun x1 x2 x3 _ => N - x2.toNatClampNeg) ?_ _ _ _ _ ⟨k0, Nat.le_refl _, h0, rfl, hP⟩
  intro K x1 x2 x3 f hI hK
  obtain ⟨k, h1, h2, rfl, h3⟩ := hI
  refine step K k x1 x3 f h1 h2 h3 (fun y1 y3 f' h4 h5 => hK _ _ _ _ ⟨k + 1, by omega, by omega, rfl, h5⟩ ?_)
  show N - (Int32.ofNat (k + 1)).toNatClampNeg < N - (Int32.ofNat k).toNatClampNeg
  rw [n_clamp (by omega), n_clamp (by omega)]
  omega
theorem ijX0_least_9_3 {b : Nat} {cs : Nat → ClassId} {ad : Nat → Nat} {vs : Nat → Option Nat} {o : Nat} {K50 : Int32 → Int32 → XS → Prop} {Q : Int32 → XS → Prop} (N k0 : Nat) (hN : N < 2147483648) (h0 : k0 ≤ N) (P : Nat → Int32 → Int32 → XS → Prop) (step : ∀ (K9 : Int32 → Int32 → Int32 → XS → Prop) (k : Nat) (x1 : Int32) (x2 : Int32) (f : XS), k0 ≤ k → k ≤ N → P k x1 x2 f → (∀ (y1 : Int32) (y2 : Int32) (f' : XS), k < N → P (k + 1) y1 y2 f' → K9 y1 y2 (Int32.ofNat (k + 1)) f') → wbX0_least_9 b cs ad vs o K9 K50 Q x1 x2 (Int32.ofNat k) f) (x1 : Int32) (x2 : Int32) (f : XS) (hP : P k0 x1 x2 f) : ∃ n : Nat, wlX0_least_9 b cs ad vs o K50 Q n x1 x2 (Int32.ofNat k0) f := by
  refine ilX0_least_9 (fun x1 x2 x3 f => ∃ k, k0 ≤ k ∧ k ≤ N ∧ x3 = Int32.ofNat k ∧ P k x1 x2 f) (fun x1 x2 x3 _ => N - x3.toNatClampNeg) ?_ _ _ _ _ ⟨k0, Nat.le_refl _, h0, rfl, hP⟩
  intro K x1 x2 x3 f hI hK
  obtain ⟨k, h1, h2, rfl, h3⟩ := hI
  refine step K k x1 x2 f h1 h2 h3 (fun y1 y2 f' h4 h5 => hK _ _ _ _ ⟨k + 1, by omega, by omega, rfl, h5⟩ ?_)
  show N - (Int32.ofNat (k + 1)).toNatClampNeg < N - (Int32.ofNat k).toNatClampNeg
  rw [n_clamp (by omega), n_clamp (by omega)]
  omega
theorem ijX0_knot_4_1 {b : Nat} {cs : Nat → ClassId} {ad : Nat → Nat} {vs : Nat → Option Nat} {o : Nat}  {Q : Int32 → XS → Prop} (N k0 : Nat) (hN : N < 2147483648) (h0 : k0 ≤ N) (P : Nat → Int32 → XS → Prop) (step : ∀ (K4 : Int32 → Int32 → XS → Prop) (k : Nat) (x2 : Int32) (f : XS), k0 ≤ k → k ≤ N → P k x2 f → (∀ (y2 : Int32) (f' : XS), k < N → P (k + 1) y2 f' → K4 (Int32.ofNat (k + 1)) y2 f') → wbX0_knot_4 b cs ad vs o K4 Q (Int32.ofNat k) x2 f) (x2 : Int32) (f : XS) (hP : P k0 x2 f) : ∃ n : Nat, wlX0_knot_4 b cs ad vs o  Q n (Int32.ofNat k0) x2 f := by
  refine ilX0_knot_4 (fun x1 x2 f => ∃ k, k0 ≤ k ∧ k ≤ N ∧ x1 = Int32.ofNat k ∧ P k x2 f) (fun x1 x2 _ => N - x1.toNatClampNeg) ?_ _ _ _ ⟨k0, Nat.le_refl _, h0, rfl, hP⟩
  intro K x1 x2 f hI hK
  obtain ⟨k, h1, h2, rfl, h3⟩ := hI
  refine step K k x2 f h1 h2 h3 (fun y2 f' h4 h5 => hK _ _ _ ⟨k + 1, by omega, by omega, rfl, h5⟩ ?_)
  show N - (Int32.ofNat (k + 1)).toNatClampNeg < N - (Int32.ofNat k).toNatClampNeg
  rw [n_clamp (by omega), n_clamp (by omega)]
  omega
theorem ijX0_knot_4_2 {b : Nat} {cs : Nat → ClassId} {ad : Nat → Nat} {vs : Nat → Option Nat} {o : Nat}  {Q : Int32 → XS → Prop} (N k0 : Nat) (hN : N < 2147483648) (h0 : k0 ≤ N) (P : Nat → Int32 → XS → Prop) (step : ∀ (K4 : Int32 → Int32 → XS → Prop) (k : Nat) (x1 : Int32) (f : XS), k0 ≤ k → k ≤ N → P k x1 f → (∀ (y1 : Int32) (f' : XS), k < N → P (k + 1) y1 f' → K4 y1 (Int32.ofNat (k + 1)) f') → wbX0_knot_4 b cs ad vs o K4 Q x1 (Int32.ofNat k) f) (x1 : Int32) (f : XS) (hP : P k0 x1 f) : ∃ n : Nat, wlX0_knot_4 b cs ad vs o  Q n x1 (Int32.ofNat k0) f := by
  refine ilX0_knot_4 (fun x1 x2 f => ∃ k, k0 ≤ k ∧ k ≤ N ∧ x2 = Int32.ofNat k ∧ P k x1 f) (fun x1 x2 _ => N - x2.toNatClampNeg) ?_ _ _ _ ⟨k0, Nat.le_refl _, h0, rfl, hP⟩
  intro K x1 x2 f hI hK
  obtain ⟨k, h1, h2, rfl, h3⟩ := hI
  refine step K k x1 f h1 h2 h3 (fun y1 f' h4 h5 => hK _ _ _ ⟨k + 1, by omega, by omega, rfl, h5⟩ ?_)
  show N - (Int32.ofNat (k + 1)).toNatClampNeg < N - (Int32.ofNat k).toNatClampNeg
  rw [n_clamp (by omega), n_clamp (by omega)]
  omega
theorem ijX0_room_74_2 {b : Nat} {cs : Nat → ClassId} {ad : Nat → Nat} {vs : Nat → Option Nat} {o : Nat} {K111 : Int32 → Int32 → Int32 → Int32 → XS → Prop} {Q : Int32 → XS → Prop} (N k0 : Nat) (hN : N < 2147483648) (h0 : k0 ≤ N) (P : Nat → Int32 → Int32 → Int32 → Int32 → XS → Prop) (step : ∀ (K74 : Int32 → Int32 → Int32 → Int32 → Int32 → XS → Prop) (k : Nat) (x4 : Int32) (x5 : Int32) (x6 : Int32) (x7 : Int32) (f : XS), k0 ≤ k → k ≤ N → P k x4 x5 x6 x7 f → (∀ (y4 : Int32) (y5 : Int32) (y6 : Int32) (y7 : Int32) (f' : XS), k < N → P (k + 1) y4 y5 y6 y7 f' → K74 (Int32.ofNat (k + 1)) y4 y5 y6 y7 f') → wbX0_room_74 b cs ad vs o K74 K111 Q (Int32.ofNat k) x4 x5 x6 x7 f) (x4 : Int32) (x5 : Int32) (x6 : Int32) (x7 : Int32) (f : XS) (hP : P k0 x4 x5 x6 x7 f) : ∃ n : Nat, wlX0_room_74 b cs ad vs o K111 Q n (Int32.ofNat k0) x4 x5 x6 x7 f := by
  refine ilX0_room_74 (fun x2 x4 x5 x6 x7 f => ∃ k, k0 ≤ k ∧ k ≤ N ∧ x2 = Int32.ofNat k ∧ P k x4 x5 x6 x7 f) (fun x2 x4 x5 x6 x7 _ => N - x2.toNatClampNeg) ?_ _ _ _ _ _ _ ⟨k0, Nat.le_refl _, h0, rfl, hP⟩
  intro K x2 x4 x5 x6 x7 f hI hK
  obtain ⟨k, h1, h2, rfl, h3⟩ := hI
  refine step K k x4 x5 x6 x7 f h1 h2 h3 (fun y4 y5 y6 y7 f' h4 h5 => hK _ _ _ _ _ _ ⟨k + 1, by omega, by omega, rfl, h5⟩ ?_)
  show N - (Int32.ofNat (k + 1)).toNatClampNeg < N - (Int32.ofNat k).toNatClampNeg
  rw [n_clamp (by omega), n_clamp (by omega)]
  omega
theorem ijX0_room_74_4 {b : Nat} {cs : Nat → ClassId} {ad : Nat → Nat} {vs : Nat → Option Nat} {o : Nat} {K111 : Int32 → Int32 → Int32 → Int32 → XS → Prop} {Q : Int32 → XS → Prop} (N k0 : Nat) (hN : N < 2147483648) (h0 : k0 ≤ N) (P : Nat → Int32 → Int32 → Int32 → Int32 → XS → Prop) (step : ∀ (K74 : Int32 → Int32 → Int32 → Int32 → Int32 → XS → Prop) (k : Nat) (x2 : Int32) (x5 : Int32) (x6 : Int32) (x7 : Int32) (f : XS), k0 ≤ k → k ≤ N → P k x2 x5 x6 x7 f → (∀ (y2 : Int32) (y5 : Int32) (y6 : Int32) (y7 : Int32) (f' : XS), k < N → P (k + 1) y2 y5 y6 y7 f' → K74 y2 (Int32.ofNat (k + 1)) y5 y6 y7 f') → wbX0_room_74 b cs ad vs o K74 K111 Q x2 (Int32.ofNat k) x5 x6 x7 f) (x2 : Int32) (x5 : Int32) (x6 : Int32) (x7 : Int32) (f : XS) (hP : P k0 x2 x5 x6 x7 f) : ∃ n : Nat, wlX0_room_74 b cs ad vs o K111 Q n x2 (Int32.ofNat k0) x5 x6 x7 f := by
  refine ilX0_room_74 (fun x2 x4 x5 x6 x7 f => ∃ k, k0 ≤ k ∧ k ≤ N ∧ x4 = Int32.ofNat k ∧ P k x2 x5 x6 x7 f) (fun x2 x4 x5 x6 x7 _ => N - x4.toNatClampNeg) ?_ _ _ _ _ _ _ ⟨k0, Nat.le_refl _, h0, rfl, hP⟩
  intro K x2 x4 x5 x6 x7 f hI hK
  obtain ⟨k, h1, h2, rfl, h3⟩ := hI
  refine step K k x2 x5 x6 x7 f h1 h2 h3 (fun y2 y5 y6 y7 f' h4 h5 => hK _ _ _ _ _ _ ⟨k + 1, by omega, by omega, rfl, h5⟩ ?_)
  show N - (Int32.ofNat (k + 1)).toNatClampNeg < N - (Int32.ofNat k).toNatClampNeg
  rw [n_clamp (by omega), n_clamp (by omega)]
  omega
theorem ijX0_room_74_5 {b : Nat} {cs : Nat → ClassId} {ad : Nat → Nat} {vs : Nat → Option Nat} {o : Nat} {K111 : Int32 → Int32 → Int32 → Int32 → XS → Prop} {Q : Int32 → XS → Prop} (N k0 : Nat) (hN : N < 2147483648) (h0 : k0 ≤ N) (P : Nat → Int32 → Int32 → Int32 → Int32 → XS → Prop) (step : ∀ (K74 : Int32 → Int32 → Int32 → Int32 → Int32 → XS → Prop) (k : Nat) (x2 : Int32) (x4 : Int32) (x6 : Int32) (x7 : Int32) (f : XS), k0 ≤ k → k ≤ N → P k x2 x4 x6 x7 f → (∀ (y2 : Int32) (y4 : Int32) (y6 : Int32) (y7 : Int32) (f' : XS), k < N → P (k + 1) y2 y4 y6 y7 f' → K74 y2 y4 (Int32.ofNat (k + 1)) y6 y7 f') → wbX0_room_74 b cs ad vs o K74 K111 Q x2 x4 (Int32.ofNat k) x6 x7 f) (x2 : Int32) (x4 : Int32) (x6 : Int32) (x7 : Int32) (f : XS) (hP : P k0 x2 x4 x6 x7 f) : ∃ n : Nat, wlX0_room_74 b cs ad vs o K111 Q n x2 x4 (Int32.ofNat k0) x6 x7 f := by
  refine ilX0_room_74 (fun x2 x4 x5 x6 x7 f => ∃ k, k0 ≤ k ∧ k ≤ N ∧ x5 = Int32.ofNat k ∧ P k x2 x4 x6 x7 f) (fun x2 x4 x5 x6 x7 _ => N - x5.toNatClampNeg) ?_ _ _ _ _ _ _ ⟨k0, Nat.le_refl _, h0, rfl, hP⟩
  intro K x2 x4 x5 x6 x7 f hI hK
  obtain ⟨k, h1, h2, rfl, h3⟩ := hI
  refine step K k x2 x4 x6 x7 f h1 h2 h3 (fun y2 y4 y6 y7 f' h4 h5 => hK _ _ _ _ _ _ ⟨k + 1, by omega, by omega, rfl, h5⟩ ?_)
  show N - (Int32.ofNat (k + 1)).toNatClampNeg < N - (Int32.ofNat k).toNatClampNeg
  rw [n_clamp (by omega), n_clamp (by omega)]
  omega
theorem ijX0_room_74_6 {b : Nat} {cs : Nat → ClassId} {ad : Nat → Nat} {vs : Nat → Option Nat} {o : Nat} {K111 : Int32 → Int32 → Int32 → Int32 → XS → Prop} {Q : Int32 → XS → Prop} (N k0 : Nat) (hN : N < 2147483648) (h0 : k0 ≤ N) (P : Nat → Int32 → Int32 → Int32 → Int32 → XS → Prop) (step : ∀ (K74 : Int32 → Int32 → Int32 → Int32 → Int32 → XS → Prop) (k : Nat) (x2 : Int32) (x4 : Int32) (x5 : Int32) (x7 : Int32) (f : XS), k0 ≤ k → k ≤ N → P k x2 x4 x5 x7 f → (∀ (y2 : Int32) (y4 : Int32) (y5 : Int32) (y7 : Int32) (f' : XS), k < N → P (k + 1) y2 y4 y5 y7 f' → K74 y2 y4 y5 (Int32.ofNat (k + 1)) y7 f') → wbX0_room_74 b cs ad vs o K74 K111 Q x2 x4 x5 (Int32.ofNat k) x7 f) (x2 : Int32) (x4 : Int32) (x5 : Int32) (x7 : Int32) (f : XS) (hP : P k0 x2 x4 x5 x7 f) : ∃ n : Nat, wlX0_room_74 b cs ad vs o K111 Q n x2 x4 x5 (Int32.ofNat k0) x7 f := by
  refine ilX0_room_74 (fun x2 x4 x5 x6 x7 f => ∃ k, k0 ≤ k ∧ k ≤ N ∧ x6 = Int32.ofNat k ∧ P k x2 x4 x5 x7 f) (fun x2 x4 x5 x6 x7 _ => N - x6.toNatClampNeg) ?_ _ _ _ _ _ _ ⟨k0, Nat.le_refl _, h0, rfl, hP⟩
  intro K x2 x4 x5 x6 x7 f hI hK
  obtain ⟨k, h1, h2, rfl, h3⟩ := hI
  refine step K k x2 x4 x5 x7 f h1 h2 h3 (fun y2 y4 y5 y7 f' h4 h5 => hK _ _ _ _ _ _ ⟨k + 1, by omega, by omega, rfl, h5⟩ ?_)
  show N - (Int32.ofNat (k + 1)).toNatClampNeg < N - (Int32.ofNat k).toNatClampNeg
  rw [n_clamp (by omega), n_clamp (by omega)]
  omega
theorem ijX0_room_74_7 {b : Nat} {cs : Nat → ClassId} {ad : Nat → Nat} {vs : Nat → Option Nat} {o : Nat} {K111 : Int32 → Int32 → Int32 → Int32 → XS → Prop} {Q : Int32 → XS → Prop} (N k0 : Nat) (hN : N < 2147483648) (h0 : k0 ≤ N) (P : Nat → Int32 → Int32 → Int32 → Int32 → XS → Prop) (step : ∀ (K74 : Int32 → Int32 → Int32 → Int32 → Int32 → XS → Prop) (k : Nat) (x2 : Int32) (x4 : Int32) (x5 : Int32) (x6 : Int32) (f : XS), k0 ≤ k → k ≤ N → P k x2 x4 x5 x6 f → (∀ (y2 : Int32) (y4 : Int32) (y5 : Int32) (y6 : Int32) (f' : XS), k < N → P (k + 1) y2 y4 y5 y6 f' → K74 y2 y4 y5 y6 (Int32.ofNat (k + 1)) f') → wbX0_room_74 b cs ad vs o K74 K111 Q x2 x4 x5 x6 (Int32.ofNat k) f) (x2 : Int32) (x4 : Int32) (x5 : Int32) (x6 : Int32) (f : XS) (hP : P k0 x2 x4 x5 x6 f) : ∃ n : Nat, wlX0_room_74 b cs ad vs o K111 Q n x2 x4 x5 x6 (Int32.ofNat k0) f := by
  refine ilX0_room_74 (fun x2 x4 x5 x6 x7 f => ∃ k, k0 ≤ k ∧ k ≤ N ∧ x7 = Int32.ofNat k ∧ P k x2 x4 x5 x6 f) (fun x2 x4 x5 x6 x7 _ => N - x7.toNatClampNeg) ?_ _ _ _ _ _ _ ⟨k0, Nat.le_refl _, h0, rfl, hP⟩
  intro K x2 x4 x5 x6 x7 f hI hK
  obtain ⟨k, h1, h2, rfl, h3⟩ := hI
  refine step K k x2 x4 x5 x6 f h1 h2 h3 (fun y2 y4 y5 y6 f' h4 h5 => hK _ _ _ _ _ _ ⟨k + 1, by omega, by omega, rfl, h5⟩ ?_)
  show N - (Int32.ofNat (k + 1)).toNatClampNeg < N - (Int32.ofNat k).toNatClampNeg
  rw [n_clamp (by omega), n_clamp (by omega)]
  omega
theorem ijX0_room_49_2 {b : Nat} {cs : Nat → ClassId} {ad : Nat → Nat} {vs : Nat → Option Nat} {o : Nat}  {Q : Int32 → XS → Prop} (N k0 : Nat) (hN : N < 2147483648) (h0 : k0 ≤ N) (P : Nat → Int32 → Int32 → XS → Prop) (step : ∀ (K49 : Int32 → Int32 → Int32 → XS → Prop) (k : Nat) (x4 : Int32) (x5 : Int32) (f : XS), k0 ≤ k → k ≤ N → P k x4 x5 f → (∀ (y4 : Int32) (y5 : Int32) (f' : XS), k < N → P (k + 1) y4 y5 f' → K49 (Int32.ofNat (k + 1)) y4 y5 f') → wbX0_room_49 b cs ad vs o K49 Q (Int32.ofNat k) x4 x5 f) (x4 : Int32) (x5 : Int32) (f : XS) (hP : P k0 x4 x5 f) : ∃ n : Nat, wlX0_room_49 b cs ad vs o  Q n (Int32.ofNat k0) x4 x5 f := by
  refine ilX0_room_49 (fun x2 x4 x5 f => ∃ k, k0 ≤ k ∧ k ≤ N ∧ x2 = Int32.ofNat k ∧ P k x4 x5 f) (fun x2 x4 x5 _ => N - x2.toNatClampNeg) ?_ _ _ _ _ ⟨k0, Nat.le_refl _, h0, rfl, hP⟩
  intro K x2 x4 x5 f hI hK
  obtain ⟨k, h1, h2, rfl, h3⟩ := hI
  refine step K k x4 x5 f h1 h2 h3 (fun y4 y5 f' h4 h5 => hK _ _ _ _ ⟨k + 1, by omega, by omega, rfl, h5⟩ ?_)
  show N - (Int32.ofNat (k + 1)).toNatClampNeg < N - (Int32.ofNat k).toNatClampNeg
  rw [n_clamp (by omega), n_clamp (by omega)]
  omega
theorem ijX0_room_49_4 {b : Nat} {cs : Nat → ClassId} {ad : Nat → Nat} {vs : Nat → Option Nat} {o : Nat}  {Q : Int32 → XS → Prop} (N k0 : Nat) (hN : N < 2147483648) (h0 : k0 ≤ N) (P : Nat → Int32 → Int32 → XS → Prop) (step : ∀ (K49 : Int32 → Int32 → Int32 → XS → Prop) (k : Nat) (x2 : Int32) (x5 : Int32) (f : XS), k0 ≤ k → k ≤ N → P k x2 x5 f → (∀ (y2 : Int32) (y5 : Int32) (f' : XS), k < N → P (k + 1) y2 y5 f' → K49 y2 (Int32.ofNat (k + 1)) y5 f') → wbX0_room_49 b cs ad vs o K49 Q x2 (Int32.ofNat k) x5 f) (x2 : Int32) (x5 : Int32) (f : XS) (hP : P k0 x2 x5 f) : ∃ n : Nat, wlX0_room_49 b cs ad vs o  Q n x2 (Int32.ofNat k0) x5 f := by
  refine ilX0_room_49 (fun x2 x4 x5 f => ∃ k, k0 ≤ k ∧ k ≤ N ∧ x4 = Int32.ofNat k ∧ P k x2 x5 f) (fun x2 x4 x5 _ => N - x4.toNatClampNeg) ?_ _ _ _ _ ⟨k0, Nat.le_refl _, h0, rfl, hP⟩
  intro K x2 x4 x5 f hI hK
  obtain ⟨k, h1, h2, rfl, h3⟩ := hI
  refine step K k x2 x5 f h1 h2 h3 (fun y2 y5 f' h4 h5 => hK _ _ _ _ ⟨k + 1, by omega, by omega, rfl, h5⟩ ?_)
  show N - (Int32.ofNat (k + 1)).toNatClampNeg < N - (Int32.ofNat k).toNatClampNeg
  rw [n_clamp (by omega), n_clamp (by omega)]
  omega
theorem ijX0_room_49_5 {b : Nat} {cs : Nat → ClassId} {ad : Nat → Nat} {vs : Nat → Option Nat} {o : Nat}  {Q : Int32 → XS → Prop} (N k0 : Nat) (hN : N < 2147483648) (h0 : k0 ≤ N) (P : Nat → Int32 → Int32 → XS → Prop) (step : ∀ (K49 : Int32 → Int32 → Int32 → XS → Prop) (k : Nat) (x2 : Int32) (x4 : Int32) (f : XS), k0 ≤ k → k ≤ N → P k x2 x4 f → (∀ (y2 : Int32) (y4 : Int32) (f' : XS), k < N → P (k + 1) y2 y4 f' → K49 y2 y4 (Int32.ofNat (k + 1)) f') → wbX0_room_49 b cs ad vs o K49 Q x2 x4 (Int32.ofNat k) f) (x2 : Int32) (x4 : Int32) (f : XS) (hP : P k0 x2 x4 f) : ∃ n : Nat, wlX0_room_49 b cs ad vs o  Q n x2 x4 (Int32.ofNat k0) f := by
  refine ilX0_room_49 (fun x2 x4 x5 f => ∃ k, k0 ≤ k ∧ k ≤ N ∧ x5 = Int32.ofNat k ∧ P k x2 x4 f) (fun x2 x4 x5 _ => N - x5.toNatClampNeg) ?_ _ _ _ _ ⟨k0, Nat.le_refl _, h0, rfl, hP⟩
  intro K x2 x4 x5 f hI hK
  obtain ⟨k, h1, h2, rfl, h3⟩ := hI
  refine step K k x2 x4 f h1 h2 h3 (fun y2 y4 f' h4 h5 => hK _ _ _ _ ⟨k + 1, by omega, by omega, rfl, h5⟩ ?_)
  show N - (Int32.ofNat (k + 1)).toNatClampNeg < N - (Int32.ofNat k).toNatClampNeg
  rw [n_clamp (by omega), n_clamp (by omega)]
  omega
theorem ijX0_hurt_54_2 {b : Nat} {cs : Nat → ClassId} {ad : Nat → Nat} {vs : Nat → Option Nat} {o : Nat} {K89 : Int32 → Nat → Int64 → XS → Prop} {Q : Int64 → XS → Prop} (N k0 : Nat) (hN : N < 2147483648) (h0 : k0 ≤ N) (P : Nat → Nat → Int64 → Int32 → XS → Prop) (step : ∀ (K54 : Int32 → Nat → Int64 → Int32 → XS → Prop) (k : Nat) (x4 : Nat) (x5 : Int64) (x7 : Int32) (f : XS), k0 ≤ k → k ≤ N → P k x4 x5 x7 f → (∀ (y4 : Nat) (y5 : Int64) (y7 : Int32) (f' : XS), k < N → P (k + 1) y4 y5 y7 f' → K54 (Int32.ofNat (k + 1)) y4 y5 y7 f') → wbX0_hurt_54 b cs ad vs o K54 K89 Q (Int32.ofNat k) x4 x5 x7 f) (x4 : Nat) (x5 : Int64) (x7 : Int32) (f : XS) (hP : P k0 x4 x5 x7 f) : ∃ n : Nat, wlX0_hurt_54 b cs ad vs o K89 Q n (Int32.ofNat k0) x4 x5 x7 f := by
  refine ilX0_hurt_54 (fun x2 x4 x5 x7 f => ∃ k, k0 ≤ k ∧ k ≤ N ∧ x2 = Int32.ofNat k ∧ P k x4 x5 x7 f) (fun x2 x4 x5 x7 _ => N - x2.toNatClampNeg) ?_ _ _ _ _ _ ⟨k0, Nat.le_refl _, h0, rfl, hP⟩
  intro K x2 x4 x5 x7 f hI hK
  obtain ⟨k, h1, h2, rfl, h3⟩ := hI
  refine step K k x4 x5 x7 f h1 h2 h3 (fun y4 y5 y7 f' h4 h5 => hK _ _ _ _ _ ⟨k + 1, by omega, by omega, rfl, h5⟩ ?_)
  show N - (Int32.ofNat (k + 1)).toNatClampNeg < N - (Int32.ofNat k).toNatClampNeg
  rw [n_clamp (by omega), n_clamp (by omega)]
  omega
theorem ijX0_hurt_54_7 {b : Nat} {cs : Nat → ClassId} {ad : Nat → Nat} {vs : Nat → Option Nat} {o : Nat} {K89 : Int32 → Nat → Int64 → XS → Prop} {Q : Int64 → XS → Prop} (N k0 : Nat) (hN : N < 2147483648) (h0 : k0 ≤ N) (P : Nat → Int32 → Nat → Int64 → XS → Prop) (step : ∀ (K54 : Int32 → Nat → Int64 → Int32 → XS → Prop) (k : Nat) (x2 : Int32) (x4 : Nat) (x5 : Int64) (f : XS), k0 ≤ k → k ≤ N → P k x2 x4 x5 f → (∀ (y2 : Int32) (y4 : Nat) (y5 : Int64) (f' : XS), k < N → P (k + 1) y2 y4 y5 f' → K54 y2 y4 y5 (Int32.ofNat (k + 1)) f') → wbX0_hurt_54 b cs ad vs o K54 K89 Q x2 x4 x5 (Int32.ofNat k) f) (x2 : Int32) (x4 : Nat) (x5 : Int64) (f : XS) (hP : P k0 x2 x4 x5 f) : ∃ n : Nat, wlX0_hurt_54 b cs ad vs o K89 Q n x2 x4 x5 (Int32.ofNat k0) f := by
  refine ilX0_hurt_54 (fun x2 x4 x5 x7 f => ∃ k, k0 ≤ k ∧ k ≤ N ∧ x7 = Int32.ofNat k ∧ P k x2 x4 x5 f) (fun x2 x4 x5 x7 _ => N - x7.toNatClampNeg) ?_ _ _ _ _ _ ⟨k0, Nat.le_refl _, h0, rfl, hP⟩
  intro K x2 x4 x5 x7 f hI hK
  obtain ⟨k, h1, h2, rfl, h3⟩ := hI
  refine step K k x2 x4 x5 f h1 h2 h3 (fun y2 y4 y5 f' h4 h5 => hK _ _ _ _ _ ⟨k + 1, by omega, by omega, rfl, h5⟩ ?_)
  show N - (Int32.ofNat (k + 1)).toNatClampNeg < N - (Int32.ofNat k).toNatClampNeg
  rw [n_clamp (by omega), n_clamp (by omega)]
  omega
theorem ijX0_hurt_102_2 {b : Nat} {cs : Nat → ClassId} {ad : Nat → Nat} {vs : Nat → Option Nat} {o : Nat}  {Q : Int64 → XS → Prop} (N k0 : Nat) (hN : N < 2147483648) (h0 : k0 ≤ N) (P : Nat → Nat → Int64 → Int64 → Int32 → XS → Prop) (step : ∀ (K102 : Int32 → Nat → Int64 → Int64 → Int32 → XS → Prop) (k : Nat) (x4 : Nat) (x5 : Int64) (x7 : Int64) (x9 : Int32) (f : XS), k0 ≤ k → k ≤ N → P k x4 x5 x7 x9 f → (∀ (y4 : Nat) (y5 : Int64) (y7 : Int64) (y9 : Int32) (f' : XS), k < N → P (k + 1) y4 y5 y7 y9 f' → K102 (Int32.ofNat (k + 1)) y4 y5 y7 y9 f') → wbX0_hurt_102 b cs ad vs o K102 Q (Int32.ofNat k) x4 x5 x7 x9 f) (x4 : Nat) (x5 : Int64) (x7 : Int64) (x9 : Int32) (f : XS) (hP : P k0 x4 x5 x7 x9 f) : ∃ n : Nat, wlX0_hurt_102 b cs ad vs o  Q n (Int32.ofNat k0) x4 x5 x7 x9 f := by
  refine ilX0_hurt_102 (fun x2 x4 x5 x7 x9 f => ∃ k, k0 ≤ k ∧ k ≤ N ∧ x2 = Int32.ofNat k ∧ P k x4 x5 x7 x9 f) (fun x2 x4 x5 x7 x9 _ => N - x2.toNatClampNeg) ?_ _ _ _ _ _ _ ⟨k0, Nat.le_refl _, h0, rfl, hP⟩
  intro K x2 x4 x5 x7 x9 f hI hK
  obtain ⟨k, h1, h2, rfl, h3⟩ := hI
  refine step K k x4 x5 x7 x9 f h1 h2 h3 (fun y4 y5 y7 y9 f' h4 h5 => hK _ _ _ _ _ _ ⟨k + 1, by omega, by omega, rfl, h5⟩ ?_)
  show N - (Int32.ofNat (k + 1)).toNatClampNeg < N - (Int32.ofNat k).toNatClampNeg
  rw [n_clamp (by omega), n_clamp (by omega)]
  omega
theorem ijX0_hurt_102_9 {b : Nat} {cs : Nat → ClassId} {ad : Nat → Nat} {vs : Nat → Option Nat} {o : Nat}  {Q : Int64 → XS → Prop} (N k0 : Nat) (hN : N < 2147483648) (h0 : k0 ≤ N) (P : Nat → Int32 → Nat → Int64 → Int64 → XS → Prop) (step : ∀ (K102 : Int32 → Nat → Int64 → Int64 → Int32 → XS → Prop) (k : Nat) (x2 : Int32) (x4 : Nat) (x5 : Int64) (x7 : Int64) (f : XS), k0 ≤ k → k ≤ N → P k x2 x4 x5 x7 f → (∀ (y2 : Int32) (y4 : Nat) (y5 : Int64) (y7 : Int64) (f' : XS), k < N → P (k + 1) y2 y4 y5 y7 f' → K102 y2 y4 y5 y7 (Int32.ofNat (k + 1)) f') → wbX0_hurt_102 b cs ad vs o K102 Q x2 x4 x5 x7 (Int32.ofNat k) f) (x2 : Int32) (x4 : Nat) (x5 : Int64) (x7 : Int64) (f : XS) (hP : P k0 x2 x4 x5 x7 f) : ∃ n : Nat, wlX0_hurt_102 b cs ad vs o  Q n x2 x4 x5 x7 (Int32.ofNat k0) f := by
  refine ilX0_hurt_102 (fun x2 x4 x5 x7 x9 f => ∃ k, k0 ≤ k ∧ k ≤ N ∧ x9 = Int32.ofNat k ∧ P k x2 x4 x5 x7 f) (fun x2 x4 x5 x7 x9 _ => N - x9.toNatClampNeg) ?_ _ _ _ _ _ _ ⟨k0, Nat.le_refl _, h0, rfl, hP⟩
  intro K x2 x4 x5 x7 x9 f hI hK
  obtain ⟨k, h1, h2, rfl, h3⟩ := hI
  refine step K k x2 x4 x5 x7 f h1 h2 h3 (fun y2 y4 y5 y7 f' h4 h5 => hK _ _ _ _ _ _ ⟨k + 1, by omega, by omega, rfl, h5⟩ ?_)
  show N - (Int32.ofNat (k + 1)).toNatClampNeg < N - (Int32.ofNat k).toNatClampNeg
  rw [n_clamp (by omega), n_clamp (by omega)]
  omega
theorem ijX0_best_6_1 {b : Nat} {cs : Nat → ClassId} {ad : Nat → Nat} {vs : Nat → Option Nat} {o : Nat}  {Q : Int32 → XS → Prop} (N k0 : Nat) (hN : N < 2147483648) (h0 : k0 ≤ N) (P : Nat → Int32 → Int32 → Int32 → Int32 → Int32 → XS → Prop) (step : ∀ (K6 : Int32 → Int32 → Int32 → Int32 → Int32 → Int32 → XS → Prop) (k : Nat) (x2 : Int32) (x3 : Int32) (x4 : Int32) (x5 : Int32) (x6 : Int32) (f : XS), k0 ≤ k → k ≤ N → P k x2 x3 x4 x5 x6 f → (∀ (y2 : Int32) (y3 : Int32) (y4 : Int32) (y5 : Int32) (y6 : Int32) (f' : XS), k < N → P (k + 1) y2 y3 y4 y5 y6 f' → K6 (Int32.ofNat (k + 1)) y2 y3 y4 y5 y6 f') → wbX0_best_6 b cs ad vs o K6 Q (Int32.ofNat k) x2 x3 x4 x5 x6 f) (x2 : Int32) (x3 : Int32) (x4 : Int32) (x5 : Int32) (x6 : Int32) (f : XS) (hP : P k0 x2 x3 x4 x5 x6 f) : ∃ n : Nat, wlX0_best_6 b cs ad vs o  Q n (Int32.ofNat k0) x2 x3 x4 x5 x6 f := by
  refine ilX0_best_6 (fun x1 x2 x3 x4 x5 x6 f => ∃ k, k0 ≤ k ∧ k ≤ N ∧ x1 = Int32.ofNat k ∧ P k x2 x3 x4 x5 x6 f) (fun x1 x2 x3 x4 x5 x6 _ => N - x1.toNatClampNeg) ?_ _ _ _ _ _ _ _ ⟨k0, Nat.le_refl _, h0, rfl, hP⟩
  intro K x1 x2 x3 x4 x5 x6 f hI hK
  obtain ⟨k, h1, h2, rfl, h3⟩ := hI
  refine step K k x2 x3 x4 x5 x6 f h1 h2 h3 (fun y2 y3 y4 y5 y6 f' h4 h5 => hK _ _ _ _ _ _ _ ⟨k + 1, by omega, by omega, rfl, h5⟩ ?_)
  show N - (Int32.ofNat (k + 1)).toNatClampNeg < N - (Int32.ofNat k).toNatClampNeg
  rw [n_clamp (by omega), n_clamp (by omega)]
  omega
theorem ijX0_best_6_2 {b : Nat} {cs : Nat → ClassId} {ad : Nat → Nat} {vs : Nat → Option Nat} {o : Nat}  {Q : Int32 → XS → Prop} (N k0 : Nat) (hN : N < 2147483648) (h0 : k0 ≤ N) (P : Nat → Int32 → Int32 → Int32 → Int32 → Int32 → XS → Prop) (step : ∀ (K6 : Int32 → Int32 → Int32 → Int32 → Int32 → Int32 → XS → Prop) (k : Nat) (x1 : Int32) (x3 : Int32) (x4 : Int32) (x5 : Int32) (x6 : Int32) (f : XS), k0 ≤ k → k ≤ N → P k x1 x3 x4 x5 x6 f → (∀ (y1 : Int32) (y3 : Int32) (y4 : Int32) (y5 : Int32) (y6 : Int32) (f' : XS), k < N → P (k + 1) y1 y3 y4 y5 y6 f' → K6 y1 (Int32.ofNat (k + 1)) y3 y4 y5 y6 f') → wbX0_best_6 b cs ad vs o K6 Q x1 (Int32.ofNat k) x3 x4 x5 x6 f) (x1 : Int32) (x3 : Int32) (x4 : Int32) (x5 : Int32) (x6 : Int32) (f : XS) (hP : P k0 x1 x3 x4 x5 x6 f) : ∃ n : Nat, wlX0_best_6 b cs ad vs o  Q n x1 (Int32.ofNat k0) x3 x4 x5 x6 f := by
  refine ilX0_best_6 (fun x1 x2 x3 x4 x5 x6 f => ∃ k, k0 ≤ k ∧ k ≤ N ∧ x2 = Int32.ofNat k ∧ P k x1 x3 x4 x5 x6 f) (fun x1 x2 x3 x4 x5 x6 _ => N - x2.toNatClampNeg) ?_ _ _ _ _ _ _ _ ⟨k0, Nat.le_refl _, h0, rfl, hP⟩
  intro K x1 x2 x3 x4 x5 x6 f hI hK
  obtain ⟨k, h1, h2, rfl, h3⟩ := hI
  refine step K k x1 x3 x4 x5 x6 f h1 h2 h3 (fun y1 y3 y4 y5 y6 f' h4 h5 => hK _ _ _ _ _ _ _ ⟨k + 1, by omega, by omega, rfl, h5⟩ ?_)
  show N - (Int32.ofNat (k + 1)).toNatClampNeg < N - (Int32.ofNat k).toNatClampNeg
  rw [n_clamp (by omega), n_clamp (by omega)]
  omega
theorem ijX0_best_6_3 {b : Nat} {cs : Nat → ClassId} {ad : Nat → Nat} {vs : Nat → Option Nat} {o : Nat}  {Q : Int32 → XS → Prop} (N k0 : Nat) (hN : N < 2147483648) (h0 : k0 ≤ N) (P : Nat → Int32 → Int32 → Int32 → Int32 → Int32 → XS → Prop) (step : ∀ (K6 : Int32 → Int32 → Int32 → Int32 → Int32 → Int32 → XS → Prop) (k : Nat) (x1 : Int32) (x2 : Int32) (x4 : Int32) (x5 : Int32) (x6 : Int32) (f : XS), k0 ≤ k → k ≤ N → P k x1 x2 x4 x5 x6 f → (∀ (y1 : Int32) (y2 : Int32) (y4 : Int32) (y5 : Int32) (y6 : Int32) (f' : XS), k < N → P (k + 1) y1 y2 y4 y5 y6 f' → K6 y1 y2 (Int32.ofNat (k + 1)) y4 y5 y6 f') → wbX0_best_6 b cs ad vs o K6 Q x1 x2 (Int32.ofNat k) x4 x5 x6 f) (x1 : Int32) (x2 : Int32) (x4 : Int32) (x5 : Int32) (x6 : Int32) (f : XS) (hP : P k0 x1 x2 x4 x5 x6 f) : ∃ n : Nat, wlX0_best_6 b cs ad vs o  Q n x1 x2 (Int32.ofNat k0) x4 x5 x6 f := by
  refine ilX0_best_6 (fun x1 x2 x3 x4 x5 x6 f => ∃ k, k0 ≤ k ∧ k ≤ N ∧ x3 = Int32.ofNat k ∧ P k x1 x2 x4 x5 x6 f) (fun x1 x2 x3 x4 x5 x6 _ => N - x3.toNatClampNeg) ?_ _ _ _ _ _ _ _ ⟨k0, Nat.le_refl _, h0, rfl, hP⟩
  intro K x1 x2 x3 x4 x5 x6 f hI hK
  obtain ⟨k, h1, h2, rfl, h3⟩ := hI
  refine step K k x1 x2 x4 x5 x6 f h1 h2 h3 (fun y1 y2 y4 y5 y6 f' h4 h5 => hK _ _ _ _ _ _ _ ⟨k + 1, by omega, by omega, rfl, h5⟩ ?_)
  show N - (Int32.ofNat (k + 1)).toNatClampNeg < N - (Int32.ofNat k).toNatClampNeg
  rw [n_clamp (by omega), n_clamp (by omega)]
  omega
theorem ijX0_best_6_4 {b : Nat} {cs : Nat → ClassId} {ad : Nat → Nat} {vs : Nat → Option Nat} {o : Nat}  {Q : Int32 → XS → Prop} (N k0 : Nat) (hN : N < 2147483648) (h0 : k0 ≤ N) (P : Nat → Int32 → Int32 → Int32 → Int32 → Int32 → XS → Prop) (step : ∀ (K6 : Int32 → Int32 → Int32 → Int32 → Int32 → Int32 → XS → Prop) (k : Nat) (x1 : Int32) (x2 : Int32) (x3 : Int32) (x5 : Int32) (x6 : Int32) (f : XS), k0 ≤ k → k ≤ N → P k x1 x2 x3 x5 x6 f → (∀ (y1 : Int32) (y2 : Int32) (y3 : Int32) (y5 : Int32) (y6 : Int32) (f' : XS), k < N → P (k + 1) y1 y2 y3 y5 y6 f' → K6 y1 y2 y3 (Int32.ofNat (k + 1)) y5 y6 f') → wbX0_best_6 b cs ad vs o K6 Q x1 x2 x3 (Int32.ofNat k) x5 x6 f) (x1 : Int32) (x2 : Int32) (x3 : Int32) (x5 : Int32) (x6 : Int32) (f : XS) (hP : P k0 x1 x2 x3 x5 x6 f) : ∃ n : Nat, wlX0_best_6 b cs ad vs o  Q n x1 x2 x3 (Int32.ofNat k0) x5 x6 f := by
  refine ilX0_best_6 (fun x1 x2 x3 x4 x5 x6 f => ∃ k, k0 ≤ k ∧ k ≤ N ∧ x4 = Int32.ofNat k ∧ P k x1 x2 x3 x5 x6 f) (fun x1 x2 x3 x4 x5 x6 _ => N - x4.toNatClampNeg) ?_ _ _ _ _ _ _ _ ⟨k0, Nat.le_refl _, h0, rfl, hP⟩
  intro K x1 x2 x3 x4 x5 x6 f hI hK
  obtain ⟨k, h1, h2, rfl, h3⟩ := hI
  refine step K k x1 x2 x3 x5 x6 f h1 h2 h3 (fun y1 y2 y3 y5 y6 f' h4 h5 => hK _ _ _ _ _ _ _ ⟨k + 1, by omega, by omega, rfl, h5⟩ ?_)
  show N - (Int32.ofNat (k + 1)).toNatClampNeg < N - (Int32.ofNat k).toNatClampNeg
  rw [n_clamp (by omega), n_clamp (by omega)]
  omega
theorem ijX0_best_6_5 {b : Nat} {cs : Nat → ClassId} {ad : Nat → Nat} {vs : Nat → Option Nat} {o : Nat}  {Q : Int32 → XS → Prop} (N k0 : Nat) (hN : N < 2147483648) (h0 : k0 ≤ N) (P : Nat → Int32 → Int32 → Int32 → Int32 → Int32 → XS → Prop) (step : ∀ (K6 : Int32 → Int32 → Int32 → Int32 → Int32 → Int32 → XS → Prop) (k : Nat) (x1 : Int32) (x2 : Int32) (x3 : Int32) (x4 : Int32) (x6 : Int32) (f : XS), k0 ≤ k → k ≤ N → P k x1 x2 x3 x4 x6 f → (∀ (y1 : Int32) (y2 : Int32) (y3 : Int32) (y4 : Int32) (y6 : Int32) (f' : XS), k < N → P (k + 1) y1 y2 y3 y4 y6 f' → K6 y1 y2 y3 y4 (Int32.ofNat (k + 1)) y6 f') → wbX0_best_6 b cs ad vs o K6 Q x1 x2 x3 x4 (Int32.ofNat k) x6 f) (x1 : Int32) (x2 : Int32) (x3 : Int32) (x4 : Int32) (x6 : Int32) (f : XS) (hP : P k0 x1 x2 x3 x4 x6 f) : ∃ n : Nat, wlX0_best_6 b cs ad vs o  Q n x1 x2 x3 x4 (Int32.ofNat k0) x6 f := by
  refine ilX0_best_6 (fun x1 x2 x3 x4 x5 x6 f => ∃ k, k0 ≤ k ∧ k ≤ N ∧ x5 = Int32.ofNat k ∧ P k x1 x2 x3 x4 x6 f) (fun x1 x2 x3 x4 x5 x6 _ => N - x5.toNatClampNeg) ?_ _ _ _ _ _ _ _ ⟨k0, Nat.le_refl _, h0, rfl, hP⟩
  intro K x1 x2 x3 x4 x5 x6 f hI hK
  obtain ⟨k, h1, h2, rfl, h3⟩ := hI
  refine step K k x1 x2 x3 x4 x6 f h1 h2 h3 (fun y1 y2 y3 y4 y6 f' h4 h5 => hK _ _ _ _ _ _ _ ⟨k + 1, by omega, by omega, rfl, h5⟩ ?_)
  show N - (Int32.ofNat (k + 1)).toNatClampNeg < N - (Int32.ofNat k).toNatClampNeg
  rw [n_clamp (by omega), n_clamp (by omega)]
  omega
theorem ijX0_best_6_6 {b : Nat} {cs : Nat → ClassId} {ad : Nat → Nat} {vs : Nat → Option Nat} {o : Nat}  {Q : Int32 → XS → Prop} (N k0 : Nat) (hN : N < 2147483648) (h0 : k0 ≤ N) (P : Nat → Int32 → Int32 → Int32 → Int32 → Int32 → XS → Prop) (step : ∀ (K6 : Int32 → Int32 → Int32 → Int32 → Int32 → Int32 → XS → Prop) (k : Nat) (x1 : Int32) (x2 : Int32) (x3 : Int32) (x4 : Int32) (x5 : Int32) (f : XS), k0 ≤ k → k ≤ N → P k x1 x2 x3 x4 x5 f → (∀ (y1 : Int32) (y2 : Int32) (y3 : Int32) (y4 : Int32) (y5 : Int32) (f' : XS), k < N → P (k + 1) y1 y2 y3 y4 y5 f' → K6 y1 y2 y3 y4 y5 (Int32.ofNat (k + 1)) f') → wbX0_best_6 b cs ad vs o K6 Q x1 x2 x3 x4 x5 (Int32.ofNat k) f) (x1 : Int32) (x2 : Int32) (x3 : Int32) (x4 : Int32) (x5 : Int32) (f : XS) (hP : P k0 x1 x2 x3 x4 x5 f) : ∃ n : Nat, wlX0_best_6 b cs ad vs o  Q n x1 x2 x3 x4 x5 (Int32.ofNat k0) f := by
  refine ilX0_best_6 (fun x1 x2 x3 x4 x5 x6 f => ∃ k, k0 ≤ k ∧ k ≤ N ∧ x6 = Int32.ofNat k ∧ P k x1 x2 x3 x4 x5 f) (fun x1 x2 x3 x4 x5 x6 _ => N - x6.toNatClampNeg) ?_ _ _ _ _ _ _ _ ⟨k0, Nat.le_refl _, h0, rfl, hP⟩
  intro K x1 x2 x3 x4 x5 x6 f hI hK
  obtain ⟨k, h1, h2, rfl, h3⟩ := hI
  refine step K k x1 x2 x3 x4 x5 f h1 h2 h3 (fun y1 y2 y3 y4 y5 f' h4 h5 => hK _ _ _ _ _ _ _ ⟨k + 1, by omega, by omega, rfl, h5⟩ ?_)
  show N - (Int32.ofNat (k + 1)).toNatClampNeg < N - (Int32.ofNat k).toNatClampNeg
  rw [n_clamp (by omega), n_clamp (by omega)]
  omega
theorem ijX0_rounds_15_1 {b : Nat} {cs : Nat → ClassId} {ad : Nat → Nat} {vs : Nat → Option Nat} {o : Nat} {K59 : Int32 → Int32 → Int32 → Int32 → XS → Prop} {Q : XS → Prop} (N k0 : Nat) (hN : N < 2147483648) (h0 : k0 ≤ N) (P : Nat → Int32 → Int32 → Int32 → Int32 → XS → Prop) (step : ∀ (K15 : Int32 → Int32 → Int32 → Int32 → Int32 → XS → Prop) (k : Nat) (x2 : Int32) (x3 : Int32) (x4 : Int32) (x5 : Int32) (f : XS), k0 ≤ k → k ≤ N → P k x2 x3 x4 x5 f → (∀ (y2 : Int32) (y3 : Int32) (y4 : Int32) (y5 : Int32) (f' : XS), k < N → P (k + 1) y2 y3 y4 y5 f' → K15 (Int32.ofNat (k + 1)) y2 y3 y4 y5 f') → wbX0_rounds_15 b cs ad vs o K15 K59 Q (Int32.ofNat k) x2 x3 x4 x5 f) (x2 : Int32) (x3 : Int32) (x4 : Int32) (x5 : Int32) (f : XS) (hP : P k0 x2 x3 x4 x5 f) : ∃ n : Nat, wlX0_rounds_15 b cs ad vs o K59 Q n (Int32.ofNat k0) x2 x3 x4 x5 f := by
  refine ilX0_rounds_15 (fun x1 x2 x3 x4 x5 f => ∃ k, k0 ≤ k ∧ k ≤ N ∧ x1 = Int32.ofNat k ∧ P k x2 x3 x4 x5 f) (fun x1 x2 x3 x4 x5 _ => N - x1.toNatClampNeg) ?_ _ _ _ _ _ _ ⟨k0, Nat.le_refl _, h0, rfl, hP⟩
  intro K x1 x2 x3 x4 x5 f hI hK
  obtain ⟨k, h1, h2, rfl, h3⟩ := hI
  refine step K k x2 x3 x4 x5 f h1 h2 h3 (fun y2 y3 y4 y5 f' h4 h5 => hK _ _ _ _ _ _ ⟨k + 1, by omega, by omega, rfl, h5⟩ ?_)
  show N - (Int32.ofNat (k + 1)).toNatClampNeg < N - (Int32.ofNat k).toNatClampNeg
  rw [n_clamp (by omega), n_clamp (by omega)]
  omega
theorem ijX0_rounds_15_2 {b : Nat} {cs : Nat → ClassId} {ad : Nat → Nat} {vs : Nat → Option Nat} {o : Nat} {K59 : Int32 → Int32 → Int32 → Int32 → XS → Prop} {Q : XS → Prop} (N k0 : Nat) (hN : N < 2147483648) (h0 : k0 ≤ N) (P : Nat → Int32 → Int32 → Int32 → Int32 → XS → Prop) (step : ∀ (K15 : Int32 → Int32 → Int32 → Int32 → Int32 → XS → Prop) (k : Nat) (x1 : Int32) (x3 : Int32) (x4 : Int32) (x5 : Int32) (f : XS), k0 ≤ k → k ≤ N → P k x1 x3 x4 x5 f → (∀ (y1 : Int32) (y3 : Int32) (y4 : Int32) (y5 : Int32) (f' : XS), k < N → P (k + 1) y1 y3 y4 y5 f' → K15 y1 (Int32.ofNat (k + 1)) y3 y4 y5 f') → wbX0_rounds_15 b cs ad vs o K15 K59 Q x1 (Int32.ofNat k) x3 x4 x5 f) (x1 : Int32) (x3 : Int32) (x4 : Int32) (x5 : Int32) (f : XS) (hP : P k0 x1 x3 x4 x5 f) : ∃ n : Nat, wlX0_rounds_15 b cs ad vs o K59 Q n x1 (Int32.ofNat k0) x3 x4 x5 f := by
  refine ilX0_rounds_15 (fun x1 x2 x3 x4 x5 f => ∃ k, k0 ≤ k ∧ k ≤ N ∧ x2 = Int32.ofNat k ∧ P k x1 x3 x4 x5 f) (fun x1 x2 x3 x4 x5 _ => N - x2.toNatClampNeg) ?_ _ _ _ _ _ _ ⟨k0, Nat.le_refl _, h0, rfl, hP⟩
  intro K x1 x2 x3 x4 x5 f hI hK
  obtain ⟨k, h1, h2, rfl, h3⟩ := hI
  refine step K k x1 x3 x4 x5 f h1 h2 h3 (fun y1 y3 y4 y5 f' h4 h5 => hK _ _ _ _ _ _ ⟨k + 1, by omega, by omega, rfl, h5⟩ ?_)
  show N - (Int32.ofNat (k + 1)).toNatClampNeg < N - (Int32.ofNat k).toNatClampNeg
  rw [n_clamp (by omega), n_clamp (by omega)]
  omega
theorem ijX0_rounds_15_3 {b : Nat} {cs : Nat → ClassId} {ad : Nat → Nat} {vs : Nat → Option Nat} {o : Nat} {K59 : Int32 → Int32 → Int32 → Int32 → XS → Prop} {Q : XS → Prop} (N k0 : Nat) (hN : N < 2147483648) (h0 : k0 ≤ N) (P : Nat → Int32 → Int32 → Int32 → Int32 → XS → Prop) (step : ∀ (K15 : Int32 → Int32 → Int32 → Int32 → Int32 → XS → Prop) (k : Nat) (x1 : Int32) (x2 : Int32) (x4 : Int32) (x5 : Int32) (f : XS), k0 ≤ k → k ≤ N → P k x1 x2 x4 x5 f → (∀ (y1 : Int32) (y2 : Int32) (y4 : Int32) (y5 : Int32) (f' : XS), k < N → P (k + 1) y1 y2 y4 y5 f' → K15 y1 y2 (Int32.ofNat (k + 1)) y4 y5 f') → wbX0_rounds_15 b cs ad vs o K15 K59 Q x1 x2 (Int32.ofNat k) x4 x5 f) (x1 : Int32) (x2 : Int32) (x4 : Int32) (x5 : Int32) (f : XS) (hP : P k0 x1 x2 x4 x5 f) : ∃ n : Nat, wlX0_rounds_15 b cs ad vs o K59 Q n x1 x2 (Int32.ofNat k0) x4 x5 f := by
  refine ilX0_rounds_15 (fun x1 x2 x3 x4 x5 f => ∃ k, k0 ≤ k ∧ k ≤ N ∧ x3 = Int32.ofNat k ∧ P k x1 x2 x4 x5 f) (fun x1 x2 x3 x4 x5 _ => N - x3.toNatClampNeg) ?_ _ _ _ _ _ _ ⟨k0, Nat.le_refl _, h0, rfl, hP⟩
  intro K x1 x2 x3 x4 x5 f hI hK
  obtain ⟨k, h1, h2, rfl, h3⟩ := hI
  refine step K k x1 x2 x4 x5 f h1 h2 h3 (fun y1 y2 y4 y5 f' h4 h5 => hK _ _ _ _ _ _ ⟨k + 1, by omega, by omega, rfl, h5⟩ ?_)
  show N - (Int32.ofNat (k + 1)).toNatClampNeg < N - (Int32.ofNat k).toNatClampNeg
  rw [n_clamp (by omega), n_clamp (by omega)]
  omega
theorem ijX0_rounds_15_4 {b : Nat} {cs : Nat → ClassId} {ad : Nat → Nat} {vs : Nat → Option Nat} {o : Nat} {K59 : Int32 → Int32 → Int32 → Int32 → XS → Prop} {Q : XS → Prop} (N k0 : Nat) (hN : N < 2147483648) (h0 : k0 ≤ N) (P : Nat → Int32 → Int32 → Int32 → Int32 → XS → Prop) (step : ∀ (K15 : Int32 → Int32 → Int32 → Int32 → Int32 → XS → Prop) (k : Nat) (x1 : Int32) (x2 : Int32) (x3 : Int32) (x5 : Int32) (f : XS), k0 ≤ k → k ≤ N → P k x1 x2 x3 x5 f → (∀ (y1 : Int32) (y2 : Int32) (y3 : Int32) (y5 : Int32) (f' : XS), k < N → P (k + 1) y1 y2 y3 y5 f' → K15 y1 y2 y3 (Int32.ofNat (k + 1)) y5 f') → wbX0_rounds_15 b cs ad vs o K15 K59 Q x1 x2 x3 (Int32.ofNat k) x5 f) (x1 : Int32) (x2 : Int32) (x3 : Int32) (x5 : Int32) (f : XS) (hP : P k0 x1 x2 x3 x5 f) : ∃ n : Nat, wlX0_rounds_15 b cs ad vs o K59 Q n x1 x2 x3 (Int32.ofNat k0) x5 f := by
  refine ilX0_rounds_15 (fun x1 x2 x3 x4 x5 f => ∃ k, k0 ≤ k ∧ k ≤ N ∧ x4 = Int32.ofNat k ∧ P k x1 x2 x3 x5 f) (fun x1 x2 x3 x4 x5 _ => N - x4.toNatClampNeg) ?_ _ _ _ _ _ _ ⟨k0, Nat.le_refl _, h0, rfl, hP⟩
  intro K x1 x2 x3 x4 x5 f hI hK
  obtain ⟨k, h1, h2, rfl, h3⟩ := hI
  refine step K k x1 x2 x3 x5 f h1 h2 h3 (fun y1 y2 y3 y5 f' h4 h5 => hK _ _ _ _ _ _ ⟨k + 1, by omega, by omega, rfl, h5⟩ ?_)
  show N - (Int32.ofNat (k + 1)).toNatClampNeg < N - (Int32.ofNat k).toNatClampNeg
  rw [n_clamp (by omega), n_clamp (by omega)]
  omega
theorem ijX0_rounds_15_5 {b : Nat} {cs : Nat → ClassId} {ad : Nat → Nat} {vs : Nat → Option Nat} {o : Nat} {K59 : Int32 → Int32 → Int32 → Int32 → XS → Prop} {Q : XS → Prop} (N k0 : Nat) (hN : N < 2147483648) (h0 : k0 ≤ N) (P : Nat → Int32 → Int32 → Int32 → Int32 → XS → Prop) (step : ∀ (K15 : Int32 → Int32 → Int32 → Int32 → Int32 → XS → Prop) (k : Nat) (x1 : Int32) (x2 : Int32) (x3 : Int32) (x4 : Int32) (f : XS), k0 ≤ k → k ≤ N → P k x1 x2 x3 x4 f → (∀ (y1 : Int32) (y2 : Int32) (y3 : Int32) (y4 : Int32) (f' : XS), k < N → P (k + 1) y1 y2 y3 y4 f' → K15 y1 y2 y3 y4 (Int32.ofNat (k + 1)) f') → wbX0_rounds_15 b cs ad vs o K15 K59 Q x1 x2 x3 x4 (Int32.ofNat k) f) (x1 : Int32) (x2 : Int32) (x3 : Int32) (x4 : Int32) (f : XS) (hP : P k0 x1 x2 x3 x4 f) : ∃ n : Nat, wlX0_rounds_15 b cs ad vs o K59 Q n x1 x2 x3 x4 (Int32.ofNat k0) f := by
  refine ilX0_rounds_15 (fun x1 x2 x3 x4 x5 f => ∃ k, k0 ≤ k ∧ k ≤ N ∧ x5 = Int32.ofNat k ∧ P k x1 x2 x3 x4 f) (fun x1 x2 x3 x4 x5 _ => N - x5.toNatClampNeg) ?_ _ _ _ _ _ _ ⟨k0, Nat.le_refl _, h0, rfl, hP⟩
  intro K x1 x2 x3 x4 x5 f hI hK
  obtain ⟨k, h1, h2, rfl, h3⟩ := hI
  refine step K k x1 x2 x3 x4 f h1 h2 h3 (fun y1 y2 y3 y4 f' h4 h5 => hK _ _ _ _ _ _ ⟨k + 1, by omega, by omega, rfl, h5⟩ ?_)
  show N - (Int32.ofNat (k + 1)).toNatClampNeg < N - (Int32.ofNat k).toNatClampNeg
  rw [n_clamp (by omega), n_clamp (by omega)]
  omega
theorem ijX0_rounds_3_1 {b : Nat} {cs : Nat → ClassId} {ad : Nat → Nat} {vs : Nat → Option Nat} {o : Nat} {K65 : Int32 → Int32 → XS → Prop} {Q : XS → Prop} (N k0 : Nat) (hN : N < 2147483648) (h0 : k0 ≤ N) (P : Nat → Int32 → Int32 → Int32 → XS → Prop) (step : ∀ (K3 : Int32 → Int32 → Int32 → Int32 → XS → Prop) (k : Nat) (x2 : Int32) (x3 : Int32) (x4 : Int32) (f : XS), k0 ≤ k → k ≤ N → P k x2 x3 x4 f → (∀ (y2 : Int32) (y3 : Int32) (y4 : Int32) (f' : XS), k < N → P (k + 1) y2 y3 y4 f' → K3 (Int32.ofNat (k + 1)) y2 y3 y4 f') → wbX0_rounds_3 b cs ad vs o K3 K65 Q (Int32.ofNat k) x2 x3 x4 f) (x2 : Int32) (x3 : Int32) (x4 : Int32) (f : XS) (hP : P k0 x2 x3 x4 f) : ∃ n : Nat, wlX0_rounds_3 b cs ad vs o K65 Q n (Int32.ofNat k0) x2 x3 x4 f := by
  refine ilX0_rounds_3 (fun x1 x2 x3 x4 f => ∃ k, k0 ≤ k ∧ k ≤ N ∧ x1 = Int32.ofNat k ∧ P k x2 x3 x4 f) (fun x1 x2 x3 x4 _ => N - x1.toNatClampNeg) ?_ _ _ _ _ _ ⟨k0, Nat.le_refl _, h0, rfl, hP⟩
  intro K x1 x2 x3 x4 f hI hK
  obtain ⟨k, h1, h2, rfl, h3⟩ := hI
  refine step K k x2 x3 x4 f h1 h2 h3 (fun y2 y3 y4 f' h4 h5 => hK _ _ _ _ _ ⟨k + 1, by omega, by omega, rfl, h5⟩ ?_)
  show N - (Int32.ofNat (k + 1)).toNatClampNeg < N - (Int32.ofNat k).toNatClampNeg
  rw [n_clamp (by omega), n_clamp (by omega)]
  omega
theorem ijX0_rounds_3_2 {b : Nat} {cs : Nat → ClassId} {ad : Nat → Nat} {vs : Nat → Option Nat} {o : Nat} {K65 : Int32 → Int32 → XS → Prop} {Q : XS → Prop} (N k0 : Nat) (hN : N < 2147483648) (h0 : k0 ≤ N) (P : Nat → Int32 → Int32 → Int32 → XS → Prop) (step : ∀ (K3 : Int32 → Int32 → Int32 → Int32 → XS → Prop) (k : Nat) (x1 : Int32) (x3 : Int32) (x4 : Int32) (f : XS), k0 ≤ k → k ≤ N → P k x1 x3 x4 f → (∀ (y1 : Int32) (y3 : Int32) (y4 : Int32) (f' : XS), k < N → P (k + 1) y1 y3 y4 f' → K3 y1 (Int32.ofNat (k + 1)) y3 y4 f') → wbX0_rounds_3 b cs ad vs o K3 K65 Q x1 (Int32.ofNat k) x3 x4 f) (x1 : Int32) (x3 : Int32) (x4 : Int32) (f : XS) (hP : P k0 x1 x3 x4 f) : ∃ n : Nat, wlX0_rounds_3 b cs ad vs o K65 Q n x1 (Int32.ofNat k0) x3 x4 f := by
  refine ilX0_rounds_3 (fun x1 x2 x3 x4 f => ∃ k, k0 ≤ k ∧ k ≤ N ∧ x2 = Int32.ofNat k ∧ P k x1 x3 x4 f) (fun x1 x2 x3 x4 _ => N - x2.toNatClampNeg) ?_ _ _ _ _ _ ⟨k0, Nat.le_refl _, h0, rfl, hP⟩
  intro K x1 x2 x3 x4 f hI hK
  obtain ⟨k, h1, h2, rfl, h3⟩ := hI
  refine step K k x1 x3 x4 f h1 h2 h3 (fun y1 y3 y4 f' h4 h5 => hK _ _ _ _ _ ⟨k + 1, by omega, by omega, rfl, h5⟩ ?_)
  show N - (Int32.ofNat (k + 1)).toNatClampNeg < N - (Int32.ofNat k).toNatClampNeg
  rw [n_clamp (by omega), n_clamp (by omega)]
  omega
theorem ijX0_rounds_3_3 {b : Nat} {cs : Nat → ClassId} {ad : Nat → Nat} {vs : Nat → Option Nat} {o : Nat} {K65 : Int32 → Int32 → XS → Prop} {Q : XS → Prop} (N k0 : Nat) (hN : N < 2147483648) (h0 : k0 ≤ N) (P : Nat → Int32 → Int32 → Int32 → XS → Prop) (step : ∀ (K3 : Int32 → Int32 → Int32 → Int32 → XS → Prop) (k : Nat) (x1 : Int32) (x2 : Int32) (x4 : Int32) (f : XS), k0 ≤ k → k ≤ N → P k x1 x2 x4 f → (∀ (y1 : Int32) (y2 : Int32) (y4 : Int32) (f' : XS), k < N → P (k + 1) y1 y2 y4 f' → K3 y1 y2 (Int32.ofNat (k + 1)) y4 f') → wbX0_rounds_3 b cs ad vs o K3 K65 Q x1 x2 (Int32.ofNat k) x4 f) (x1 : Int32) (x2 : Int32) (x4 : Int32) (f : XS) (hP : P k0 x1 x2 x4 f) : ∃ n : Nat, wlX0_rounds_3 b cs ad vs o K65 Q n x1 x2 (Int32.ofNat k0) x4 f := by
  refine ilX0_rounds_3 (fun x1 x2 x3 x4 f => ∃ k, k0 ≤ k ∧ k ≤ N ∧ x3 = Int32.ofNat k ∧ P k x1 x2 x4 f) (fun x1 x2 x3 x4 _ => N - x3.toNatClampNeg) ?_ _ _ _ _ _ ⟨k0, Nat.le_refl _, h0, rfl, hP⟩
  intro K x1 x2 x3 x4 f hI hK
  obtain ⟨k, h1, h2, rfl, h3⟩ := hI
  refine step K k x1 x2 x4 f h1 h2 h3 (fun y1 y2 y4 f' h4 h5 => hK _ _ _ _ _ ⟨k + 1, by omega, by omega, rfl, h5⟩ ?_)
  show N - (Int32.ofNat (k + 1)).toNatClampNeg < N - (Int32.ofNat k).toNatClampNeg
  rw [n_clamp (by omega), n_clamp (by omega)]
  omega
theorem ijX0_rounds_3_4 {b : Nat} {cs : Nat → ClassId} {ad : Nat → Nat} {vs : Nat → Option Nat} {o : Nat} {K65 : Int32 → Int32 → XS → Prop} {Q : XS → Prop} (N k0 : Nat) (hN : N < 2147483648) (h0 : k0 ≤ N) (P : Nat → Int32 → Int32 → Int32 → XS → Prop) (step : ∀ (K3 : Int32 → Int32 → Int32 → Int32 → XS → Prop) (k : Nat) (x1 : Int32) (x2 : Int32) (x3 : Int32) (f : XS), k0 ≤ k → k ≤ N → P k x1 x2 x3 f → (∀ (y1 : Int32) (y2 : Int32) (y3 : Int32) (f' : XS), k < N → P (k + 1) y1 y2 y3 f' → K3 y1 y2 y3 (Int32.ofNat (k + 1)) f') → wbX0_rounds_3 b cs ad vs o K3 K65 Q x1 x2 x3 (Int32.ofNat k) f) (x1 : Int32) (x2 : Int32) (x3 : Int32) (f : XS) (hP : P k0 x1 x2 x3 f) : ∃ n : Nat, wlX0_rounds_3 b cs ad vs o K65 Q n x1 x2 x3 (Int32.ofNat k0) f := by
  refine ilX0_rounds_3 (fun x1 x2 x3 x4 f => ∃ k, k0 ≤ k ∧ k ≤ N ∧ x4 = Int32.ofNat k ∧ P k x1 x2 x3 f) (fun x1 x2 x3 x4 _ => N - x4.toNatClampNeg) ?_ _ _ _ _ _ ⟨k0, Nat.le_refl _, h0, rfl, hP⟩
  intro K x1 x2 x3 x4 f hI hK
  obtain ⟨k, h1, h2, rfl, h3⟩ := hI
  refine step K k x1 x2 x3 f h1 h2 h3 (fun y1 y2 y3 f' h4 h5 => hK _ _ _ _ _ ⟨k + 1, by omega, by omega, rfl, h5⟩ ?_)
  show N - (Int32.ofNat (k + 1)).toNatClampNeg < N - (Int32.ofNat k).toNatClampNeg
  rw [n_clamp (by omega), n_clamp (by omega)]
  omega
theorem ijX0_rounds_93_2 {b : Nat} {cs : Nat → ClassId} {ad : Nat → Nat} {vs : Nat → Option Nat} {o : Nat} {K135 : Int32 → Int32 → Int32 → Int32 → XS → Prop} {Q : XS → Prop} (N k0 : Nat) (hN : N < 2147483648) (h0 : k0 ≤ N) (P : Nat → Int32 → Int32 → Int32 → Int32 → XS → Prop) (step : ∀ (K93 : Int32 → Int32 → Int32 → Int32 → Int32 → XS → Prop) (k : Nat) (x3 : Int32) (x4 : Int32) (x5 : Int32) (x6 : Int32) (f : XS), k0 ≤ k → k ≤ N → P k x3 x4 x5 x6 f → (∀ (y3 : Int32) (y4 : Int32) (y5 : Int32) (y6 : Int32) (f' : XS), k < N → P (k + 1) y3 y4 y5 y6 f' → K93 (Int32.ofNat (k + 1)) y3 y4 y5 y6 f') → wbX0_rounds_93 b cs ad vs o K93 K135 Q (Int32.ofNat k) x3 x4 x5 x6 f) (x3 : Int32) (x4 : Int32) (x5 : Int32) (x6 : Int32) (f : XS) (hP : P k0 x3 x4 x5 x6 f) : ∃ n : Nat, wlX0_rounds_93 b cs ad vs o K135 Q n (Int32.ofNat k0) x3 x4 x5 x6 f := by
  refine ilX0_rounds_93 (fun x2 x3 x4 x5 x6 f => ∃ k, k0 ≤ k ∧ k ≤ N ∧ x2 = Int32.ofNat k ∧ P k x3 x4 x5 x6 f) (fun x2 x3 x4 x5 x6 _ => N - x2.toNatClampNeg) ?_ _ _ _ _ _ _ ⟨k0, Nat.le_refl _, h0, rfl, hP⟩
  intro K x2 x3 x4 x5 x6 f hI hK
  obtain ⟨k, h1, h2, rfl, h3⟩ := hI
  refine step K k x3 x4 x5 x6 f h1 h2 h3 (fun y3 y4 y5 y6 f' h4 h5 => hK _ _ _ _ _ _ ⟨k + 1, by omega, by omega, rfl, h5⟩ ?_)
  show N - (Int32.ofNat (k + 1)).toNatClampNeg < N - (Int32.ofNat k).toNatClampNeg
  rw [n_clamp (by omega), n_clamp (by omega)]
  omega
theorem ijX0_rounds_93_3 {b : Nat} {cs : Nat → ClassId} {ad : Nat → Nat} {vs : Nat → Option Nat} {o : Nat} {K135 : Int32 → Int32 → Int32 → Int32 → XS → Prop} {Q : XS → Prop} (N k0 : Nat) (hN : N < 2147483648) (h0 : k0 ≤ N) (P : Nat → Int32 → Int32 → Int32 → Int32 → XS → Prop) (step : ∀ (K93 : Int32 → Int32 → Int32 → Int32 → Int32 → XS → Prop) (k : Nat) (x2 : Int32) (x4 : Int32) (x5 : Int32) (x6 : Int32) (f : XS), k0 ≤ k → k ≤ N → P k x2 x4 x5 x6 f → (∀ (y2 : Int32) (y4 : Int32) (y5 : Int32) (y6 : Int32) (f' : XS), k < N → P (k + 1) y2 y4 y5 y6 f' → K93 y2 (Int32.ofNat (k + 1)) y4 y5 y6 f') → wbX0_rounds_93 b cs ad vs o K93 K135 Q x2 (Int32.ofNat k) x4 x5 x6 f) (x2 : Int32) (x4 : Int32) (x5 : Int32) (x6 : Int32) (f : XS) (hP : P k0 x2 x4 x5 x6 f) : ∃ n : Nat, wlX0_rounds_93 b cs ad vs o K135 Q n x2 (Int32.ofNat k0) x4 x5 x6 f := by
  refine ilX0_rounds_93 (fun x2 x3 x4 x5 x6 f => ∃ k, k0 ≤ k ∧ k ≤ N ∧ x3 = Int32.ofNat k ∧ P k x2 x4 x5 x6 f) (fun x2 x3 x4 x5 x6 _ => N - x3.toNatClampNeg) ?_ _ _ _ _ _ _ ⟨k0, Nat.le_refl _, h0, rfl, hP⟩
  intro K x2 x3 x4 x5 x6 f hI hK
  obtain ⟨k, h1, h2, rfl, h3⟩ := hI
  refine step K k x2 x4 x5 x6 f h1 h2 h3 (fun y2 y4 y5 y6 f' h4 h5 => hK _ _ _ _ _ _ ⟨k + 1, by omega, by omega, rfl, h5⟩ ?_)
  show N - (Int32.ofNat (k + 1)).toNatClampNeg < N - (Int32.ofNat k).toNatClampNeg
  rw [n_clamp (by omega), n_clamp (by omega)]
  omega
theorem ijX0_rounds_93_4 {b : Nat} {cs : Nat → ClassId} {ad : Nat → Nat} {vs : Nat → Option Nat} {o : Nat} {K135 : Int32 → Int32 → Int32 → Int32 → XS → Prop} {Q : XS → Prop} (N k0 : Nat) (hN : N < 2147483648) (h0 : k0 ≤ N) (P : Nat → Int32 → Int32 → Int32 → Int32 → XS → Prop) (step : ∀ (K93 : Int32 → Int32 → Int32 → Int32 → Int32 → XS → Prop) (k : Nat) (x2 : Int32) (x3 : Int32) (x5 : Int32) (x6 : Int32) (f : XS), k0 ≤ k → k ≤ N → P k x2 x3 x5 x6 f → (∀ (y2 : Int32) (y3 : Int32) (y5 : Int32) (y6 : Int32) (f' : XS), k < N → P (k + 1) y2 y3 y5 y6 f' → K93 y2 y3 (Int32.ofNat (k + 1)) y5 y6 f') → wbX0_rounds_93 b cs ad vs o K93 K135 Q x2 x3 (Int32.ofNat k) x5 x6 f) (x2 : Int32) (x3 : Int32) (x5 : Int32) (x6 : Int32) (f : XS) (hP : P k0 x2 x3 x5 x6 f) : ∃ n : Nat, wlX0_rounds_93 b cs ad vs o K135 Q n x2 x3 (Int32.ofNat k0) x5 x6 f := by
  refine ilX0_rounds_93 (fun x2 x3 x4 x5 x6 f => ∃ k, k0 ≤ k ∧ k ≤ N ∧ x4 = Int32.ofNat k ∧ P k x2 x3 x5 x6 f) (fun x2 x3 x4 x5 x6 _ => N - x4.toNatClampNeg) ?_ _ _ _ _ _ _ ⟨k0, Nat.le_refl _, h0, rfl, hP⟩
  intro K x2 x3 x4 x5 x6 f hI hK
  obtain ⟨k, h1, h2, rfl, h3⟩ := hI
  refine step K k x2 x3 x5 x6 f h1 h2 h3 (fun y2 y3 y5 y6 f' h4 h5 => hK _ _ _ _ _ _ ⟨k + 1, by omega, by omega, rfl, h5⟩ ?_)
  show N - (Int32.ofNat (k + 1)).toNatClampNeg < N - (Int32.ofNat k).toNatClampNeg
  rw [n_clamp (by omega), n_clamp (by omega)]
  omega
theorem ijX0_rounds_93_5 {b : Nat} {cs : Nat → ClassId} {ad : Nat → Nat} {vs : Nat → Option Nat} {o : Nat} {K135 : Int32 → Int32 → Int32 → Int32 → XS → Prop} {Q : XS → Prop} (N k0 : Nat) (hN : N < 2147483648) (h0 : k0 ≤ N) (P : Nat → Int32 → Int32 → Int32 → Int32 → XS → Prop) (step : ∀ (K93 : Int32 → Int32 → Int32 → Int32 → Int32 → XS → Prop) (k : Nat) (x2 : Int32) (x3 : Int32) (x4 : Int32) (x6 : Int32) (f : XS), k0 ≤ k → k ≤ N → P k x2 x3 x4 x6 f → (∀ (y2 : Int32) (y3 : Int32) (y4 : Int32) (y6 : Int32) (f' : XS), k < N → P (k + 1) y2 y3 y4 y6 f' → K93 y2 y3 y4 (Int32.ofNat (k + 1)) y6 f') → wbX0_rounds_93 b cs ad vs o K93 K135 Q x2 x3 x4 (Int32.ofNat k) x6 f) (x2 : Int32) (x3 : Int32) (x4 : Int32) (x6 : Int32) (f : XS) (hP : P k0 x2 x3 x4 x6 f) : ∃ n : Nat, wlX0_rounds_93 b cs ad vs o K135 Q n x2 x3 x4 (Int32.ofNat k0) x6 f := by
  refine ilX0_rounds_93 (fun x2 x3 x4 x5 x6 f => ∃ k, k0 ≤ k ∧ k ≤ N ∧ x5 = Int32.ofNat k ∧ P k x2 x3 x4 x6 f) (fun x2 x3 x4 x5 x6 _ => N - x5.toNatClampNeg) ?_ _ _ _ _ _ _ ⟨k0, Nat.le_refl _, h0, rfl, hP⟩
  intro K x2 x3 x4 x5 x6 f hI hK
  obtain ⟨k, h1, h2, rfl, h3⟩ := hI
  refine step K k x2 x3 x4 x6 f h1 h2 h3 (fun y2 y3 y4 y6 f' h4 h5 => hK _ _ _ _ _ _ ⟨k + 1, by omega, by omega, rfl, h5⟩ ?_)
  show N - (Int32.ofNat (k + 1)).toNatClampNeg < N - (Int32.ofNat k).toNatClampNeg
  rw [n_clamp (by omega), n_clamp (by omega)]
  omega
theorem ijX0_rounds_93_6 {b : Nat} {cs : Nat → ClassId} {ad : Nat → Nat} {vs : Nat → Option Nat} {o : Nat} {K135 : Int32 → Int32 → Int32 → Int32 → XS → Prop} {Q : XS → Prop} (N k0 : Nat) (hN : N < 2147483648) (h0 : k0 ≤ N) (P : Nat → Int32 → Int32 → Int32 → Int32 → XS → Prop) (step : ∀ (K93 : Int32 → Int32 → Int32 → Int32 → Int32 → XS → Prop) (k : Nat) (x2 : Int32) (x3 : Int32) (x4 : Int32) (x5 : Int32) (f : XS), k0 ≤ k → k ≤ N → P k x2 x3 x4 x5 f → (∀ (y2 : Int32) (y3 : Int32) (y4 : Int32) (y5 : Int32) (f' : XS), k < N → P (k + 1) y2 y3 y4 y5 f' → K93 y2 y3 y4 y5 (Int32.ofNat (k + 1)) f') → wbX0_rounds_93 b cs ad vs o K93 K135 Q x2 x3 x4 x5 (Int32.ofNat k) f) (x2 : Int32) (x3 : Int32) (x4 : Int32) (x5 : Int32) (f : XS) (hP : P k0 x2 x3 x4 x5 f) : ∃ n : Nat, wlX0_rounds_93 b cs ad vs o K135 Q n x2 x3 x4 x5 (Int32.ofNat k0) f := by
  refine ilX0_rounds_93 (fun x2 x3 x4 x5 x6 f => ∃ k, k0 ≤ k ∧ k ≤ N ∧ x6 = Int32.ofNat k ∧ P k x2 x3 x4 x5 f) (fun x2 x3 x4 x5 x6 _ => N - x6.toNatClampNeg) ?_ _ _ _ _ _ _ ⟨k0, Nat.le_refl _, h0, rfl, hP⟩
  intro K x2 x3 x4 x5 x6 f hI hK
  obtain ⟨k, h1, h2, rfl, h3⟩ := hI
  refine step K k x2 x3 x4 x5 f h1 h2 h3 (fun y2 y3 y4 y5 f' h4 h5 => hK _ _ _ _ _ _ ⟨k + 1, by omega, by omega, rfl, h5⟩ ?_)
  show N - (Int32.ofNat (k + 1)).toNatClampNeg < N - (Int32.ofNat k).toNatClampNeg
  rw [n_clamp (by omega), n_clamp (by omega)]
  omega
theorem ijX0_rounds_81_2 {b : Nat} {cs : Nat → ClassId} {ad : Nat → Nat} {vs : Nat → Option Nat} {o : Nat} {K141 : Int32 → Int32 → Int32 → XS → Prop} {Q : XS → Prop} (N k0 : Nat) (hN : N < 2147483648) (h0 : k0 ≤ N) (P : Nat → Int32 → Int32 → Int32 → XS → Prop) (step : ∀ (K81 : Int32 → Int32 → Int32 → Int32 → XS → Prop) (k : Nat) (x3 : Int32) (x4 : Int32) (x5 : Int32) (f : XS), k0 ≤ k → k ≤ N → P k x3 x4 x5 f → (∀ (y3 : Int32) (y4 : Int32) (y5 : Int32) (f' : XS), k < N → P (k + 1) y3 y4 y5 f' → K81 (Int32.ofNat (k + 1)) y3 y4 y5 f') → wbX0_rounds_81 b cs ad vs o K81 K141 Q (Int32.ofNat k) x3 x4 x5 f) (x3 : Int32) (x4 : Int32) (x5 : Int32) (f : XS) (hP : P k0 x3 x4 x5 f) : ∃ n : Nat, wlX0_rounds_81 b cs ad vs o K141 Q n (Int32.ofNat k0) x3 x4 x5 f := by
  refine ilX0_rounds_81 (fun x2 x3 x4 x5 f => ∃ k, k0 ≤ k ∧ k ≤ N ∧ x2 = Int32.ofNat k ∧ P k x3 x4 x5 f) (fun x2 x3 x4 x5 _ => N - x2.toNatClampNeg) ?_ _ _ _ _ _ ⟨k0, Nat.le_refl _, h0, rfl, hP⟩
  intro K x2 x3 x4 x5 f hI hK
  obtain ⟨k, h1, h2, rfl, h3⟩ := hI
  refine step K k x3 x4 x5 f h1 h2 h3 (fun y3 y4 y5 f' h4 h5 => hK _ _ _ _ _ ⟨k + 1, by omega, by omega, rfl, h5⟩ ?_)
  show N - (Int32.ofNat (k + 1)).toNatClampNeg < N - (Int32.ofNat k).toNatClampNeg
  rw [n_clamp (by omega), n_clamp (by omega)]
  omega
theorem ijX0_rounds_81_3 {b : Nat} {cs : Nat → ClassId} {ad : Nat → Nat} {vs : Nat → Option Nat} {o : Nat} {K141 : Int32 → Int32 → Int32 → XS → Prop} {Q : XS → Prop} (N k0 : Nat) (hN : N < 2147483648) (h0 : k0 ≤ N) (P : Nat → Int32 → Int32 → Int32 → XS → Prop) (step : ∀ (K81 : Int32 → Int32 → Int32 → Int32 → XS → Prop) (k : Nat) (x2 : Int32) (x4 : Int32) (x5 : Int32) (f : XS), k0 ≤ k → k ≤ N → P k x2 x4 x5 f → (∀ (y2 : Int32) (y4 : Int32) (y5 : Int32) (f' : XS), k < N → P (k + 1) y2 y4 y5 f' → K81 y2 (Int32.ofNat (k + 1)) y4 y5 f') → wbX0_rounds_81 b cs ad vs o K81 K141 Q x2 (Int32.ofNat k) x4 x5 f) (x2 : Int32) (x4 : Int32) (x5 : Int32) (f : XS) (hP : P k0 x2 x4 x5 f) : ∃ n : Nat, wlX0_rounds_81 b cs ad vs o K141 Q n x2 (Int32.ofNat k0) x4 x5 f := by
  refine ilX0_rounds_81 (fun x2 x3 x4 x5 f => ∃ k, k0 ≤ k ∧ k ≤ N ∧ x3 = Int32.ofNat k ∧ P k x2 x4 x5 f) (fun x2 x3 x4 x5 _ => N - x3.toNatClampNeg) ?_ _ _ _ _ _ ⟨k0, Nat.le_refl _, h0, rfl, hP⟩
  intro K x2 x3 x4 x5 f hI hK
  obtain ⟨k, h1, h2, rfl, h3⟩ := hI
  refine step K k x2 x4 x5 f h1 h2 h3 (fun y2 y4 y5 f' h4 h5 => hK _ _ _ _ _ ⟨k + 1, by omega, by omega, rfl, h5⟩ ?_)
  show N - (Int32.ofNat (k + 1)).toNatClampNeg < N - (Int32.ofNat k).toNatClampNeg
  rw [n_clamp (by omega), n_clamp (by omega)]
  omega
theorem ijX0_rounds_81_4 {b : Nat} {cs : Nat → ClassId} {ad : Nat → Nat} {vs : Nat → Option Nat} {o : Nat} {K141 : Int32 → Int32 → Int32 → XS → Prop} {Q : XS → Prop} (N k0 : Nat) (hN : N < 2147483648) (h0 : k0 ≤ N) (P : Nat → Int32 → Int32 → Int32 → XS → Prop) (step : ∀ (K81 : Int32 → Int32 → Int32 → Int32 → XS → Prop) (k : Nat) (x2 : Int32) (x3 : Int32) (x5 : Int32) (f : XS), k0 ≤ k → k ≤ N → P k x2 x3 x5 f → (∀ (y2 : Int32) (y3 : Int32) (y5 : Int32) (f' : XS), k < N → P (k + 1) y2 y3 y5 f' → K81 y2 y3 (Int32.ofNat (k + 1)) y5 f') → wbX0_rounds_81 b cs ad vs o K81 K141 Q x2 x3 (Int32.ofNat k) x5 f) (x2 : Int32) (x3 : Int32) (x5 : Int32) (f : XS) (hP : P k0 x2 x3 x5 f) : ∃ n : Nat, wlX0_rounds_81 b cs ad vs o K141 Q n x2 x3 (Int32.ofNat k0) x5 f := by
  refine ilX0_rounds_81 (fun x2 x3 x4 x5 f => ∃ k, k0 ≤ k ∧ k ≤ N ∧ x4 = Int32.ofNat k ∧ P k x2 x3 x5 f) (fun x2 x3 x4 x5 _ => N - x4.toNatClampNeg) ?_ _ _ _ _ _ ⟨k0, Nat.le_refl _, h0, rfl, hP⟩
  intro K x2 x3 x4 x5 f hI hK
  obtain ⟨k, h1, h2, rfl, h3⟩ := hI
  refine step K k x2 x3 x5 f h1 h2 h3 (fun y2 y3 y5 f' h4 h5 => hK _ _ _ _ _ ⟨k + 1, by omega, by omega, rfl, h5⟩ ?_)
  show N - (Int32.ofNat (k + 1)).toNatClampNeg < N - (Int32.ofNat k).toNatClampNeg
  rw [n_clamp (by omega), n_clamp (by omega)]
  omega
theorem ijX0_rounds_81_5 {b : Nat} {cs : Nat → ClassId} {ad : Nat → Nat} {vs : Nat → Option Nat} {o : Nat} {K141 : Int32 → Int32 → Int32 → XS → Prop} {Q : XS → Prop} (N k0 : Nat) (hN : N < 2147483648) (h0 : k0 ≤ N) (P : Nat → Int32 → Int32 → Int32 → XS → Prop) (step : ∀ (K81 : Int32 → Int32 → Int32 → Int32 → XS → Prop) (k : Nat) (x2 : Int32) (x3 : Int32) (x4 : Int32) (f : XS), k0 ≤ k → k ≤ N → P k x2 x3 x4 f → (∀ (y2 : Int32) (y3 : Int32) (y4 : Int32) (f' : XS), k < N → P (k + 1) y2 y3 y4 f' → K81 y2 y3 y4 (Int32.ofNat (k + 1)) f') → wbX0_rounds_81 b cs ad vs o K81 K141 Q x2 x3 x4 (Int32.ofNat k) f) (x2 : Int32) (x3 : Int32) (x4 : Int32) (f : XS) (hP : P k0 x2 x3 x4 f) : ∃ n : Nat, wlX0_rounds_81 b cs ad vs o K141 Q n x2 x3 x4 (Int32.ofNat k0) f := by
  refine ilX0_rounds_81 (fun x2 x3 x4 x5 f => ∃ k, k0 ≤ k ∧ k ≤ N ∧ x5 = Int32.ofNat k ∧ P k x2 x3 x4 f) (fun x2 x3 x4 x5 _ => N - x5.toNatClampNeg) ?_ _ _ _ _ _ ⟨k0, Nat.le_refl _, h0, rfl, hP⟩
  intro K x2 x3 x4 x5 f hI hK
  obtain ⟨k, h1, h2, rfl, h3⟩ := hI
  refine step K k x2 x3 x4 f h1 h2 h3 (fun y2 y3 y4 f' h4 h5 => hK _ _ _ _ _ ⟨k + 1, by omega, by omega, rfl, h5⟩ ?_)
  show N - (Int32.ofNat (k + 1)).toNatClampNeg < N - (Int32.ofNat k).toNatClampNeg
  rw [n_clamp (by omega), n_clamp (by omega)]
  omega
theorem ijX0_rounds_73_2 {b : Nat} {cs : Nat → ClassId} {ad : Nat → Nat} {vs : Nat → Option Nat} {o : Nat}  {Q : XS → Prop} (N k0 : Nat) (hN : N < 2147483648) (h0 : k0 ≤ N) (P : Nat → Int32 → Int32 → XS → Prop) (step : ∀ (K73 : Int32 → Int32 → Int32 → XS → Prop) (k : Nat) (x3 : Int32) (x4 : Int32) (f : XS), k0 ≤ k → k ≤ N → P k x3 x4 f → (∀ (y3 : Int32) (y4 : Int32) (f' : XS), k < N → P (k + 1) y3 y4 f' → K73 (Int32.ofNat (k + 1)) y3 y4 f') → wbX0_rounds_73 b cs ad vs o K73 Q (Int32.ofNat k) x3 x4 f) (x3 : Int32) (x4 : Int32) (f : XS) (hP : P k0 x3 x4 f) : ∃ n : Nat, wlX0_rounds_73 b cs ad vs o  Q n (Int32.ofNat k0) x3 x4 f := by
  refine ilX0_rounds_73 (fun x2 x3 x4 f => ∃ k, k0 ≤ k ∧ k ≤ N ∧ x2 = Int32.ofNat k ∧ P k x3 x4 f) (fun x2 x3 x4 _ => N - x2.toNatClampNeg) ?_ _ _ _ _ ⟨k0, Nat.le_refl _, h0, rfl, hP⟩
  intro K x2 x3 x4 f hI hK
  obtain ⟨k, h1, h2, rfl, h3⟩ := hI
  refine step K k x3 x4 f h1 h2 h3 (fun y3 y4 f' h4 h5 => hK _ _ _ _ ⟨k + 1, by omega, by omega, rfl, h5⟩ ?_)
  show N - (Int32.ofNat (k + 1)).toNatClampNeg < N - (Int32.ofNat k).toNatClampNeg
  rw [n_clamp (by omega), n_clamp (by omega)]
  omega
theorem ijX0_rounds_73_3 {b : Nat} {cs : Nat → ClassId} {ad : Nat → Nat} {vs : Nat → Option Nat} {o : Nat}  {Q : XS → Prop} (N k0 : Nat) (hN : N < 2147483648) (h0 : k0 ≤ N) (P : Nat → Int32 → Int32 → XS → Prop) (step : ∀ (K73 : Int32 → Int32 → Int32 → XS → Prop) (k : Nat) (x2 : Int32) (x4 : Int32) (f : XS), k0 ≤ k → k ≤ N → P k x2 x4 f → (∀ (y2 : Int32) (y4 : Int32) (f' : XS), k < N → P (k + 1) y2 y4 f' → K73 y2 (Int32.ofNat (k + 1)) y4 f') → wbX0_rounds_73 b cs ad vs o K73 Q x2 (Int32.ofNat k) x4 f) (x2 : Int32) (x4 : Int32) (f : XS) (hP : P k0 x2 x4 f) : ∃ n : Nat, wlX0_rounds_73 b cs ad vs o  Q n x2 (Int32.ofNat k0) x4 f := by
  refine ilX0_rounds_73 (fun x2 x3 x4 f => ∃ k, k0 ≤ k ∧ k ≤ N ∧ x3 = Int32.ofNat k ∧ P k x2 x4 f) (fun x2 x3 x4 _ => N - x3.toNatClampNeg) ?_ _ _ _ _ ⟨k0, Nat.le_refl _, h0, rfl, hP⟩
  intro K x2 x3 x4 f hI hK
  obtain ⟨k, h1, h2, rfl, h3⟩ := hI
  refine step K k x2 x4 f h1 h2 h3 (fun y2 y4 f' h4 h5 => hK _ _ _ _ ⟨k + 1, by omega, by omega, rfl, h5⟩ ?_)
  show N - (Int32.ofNat (k + 1)).toNatClampNeg < N - (Int32.ofNat k).toNatClampNeg
  rw [n_clamp (by omega), n_clamp (by omega)]
  omega
theorem ijX0_rounds_73_4 {b : Nat} {cs : Nat → ClassId} {ad : Nat → Nat} {vs : Nat → Option Nat} {o : Nat}  {Q : XS → Prop} (N k0 : Nat) (hN : N < 2147483648) (h0 : k0 ≤ N) (P : Nat → Int32 → Int32 → XS → Prop) (step : ∀ (K73 : Int32 → Int32 → Int32 → XS → Prop) (k : Nat) (x2 : Int32) (x3 : Int32) (f : XS), k0 ≤ k → k ≤ N → P k x2 x3 f → (∀ (y2 : Int32) (y3 : Int32) (f' : XS), k < N → P (k + 1) y2 y3 f' → K73 y2 y3 (Int32.ofNat (k + 1)) f') → wbX0_rounds_73 b cs ad vs o K73 Q x2 x3 (Int32.ofNat k) f) (x2 : Int32) (x3 : Int32) (f : XS) (hP : P k0 x2 x3 f) : ∃ n : Nat, wlX0_rounds_73 b cs ad vs o  Q n x2 x3 (Int32.ofNat k0) f := by
  refine ilX0_rounds_73 (fun x2 x3 x4 f => ∃ k, k0 ≤ k ∧ k ≤ N ∧ x4 = Int32.ofNat k ∧ P k x2 x3 f) (fun x2 x3 x4 _ => N - x4.toNatClampNeg) ?_ _ _ _ _ ⟨k0, Nat.le_refl _, h0, rfl, hP⟩
  intro K x2 x3 x4 f hI hK
  obtain ⟨k, h1, h2, rfl, h3⟩ := hI
  refine step K k x2 x3 f h1 h2 h3 (fun y2 y3 f' h4 h5 => hK _ _ _ _ ⟨k + 1, by omega, by omega, rfl, h5⟩ ?_)
  show N - (Int32.ofNat (k + 1)).toNatClampNeg < N - (Int32.ofNat k).toNatClampNeg
  rw [n_clamp (by omega), n_clamp (by omega)]
  omega
theorem ijX0_round_72_4 {b : Nat} {cs : Nat → ClassId} {ad : Nat → Nat} {vs : Nat → Option Nat} {o : Nat} {K170 : Int32 → Int32 → Int32 → Int32 → Int32 → XS → Prop} {Q : Int32 → XS → Prop} (N k0 : Nat) (hN : N < 2147483648) (h0 : k0 ≤ N) (P : Nat → Int32 → Int32 → Int32 → Int32 → Int32 → XS → Prop) (step : ∀ (K72 : Int32 → Int32 → Int32 → Int32 → Int32 → Int32 → XS → Prop) (k : Nat) (x5 : Int32) (x6 : Int32) (x7 : Int32) (x8 : Int32) (x9 : Int32) (f : XS), k0 ≤ k → k ≤ N → P k x5 x6 x7 x8 x9 f → (∀ (y5 : Int32) (y6 : Int32) (y7 : Int32) (y8 : Int32) (y9 : Int32) (f' : XS), k < N → P (k + 1) y5 y6 y7 y8 y9 f' → K72 (Int32.ofNat (k + 1)) y5 y6 y7 y8 y9 f') → wbX0_round_72 b cs ad vs o K72 K170 Q (Int32.ofNat k) x5 x6 x7 x8 x9 f) (x5 : Int32) (x6 : Int32) (x7 : Int32) (x8 : Int32) (x9 : Int32) (f : XS) (hP : P k0 x5 x6 x7 x8 x9 f) : ∃ n : Nat, wlX0_round_72 b cs ad vs o K170 Q n (Int32.ofNat k0) x5 x6 x7 x8 x9 f := by
  refine ilX0_round_72 (fun x4 x5 x6 x7 x8 x9 f => ∃ k, k0 ≤ k ∧ k ≤ N ∧ x4 = Int32.ofNat k ∧ P k x5 x6 x7 x8 x9 f) (fun x4 x5 x6 x7 x8 x9 _ => N - x4.toNatClampNeg) ?_ _ _ _ _ _ _ _ ⟨k0, Nat.le_refl _, h0, rfl, hP⟩
  intro K x4 x5 x6 x7 x8 x9 f hI hK
  obtain ⟨k, h1, h2, rfl, h3⟩ := hI
  refine step K k x5 x6 x7 x8 x9 f h1 h2 h3 (fun y5 y6 y7 y8 y9 f' h4 h5 => hK _ _ _ _ _ _ _ ⟨k + 1, by omega, by omega, rfl, h5⟩ ?_)
  show N - (Int32.ofNat (k + 1)).toNatClampNeg < N - (Int32.ofNat k).toNatClampNeg
  rw [n_clamp (by omega), n_clamp (by omega)]
  omega
theorem ijX0_round_72_5 {b : Nat} {cs : Nat → ClassId} {ad : Nat → Nat} {vs : Nat → Option Nat} {o : Nat} {K170 : Int32 → Int32 → Int32 → Int32 → Int32 → XS → Prop} {Q : Int32 → XS → Prop} (N k0 : Nat) (hN : N < 2147483648) (h0 : k0 ≤ N) (P : Nat → Int32 → Int32 → Int32 → Int32 → Int32 → XS → Prop) (step : ∀ (K72 : Int32 → Int32 → Int32 → Int32 → Int32 → Int32 → XS → Prop) (k : Nat) (x4 : Int32) (x6 : Int32) (x7 : Int32) (x8 : Int32) (x9 : Int32) (f : XS), k0 ≤ k → k ≤ N → P k x4 x6 x7 x8 x9 f → (∀ (y4 : Int32) (y6 : Int32) (y7 : Int32) (y8 : Int32) (y9 : Int32) (f' : XS), k < N → P (k + 1) y4 y6 y7 y8 y9 f' → K72 y4 (Int32.ofNat (k + 1)) y6 y7 y8 y9 f') → wbX0_round_72 b cs ad vs o K72 K170 Q x4 (Int32.ofNat k) x6 x7 x8 x9 f) (x4 : Int32) (x6 : Int32) (x7 : Int32) (x8 : Int32) (x9 : Int32) (f : XS) (hP : P k0 x4 x6 x7 x8 x9 f) : ∃ n : Nat, wlX0_round_72 b cs ad vs o K170 Q n x4 (Int32.ofNat k0) x6 x7 x8 x9 f := by
  refine ilX0_round_72 (fun x4 x5 x6 x7 x8 x9 f => ∃ k, k0 ≤ k ∧ k ≤ N ∧ x5 = Int32.ofNat k ∧ P k x4 x6 x7 x8 x9 f) (fun x4 x5 x6 x7 x8 x9 _ => N - x5.toNatClampNeg) ?_ _ _ _ _ _ _ _ ⟨k0, Nat.le_refl _, h0, rfl, hP⟩
  intro K x4 x5 x6 x7 x8 x9 f hI hK
  obtain ⟨k, h1, h2, rfl, h3⟩ := hI
  refine step K k x4 x6 x7 x8 x9 f h1 h2 h3 (fun y4 y6 y7 y8 y9 f' h4 h5 => hK _ _ _ _ _ _ _ ⟨k + 1, by omega, by omega, rfl, h5⟩ ?_)
  show N - (Int32.ofNat (k + 1)).toNatClampNeg < N - (Int32.ofNat k).toNatClampNeg
  rw [n_clamp (by omega), n_clamp (by omega)]
  omega
theorem ijX0_round_72_6 {b : Nat} {cs : Nat → ClassId} {ad : Nat → Nat} {vs : Nat → Option Nat} {o : Nat} {K170 : Int32 → Int32 → Int32 → Int32 → Int32 → XS → Prop} {Q : Int32 → XS → Prop} (N k0 : Nat) (hN : N < 2147483648) (h0 : k0 ≤ N) (P : Nat → Int32 → Int32 → Int32 → Int32 → Int32 → XS → Prop) (step : ∀ (K72 : Int32 → Int32 → Int32 → Int32 → Int32 → Int32 → XS → Prop) (k : Nat) (x4 : Int32) (x5 : Int32) (x7 : Int32) (x8 : Int32) (x9 : Int32) (f : XS), k0 ≤ k → k ≤ N → P k x4 x5 x7 x8 x9 f → (∀ (y4 : Int32) (y5 : Int32) (y7 : Int32) (y8 : Int32) (y9 : Int32) (f' : XS), k < N → P (k + 1) y4 y5 y7 y8 y9 f' → K72 y4 y5 (Int32.ofNat (k + 1)) y7 y8 y9 f') → wbX0_round_72 b cs ad vs o K72 K170 Q x4 x5 (Int32.ofNat k) x7 x8 x9 f) (x4 : Int32) (x5 : Int32) (x7 : Int32) (x8 : Int32) (x9 : Int32) (f : XS) (hP : P k0 x4 x5 x7 x8 x9 f) : ∃ n : Nat, wlX0_round_72 b cs ad vs o K170 Q n x4 x5 (Int32.ofNat k0) x7 x8 x9 f := by
  refine ilX0_round_72 (fun x4 x5 x6 x7 x8 x9 f => ∃ k, k0 ≤ k ∧ k ≤ N ∧ x6 = Int32.ofNat k ∧ P k x4 x5 x7 x8 x9 f) (fun x4 x5 x6 x7 x8 x9 _ => N - x6.toNatClampNeg) ?_ _ _ _ _ _ _ _ ⟨k0, Nat.le_refl _, h0, rfl, hP⟩
  intro K x4 x5 x6 x7 x8 x9 f hI hK
  obtain ⟨k, h1, h2, rfl, h3⟩ := hI
  refine step K k x4 x5 x7 x8 x9 f h1 h2 h3 (fun y4 y5 y7 y8 y9 f' h4 h5 => hK _ _ _ _ _ _ _ ⟨k + 1, by omega, by omega, rfl, h5⟩ ?_)
  show N - (Int32.ofNat (k + 1)).toNatClampNeg < N - (Int32.ofNat k).toNatClampNeg
  rw [n_clamp (by omega), n_clamp (by omega)]
  omega
theorem ijX0_round_72_7 {b : Nat} {cs : Nat → ClassId} {ad : Nat → Nat} {vs : Nat → Option Nat} {o : Nat} {K170 : Int32 → Int32 → Int32 → Int32 → Int32 → XS → Prop} {Q : Int32 → XS → Prop} (N k0 : Nat) (hN : N < 2147483648) (h0 : k0 ≤ N) (P : Nat → Int32 → Int32 → Int32 → Int32 → Int32 → XS → Prop) (step : ∀ (K72 : Int32 → Int32 → Int32 → Int32 → Int32 → Int32 → XS → Prop) (k : Nat) (x4 : Int32) (x5 : Int32) (x6 : Int32) (x8 : Int32) (x9 : Int32) (f : XS), k0 ≤ k → k ≤ N → P k x4 x5 x6 x8 x9 f → (∀ (y4 : Int32) (y5 : Int32) (y6 : Int32) (y8 : Int32) (y9 : Int32) (f' : XS), k < N → P (k + 1) y4 y5 y6 y8 y9 f' → K72 y4 y5 y6 (Int32.ofNat (k + 1)) y8 y9 f') → wbX0_round_72 b cs ad vs o K72 K170 Q x4 x5 x6 (Int32.ofNat k) x8 x9 f) (x4 : Int32) (x5 : Int32) (x6 : Int32) (x8 : Int32) (x9 : Int32) (f : XS) (hP : P k0 x4 x5 x6 x8 x9 f) : ∃ n : Nat, wlX0_round_72 b cs ad vs o K170 Q n x4 x5 x6 (Int32.ofNat k0) x8 x9 f := by
  refine ilX0_round_72 (fun x4 x5 x6 x7 x8 x9 f => ∃ k, k0 ≤ k ∧ k ≤ N ∧ x7 = Int32.ofNat k ∧ P k x4 x5 x6 x8 x9 f) (fun x4 x5 x6 x7 x8 x9 _ => N - x7.toNatClampNeg) ?_ _ _ _ _ _ _ _ ⟨k0, Nat.le_refl _, h0, rfl, hP⟩
  intro K x4 x5 x6 x7 x8 x9 f hI hK
  obtain ⟨k, h1, h2, rfl, h3⟩ := hI
  refine step K k x4 x5 x6 x8 x9 f h1 h2 h3 (fun y4 y5 y6 y8 y9 f' h4 h5 => hK _ _ _ _ _ _ _ ⟨k + 1, by omega, by omega, rfl, h5⟩ ?_)
  show N - (Int32.ofNat (k + 1)).toNatClampNeg < N - (Int32.ofNat k).toNatClampNeg
  rw [n_clamp (by omega), n_clamp (by omega)]
  omega
theorem ijX0_round_72_8 {b : Nat} {cs : Nat → ClassId} {ad : Nat → Nat} {vs : Nat → Option Nat} {o : Nat} {K170 : Int32 → Int32 → Int32 → Int32 → Int32 → XS → Prop} {Q : Int32 → XS → Prop} (N k0 : Nat) (hN : N < 2147483648) (h0 : k0 ≤ N) (P : Nat → Int32 → Int32 → Int32 → Int32 → Int32 → XS → Prop) (step : ∀ (K72 : Int32 → Int32 → Int32 → Int32 → Int32 → Int32 → XS → Prop) (k : Nat) (x4 : Int32) (x5 : Int32) (x6 : Int32) (x7 : Int32) (x9 : Int32) (f : XS), k0 ≤ k → k ≤ N → P k x4 x5 x6 x7 x9 f → (∀ (y4 : Int32) (y5 : Int32) (y6 : Int32) (y7 : Int32) (y9 : Int32) (f' : XS), k < N → P (k + 1) y4 y5 y6 y7 y9 f' → K72 y4 y5 y6 y7 (Int32.ofNat (k + 1)) y9 f') → wbX0_round_72 b cs ad vs o K72 K170 Q x4 x5 x6 x7 (Int32.ofNat k) x9 f) (x4 : Int32) (x5 : Int32) (x6 : Int32) (x7 : Int32) (x9 : Int32) (f : XS) (hP : P k0 x4 x5 x6 x7 x9 f) : ∃ n : Nat, wlX0_round_72 b cs ad vs o K170 Q n x4 x5 x6 x7 (Int32.ofNat k0) x9 f := by
  refine ilX0_round_72 (fun x4 x5 x6 x7 x8 x9 f => ∃ k, k0 ≤ k ∧ k ≤ N ∧ x8 = Int32.ofNat k ∧ P k x4 x5 x6 x7 x9 f) (fun x4 x5 x6 x7 x8 x9 _ => N - x8.toNatClampNeg) ?_ _ _ _ _ _ _ _ ⟨k0, Nat.le_refl _, h0, rfl, hP⟩
  intro K x4 x5 x6 x7 x8 x9 f hI hK
  obtain ⟨k, h1, h2, rfl, h3⟩ := hI
  refine step K k x4 x5 x6 x7 x9 f h1 h2 h3 (fun y4 y5 y6 y7 y9 f' h4 h5 => hK _ _ _ _ _ _ _ ⟨k + 1, by omega, by omega, rfl, h5⟩ ?_)
  show N - (Int32.ofNat (k + 1)).toNatClampNeg < N - (Int32.ofNat k).toNatClampNeg
  rw [n_clamp (by omega), n_clamp (by omega)]
  omega
theorem ijX0_round_72_9 {b : Nat} {cs : Nat → ClassId} {ad : Nat → Nat} {vs : Nat → Option Nat} {o : Nat} {K170 : Int32 → Int32 → Int32 → Int32 → Int32 → XS → Prop} {Q : Int32 → XS → Prop} (N k0 : Nat) (hN : N < 2147483648) (h0 : k0 ≤ N) (P : Nat → Int32 → Int32 → Int32 → Int32 → Int32 → XS → Prop) (step : ∀ (K72 : Int32 → Int32 → Int32 → Int32 → Int32 → Int32 → XS → Prop) (k : Nat) (x4 : Int32) (x5 : Int32) (x6 : Int32) (x7 : Int32) (x8 : Int32) (f : XS), k0 ≤ k → k ≤ N → P k x4 x5 x6 x7 x8 f → (∀ (y4 : Int32) (y5 : Int32) (y6 : Int32) (y7 : Int32) (y8 : Int32) (f' : XS), k < N → P (k + 1) y4 y5 y6 y7 y8 f' → K72 y4 y5 y6 y7 y8 (Int32.ofNat (k + 1)) f') → wbX0_round_72 b cs ad vs o K72 K170 Q x4 x5 x6 x7 x8 (Int32.ofNat k) f) (x4 : Int32) (x5 : Int32) (x6 : Int32) (x7 : Int32) (x8 : Int32) (f : XS) (hP : P k0 x4 x5 x6 x7 x8 f) : ∃ n : Nat, wlX0_round_72 b cs ad vs o K170 Q n x4 x5 x6 x7 x8 (Int32.ofNat k0) f := by
  refine ilX0_round_72 (fun x4 x5 x6 x7 x8 x9 f => ∃ k, k0 ≤ k ∧ k ≤ N ∧ x9 = Int32.ofNat k ∧ P k x4 x5 x6 x7 x8 f) (fun x4 x5 x6 x7 x8 x9 _ => N - x9.toNatClampNeg) ?_ _ _ _ _ _ _ _ ⟨k0, Nat.le_refl _, h0, rfl, hP⟩
  intro K x4 x5 x6 x7 x8 x9 f hI hK
  obtain ⟨k, h1, h2, rfl, h3⟩ := hI
  refine step K k x4 x5 x6 x7 x8 f h1 h2 h3 (fun y4 y5 y6 y7 y8 f' h4 h5 => hK _ _ _ _ _ _ _ ⟨k + 1, by omega, by omega, rfl, h5⟩ ?_)
  show N - (Int32.ofNat (k + 1)).toNatClampNeg < N - (Int32.ofNat k).toNatClampNeg
  rw [n_clamp (by omega), n_clamp (by omega)]
  omega
theorem ijX0_round_60_4 {b : Nat} {cs : Nat → ClassId} {ad : Nat → Nat} {vs : Nat → Option Nat} {o : Nat}  {Q : Int32 → XS → Prop} (N k0 : Nat) (hN : N < 2147483648) (h0 : k0 ≤ N) (P : Nat → Int32 → Int32 → Int32 → Int32 → XS → Prop) (step : ∀ (K60 : Int32 → Int32 → Int32 → Int32 → Int32 → XS → Prop) (k : Nat) (x5 : Int32) (x6 : Int32) (x7 : Int32) (x8 : Int32) (f : XS), k0 ≤ k → k ≤ N → P k x5 x6 x7 x8 f → (∀ (y5 : Int32) (y6 : Int32) (y7 : Int32) (y8 : Int32) (f' : XS), k < N → P (k + 1) y5 y6 y7 y8 f' → K60 (Int32.ofNat (k + 1)) y5 y6 y7 y8 f') → wbX0_round_60 b cs ad vs o K60 Q (Int32.ofNat k) x5 x6 x7 x8 f) (x5 : Int32) (x6 : Int32) (x7 : Int32) (x8 : Int32) (f : XS) (hP : P k0 x5 x6 x7 x8 f) : ∃ n : Nat, wlX0_round_60 b cs ad vs o  Q n (Int32.ofNat k0) x5 x6 x7 x8 f := by
  refine ilX0_round_60 (fun x4 x5 x6 x7 x8 f => ∃ k, k0 ≤ k ∧ k ≤ N ∧ x4 = Int32.ofNat k ∧ P k x5 x6 x7 x8 f) (fun x4 x5 x6 x7 x8 _ => N - x4.toNatClampNeg) ?_ _ _ _ _ _ _ ⟨k0, Nat.le_refl _, h0, rfl, hP⟩
  intro K x4 x5 x6 x7 x8 f hI hK
  obtain ⟨k, h1, h2, rfl, h3⟩ := hI
  refine step K k x5 x6 x7 x8 f h1 h2 h3 (fun y5 y6 y7 y8 f' h4 h5 => hK _ _ _ _ _ _ ⟨k + 1, by omega, by omega, rfl, h5⟩ ?_)
  show N - (Int32.ofNat (k + 1)).toNatClampNeg < N - (Int32.ofNat k).toNatClampNeg
  rw [n_clamp (by omega), n_clamp (by omega)]
  omega
theorem ijX0_round_60_5 {b : Nat} {cs : Nat → ClassId} {ad : Nat → Nat} {vs : Nat → Option Nat} {o : Nat}  {Q : Int32 → XS → Prop} (N k0 : Nat) (hN : N < 2147483648) (h0 : k0 ≤ N) (P : Nat → Int32 → Int32 → Int32 → Int32 → XS → Prop) (step : ∀ (K60 : Int32 → Int32 → Int32 → Int32 → Int32 → XS → Prop) (k : Nat) (x4 : Int32) (x6 : Int32) (x7 : Int32) (x8 : Int32) (f : XS), k0 ≤ k → k ≤ N → P k x4 x6 x7 x8 f → (∀ (y4 : Int32) (y6 : Int32) (y7 : Int32) (y8 : Int32) (f' : XS), k < N → P (k + 1) y4 y6 y7 y8 f' → K60 y4 (Int32.ofNat (k + 1)) y6 y7 y8 f') → wbX0_round_60 b cs ad vs o K60 Q x4 (Int32.ofNat k) x6 x7 x8 f) (x4 : Int32) (x6 : Int32) (x7 : Int32) (x8 : Int32) (f : XS) (hP : P k0 x4 x6 x7 x8 f) : ∃ n : Nat, wlX0_round_60 b cs ad vs o  Q n x4 (Int32.ofNat k0) x6 x7 x8 f := by
  refine ilX0_round_60 (fun x4 x5 x6 x7 x8 f => ∃ k, k0 ≤ k ∧ k ≤ N ∧ x5 = Int32.ofNat k ∧ P k x4 x6 x7 x8 f) (fun x4 x5 x6 x7 x8 _ => N - x5.toNatClampNeg) ?_ _ _ _ _ _ _ ⟨k0, Nat.le_refl _, h0, rfl, hP⟩
  intro K x4 x5 x6 x7 x8 f hI hK
  obtain ⟨k, h1, h2, rfl, h3⟩ := hI
  refine step K k x4 x6 x7 x8 f h1 h2 h3 (fun y4 y6 y7 y8 f' h4 h5 => hK _ _ _ _ _ _ ⟨k + 1, by omega, by omega, rfl, h5⟩ ?_)
  show N - (Int32.ofNat (k + 1)).toNatClampNeg < N - (Int32.ofNat k).toNatClampNeg
  rw [n_clamp (by omega), n_clamp (by omega)]
  omega
theorem ijX0_round_60_6 {b : Nat} {cs : Nat → ClassId} {ad : Nat → Nat} {vs : Nat → Option Nat} {o : Nat}  {Q : Int32 → XS → Prop} (N k0 : Nat) (hN : N < 2147483648) (h0 : k0 ≤ N) (P : Nat → Int32 → Int32 → Int32 → Int32 → XS → Prop) (step : ∀ (K60 : Int32 → Int32 → Int32 → Int32 → Int32 → XS → Prop) (k : Nat) (x4 : Int32) (x5 : Int32) (x7 : Int32) (x8 : Int32) (f : XS), k0 ≤ k → k ≤ N → P k x4 x5 x7 x8 f → (∀ (y4 : Int32) (y5 : Int32) (y7 : Int32) (y8 : Int32) (f' : XS), k < N → P (k + 1) y4 y5 y7 y8 f' → K60 y4 y5 (Int32.ofNat (k + 1)) y7 y8 f') → wbX0_round_60 b cs ad vs o K60 Q x4 x5 (Int32.ofNat k) x7 x8 f) (x4 : Int32) (x5 : Int32) (x7 : Int32) (x8 : Int32) (f : XS) (hP : P k0 x4 x5 x7 x8 f) : ∃ n : Nat, wlX0_round_60 b cs ad vs o  Q n x4 x5 (Int32.ofNat k0) x7 x8 f := by
  refine ilX0_round_60 (fun x4 x5 x6 x7 x8 f => ∃ k, k0 ≤ k ∧ k ≤ N ∧ x6 = Int32.ofNat k ∧ P k x4 x5 x7 x8 f) (fun x4 x5 x6 x7 x8 _ => N - x6.toNatClampNeg) ?_ _ _ _ _ _ _ ⟨k0, Nat.le_refl _, h0, rfl, hP⟩
  intro K x4 x5 x6 x7 x8 f hI hK
  obtain ⟨k, h1, h2, rfl, h3⟩ := hI
  refine step K k x4 x5 x7 x8 f h1 h2 h3 (fun y4 y5 y7 y8 f' h4 h5 => hK _ _ _ _ _ _ ⟨k + 1, by omega, by omega, rfl, h5⟩ ?_)
  show N - (Int32.ofNat (k + 1)).toNatClampNeg < N - (Int32.ofNat k).toNatClampNeg
  rw [n_clamp (by omega), n_clamp (by omega)]
  omega
theorem ijX0_round_60_7 {b : Nat} {cs : Nat → ClassId} {ad : Nat → Nat} {vs : Nat → Option Nat} {o : Nat}  {Q : Int32 → XS → Prop} (N k0 : Nat) (hN : N < 2147483648) (h0 : k0 ≤ N) (P : Nat → Int32 → Int32 → Int32 → Int32 → XS → Prop) (step : ∀ (K60 : Int32 → Int32 → Int32 → Int32 → Int32 → XS → Prop) (k : Nat) (x4 : Int32) (x5 : Int32) (x6 : Int32) (x8 : Int32) (f : XS), k0 ≤ k → k ≤ N → P k x4 x5 x6 x8 f → (∀ (y4 : Int32) (y5 : Int32) (y6 : Int32) (y8 : Int32) (f' : XS), k < N → P (k + 1) y4 y5 y6 y8 f' → K60 y4 y5 y6 (Int32.ofNat (k + 1)) y8 f') → wbX0_round_60 b cs ad vs o K60 Q x4 x5 x6 (Int32.ofNat k) x8 f) (x4 : Int32) (x5 : Int32) (x6 : Int32) (x8 : Int32) (f : XS) (hP : P k0 x4 x5 x6 x8 f) : ∃ n : Nat, wlX0_round_60 b cs ad vs o  Q n x4 x5 x6 (Int32.ofNat k0) x8 f := by
  refine ilX0_round_60 (fun x4 x5 x6 x7 x8 f => ∃ k, k0 ≤ k ∧ k ≤ N ∧ x7 = Int32.ofNat k ∧ P k x4 x5 x6 x8 f) (fun x4 x5 x6 x7 x8 _ => N - x7.toNatClampNeg) ?_ _ _ _ _ _ _ ⟨k0, Nat.le_refl _, h0, rfl, hP⟩
  intro K x4 x5 x6 x7 x8 f hI hK
  obtain ⟨k, h1, h2, rfl, h3⟩ := hI
  refine step K k x4 x5 x6 x8 f h1 h2 h3 (fun y4 y5 y6 y8 f' h4 h5 => hK _ _ _ _ _ _ ⟨k + 1, by omega, by omega, rfl, h5⟩ ?_)
  show N - (Int32.ofNat (k + 1)).toNatClampNeg < N - (Int32.ofNat k).toNatClampNeg
  rw [n_clamp (by omega), n_clamp (by omega)]
  omega
theorem ijX0_round_60_8 {b : Nat} {cs : Nat → ClassId} {ad : Nat → Nat} {vs : Nat → Option Nat} {o : Nat}  {Q : Int32 → XS → Prop} (N k0 : Nat) (hN : N < 2147483648) (h0 : k0 ≤ N) (P : Nat → Int32 → Int32 → Int32 → Int32 → XS → Prop) (step : ∀ (K60 : Int32 → Int32 → Int32 → Int32 → Int32 → XS → Prop) (k : Nat) (x4 : Int32) (x5 : Int32) (x6 : Int32) (x7 : Int32) (f : XS), k0 ≤ k → k ≤ N → P k x4 x5 x6 x7 f → (∀ (y4 : Int32) (y5 : Int32) (y6 : Int32) (y7 : Int32) (f' : XS), k < N → P (k + 1) y4 y5 y6 y7 f' → K60 y4 y5 y6 y7 (Int32.ofNat (k + 1)) f') → wbX0_round_60 b cs ad vs o K60 Q x4 x5 x6 x7 (Int32.ofNat k) f) (x4 : Int32) (x5 : Int32) (x6 : Int32) (x7 : Int32) (f : XS) (hP : P k0 x4 x5 x6 x7 f) : ∃ n : Nat, wlX0_round_60 b cs ad vs o  Q n x4 x5 x6 x7 (Int32.ofNat k0) f := by
  refine ilX0_round_60 (fun x4 x5 x6 x7 x8 f => ∃ k, k0 ≤ k ∧ k ≤ N ∧ x8 = Int32.ofNat k ∧ P k x4 x5 x6 x7 f) (fun x4 x5 x6 x7 x8 _ => N - x8.toNatClampNeg) ?_ _ _ _ _ _ _ ⟨k0, Nat.le_refl _, h0, rfl, hP⟩
  intro K x4 x5 x6 x7 x8 f hI hK
  obtain ⟨k, h1, h2, rfl, h3⟩ := hI
  refine step K k x4 x5 x6 x7 f h1 h2 h3 (fun y4 y5 y6 y7 f' h4 h5 => hK _ _ _ _ _ _ ⟨k + 1, by omega, by omega, rfl, h5⟩ ?_)
  show N - (Int32.ofNat (k + 1)).toNatClampNeg < N - (Int32.ofNat k).toNatClampNeg
  rw [n_clamp (by omega), n_clamp (by omega)]
  omega
theorem ijX0_walk_62_1 {b : Nat} {cs : Nat → ClassId} {ad : Nat → Nat} {vs : Nat → Option Nat} {o : Nat} {K95 : Int32 → Int32 → Int32 → Int32 → Nat → XS → Prop} {Q : Int32 → XS → Prop} (N k0 : Nat) (hN : N < 2147483648) (h0 : k0 ≤ N) (P : Nat → Int32 → Int32 → Int32 → Nat → Int32 → XS → Prop) (step : ∀ (K62 : Int32 → Int32 → Int32 → Int32 → Nat → Int32 → XS → Prop) (k : Nat) (x2 : Int32) (x3 : Int32) (x4 : Int32) (x6 : Nat) (x7 : Int32) (f : XS), k0 ≤ k → k ≤ N → P k x2 x3 x4 x6 x7 f → (∀ (y2 : Int32) (y3 : Int32) (y4 : Int32) (y6 : Nat) (y7 : Int32) (f' : XS), k < N → P (k + 1) y2 y3 y4 y6 y7 f' → K62 (Int32.ofNat (k + 1)) y2 y3 y4 y6 y7 f') → wbX0_walk_62 b cs ad vs o K62 K95 Q (Int32.ofNat k) x2 x3 x4 x6 x7 f) (x2 : Int32) (x3 : Int32) (x4 : Int32) (x6 : Nat) (x7 : Int32) (f : XS) (hP : P k0 x2 x3 x4 x6 x7 f) : ∃ n : Nat, wlX0_walk_62 b cs ad vs o K95 Q n (Int32.ofNat k0) x2 x3 x4 x6 x7 f := by
  refine ilX0_walk_62 (fun x1 x2 x3 x4 x6 x7 f => ∃ k, k0 ≤ k ∧ k ≤ N ∧ x1 = Int32.ofNat k ∧ P k x2 x3 x4 x6 x7 f) (fun x1 x2 x3 x4 x6 x7 _ => N - x1.toNatClampNeg) ?_ _ _ _ _ _ _ _ ⟨k0, Nat.le_refl _, h0, rfl, hP⟩
  intro K x1 x2 x3 x4 x6 x7 f hI hK
  obtain ⟨k, h1, h2, rfl, h3⟩ := hI
  refine step K k x2 x3 x4 x6 x7 f h1 h2 h3 (fun y2 y3 y4 y6 y7 f' h4 h5 => hK _ _ _ _ _ _ _ ⟨k + 1, by omega, by omega, rfl, h5⟩ ?_)
  show N - (Int32.ofNat (k + 1)).toNatClampNeg < N - (Int32.ofNat k).toNatClampNeg
  rw [n_clamp (by omega), n_clamp (by omega)]
  omega
theorem ijX0_walk_62_2 {b : Nat} {cs : Nat → ClassId} {ad : Nat → Nat} {vs : Nat → Option Nat} {o : Nat} {K95 : Int32 → Int32 → Int32 → Int32 → Nat → XS → Prop} {Q : Int32 → XS → Prop} (N k0 : Nat) (hN : N < 2147483648) (h0 : k0 ≤ N) (P : Nat → Int32 → Int32 → Int32 → Nat → Int32 → XS → Prop) (step : ∀ (K62 : Int32 → Int32 → Int32 → Int32 → Nat → Int32 → XS → Prop) (k : Nat) (x1 : Int32) (x3 : Int32) (x4 : Int32) (x6 : Nat) (x7 : Int32) (f : XS), k0 ≤ k → k ≤ N → P k x1 x3 x4 x6 x7 f → (∀ (y1 : Int32) (y3 : Int32) (y4 : Int32) (y6 : Nat) (y7 : Int32) (f' : XS), k < N → P (k + 1) y1 y3 y4 y6 y7 f' → K62 y1 (Int32.ofNat (k + 1)) y3 y4 y6 y7 f') → wbX0_walk_62 b cs ad vs o K62 K95 Q x1 (Int32.ofNat k) x3 x4 x6 x7 f) (x1 : Int32) (x3 : Int32) (x4 : Int32) (x6 : Nat) (x7 : Int32) (f : XS) (hP : P k0 x1 x3 x4 x6 x7 f) : ∃ n : Nat, wlX0_walk_62 b cs ad vs o K95 Q n x1 (Int32.ofNat k0) x3 x4 x6 x7 f := by
  refine ilX0_walk_62 (fun x1 x2 x3 x4 x6 x7 f => ∃ k, k0 ≤ k ∧ k ≤ N ∧ x2 = Int32.ofNat k ∧ P k x1 x3 x4 x6 x7 f) (fun x1 x2 x3 x4 x6 x7 _ => N - x2.toNatClampNeg) ?_ _ _ _ _ _ _ _ ⟨k0, Nat.le_refl _, h0, rfl, hP⟩
  intro K x1 x2 x3 x4 x6 x7 f hI hK
  obtain ⟨k, h1, h2, rfl, h3⟩ := hI
  refine step K k x1 x3 x4 x6 x7 f h1 h2 h3 (fun y1 y3 y4 y6 y7 f' h4 h5 => hK _ _ _ _ _ _ _ ⟨k + 1, by omega, by omega, rfl, h5⟩ ?_)
  show N - (Int32.ofNat (k + 1)).toNatClampNeg < N - (Int32.ofNat k).toNatClampNeg
  rw [n_clamp (by omega), n_clamp (by omega)]
  omega
theorem ijX0_walk_62_3 {b : Nat} {cs : Nat → ClassId} {ad : Nat → Nat} {vs : Nat → Option Nat} {o : Nat} {K95 : Int32 → Int32 → Int32 → Int32 → Nat → XS → Prop} {Q : Int32 → XS → Prop} (N k0 : Nat) (hN : N < 2147483648) (h0 : k0 ≤ N) (P : Nat → Int32 → Int32 → Int32 → Nat → Int32 → XS → Prop) (step : ∀ (K62 : Int32 → Int32 → Int32 → Int32 → Nat → Int32 → XS → Prop) (k : Nat) (x1 : Int32) (x2 : Int32) (x4 : Int32) (x6 : Nat) (x7 : Int32) (f : XS), k0 ≤ k → k ≤ N → P k x1 x2 x4 x6 x7 f → (∀ (y1 : Int32) (y2 : Int32) (y4 : Int32) (y6 : Nat) (y7 : Int32) (f' : XS), k < N → P (k + 1) y1 y2 y4 y6 y7 f' → K62 y1 y2 (Int32.ofNat (k + 1)) y4 y6 y7 f') → wbX0_walk_62 b cs ad vs o K62 K95 Q x1 x2 (Int32.ofNat k) x4 x6 x7 f) (x1 : Int32) (x2 : Int32) (x4 : Int32) (x6 : Nat) (x7 : Int32) (f : XS) (hP : P k0 x1 x2 x4 x6 x7 f) : ∃ n : Nat, wlX0_walk_62 b cs ad vs o K95 Q n x1 x2 (Int32.ofNat k0) x4 x6 x7 f := by
  refine ilX0_walk_62 (fun x1 x2 x3 x4 x6 x7 f => ∃ k, k0 ≤ k ∧ k ≤ N ∧ x3 = Int32.ofNat k ∧ P k x1 x2 x4 x6 x7 f) (fun x1 x2 x3 x4 x6 x7 _ => N - x3.toNatClampNeg) ?_ _ _ _ _ _ _ _ ⟨k0, Nat.le_refl _, h0, rfl, hP⟩
  intro K x1 x2 x3 x4 x6 x7 f hI hK
  obtain ⟨k, h1, h2, rfl, h3⟩ := hI
  refine step K k x1 x2 x4 x6 x7 f h1 h2 h3 (fun y1 y2 y4 y6 y7 f' h4 h5 => hK _ _ _ _ _ _ _ ⟨k + 1, by omega, by omega, rfl, h5⟩ ?_)
  show N - (Int32.ofNat (k + 1)).toNatClampNeg < N - (Int32.ofNat k).toNatClampNeg
  rw [n_clamp (by omega), n_clamp (by omega)]
  omega
theorem ijX0_walk_62_4 {b : Nat} {cs : Nat → ClassId} {ad : Nat → Nat} {vs : Nat → Option Nat} {o : Nat} {K95 : Int32 → Int32 → Int32 → Int32 → Nat → XS → Prop} {Q : Int32 → XS → Prop} (N k0 : Nat) (hN : N < 2147483648) (h0 : k0 ≤ N) (P : Nat → Int32 → Int32 → Int32 → Nat → Int32 → XS → Prop) (step : ∀ (K62 : Int32 → Int32 → Int32 → Int32 → Nat → Int32 → XS → Prop) (k : Nat) (x1 : Int32) (x2 : Int32) (x3 : Int32) (x6 : Nat) (x7 : Int32) (f : XS), k0 ≤ k → k ≤ N → P k x1 x2 x3 x6 x7 f → (∀ (y1 : Int32) (y2 : Int32) (y3 : Int32) (y6 : Nat) (y7 : Int32) (f' : XS), k < N → P (k + 1) y1 y2 y3 y6 y7 f' → K62 y1 y2 y3 (Int32.ofNat (k + 1)) y6 y7 f') → wbX0_walk_62 b cs ad vs o K62 K95 Q x1 x2 x3 (Int32.ofNat k) x6 x7 f) (x1 : Int32) (x2 : Int32) (x3 : Int32) (x6 : Nat) (x7 : Int32) (f : XS) (hP : P k0 x1 x2 x3 x6 x7 f) : ∃ n : Nat, wlX0_walk_62 b cs ad vs o K95 Q n x1 x2 x3 (Int32.ofNat k0) x6 x7 f := by
  refine ilX0_walk_62 (fun x1 x2 x3 x4 x6 x7 f => ∃ k, k0 ≤ k ∧ k ≤ N ∧ x4 = Int32.ofNat k ∧ P k x1 x2 x3 x6 x7 f) (fun x1 x2 x3 x4 x6 x7 _ => N - x4.toNatClampNeg) ?_ _ _ _ _ _ _ _ ⟨k0, Nat.le_refl _, h0, rfl, hP⟩
  intro K x1 x2 x3 x4 x6 x7 f hI hK
  obtain ⟨k, h1, h2, rfl, h3⟩ := hI
  refine step K k x1 x2 x3 x6 x7 f h1 h2 h3 (fun y1 y2 y3 y6 y7 f' h4 h5 => hK _ _ _ _ _ _ _ ⟨k + 1, by omega, by omega, rfl, h5⟩ ?_)
  show N - (Int32.ofNat (k + 1)).toNatClampNeg < N - (Int32.ofNat k).toNatClampNeg
  rw [n_clamp (by omega), n_clamp (by omega)]
  omega
theorem ijX0_walk_62_7 {b : Nat} {cs : Nat → ClassId} {ad : Nat → Nat} {vs : Nat → Option Nat} {o : Nat} {K95 : Int32 → Int32 → Int32 → Int32 → Nat → XS → Prop} {Q : Int32 → XS → Prop} (N k0 : Nat) (hN : N < 2147483648) (h0 : k0 ≤ N) (P : Nat → Int32 → Int32 → Int32 → Int32 → Nat → XS → Prop) (step : ∀ (K62 : Int32 → Int32 → Int32 → Int32 → Nat → Int32 → XS → Prop) (k : Nat) (x1 : Int32) (x2 : Int32) (x3 : Int32) (x4 : Int32) (x6 : Nat) (f : XS), k0 ≤ k → k ≤ N → P k x1 x2 x3 x4 x6 f → (∀ (y1 : Int32) (y2 : Int32) (y3 : Int32) (y4 : Int32) (y6 : Nat) (f' : XS), k < N → P (k + 1) y1 y2 y3 y4 y6 f' → K62 y1 y2 y3 y4 y6 (Int32.ofNat (k + 1)) f') → wbX0_walk_62 b cs ad vs o K62 K95 Q x1 x2 x3 x4 x6 (Int32.ofNat k) f) (x1 : Int32) (x2 : Int32) (x3 : Int32) (x4 : Int32) (x6 : Nat) (f : XS) (hP : P k0 x1 x2 x3 x4 x6 f) : ∃ n : Nat, wlX0_walk_62 b cs ad vs o K95 Q n x1 x2 x3 x4 x6 (Int32.ofNat k0) f := by
  refine ilX0_walk_62 (fun x1 x2 x3 x4 x6 x7 f => ∃ k, k0 ≤ k ∧ k ≤ N ∧ x7 = Int32.ofNat k ∧ P k x1 x2 x3 x4 x6 f) (fun x1 x2 x3 x4 x6 x7 _ => N - x7.toNatClampNeg) ?_ _ _ _ _ _ _ _ ⟨k0, Nat.le_refl _, h0, rfl, hP⟩
  intro K x1 x2 x3 x4 x6 x7 f hI hK
  obtain ⟨k, h1, h2, rfl, h3⟩ := hI
  refine step K k x1 x2 x3 x4 x6 f h1 h2 h3 (fun y1 y2 y3 y4 y6 f' h4 h5 => hK _ _ _ _ _ _ _ ⟨k + 1, by omega, by omega, rfl, h5⟩ ?_)
  show N - (Int32.ofNat (k + 1)).toNatClampNeg < N - (Int32.ofNat k).toNatClampNeg
  rw [n_clamp (by omega), n_clamp (by omega)]
  omega
theorem ijX0_walk_121_3 {b : Nat} {cs : Nat → ClassId} {ad : Nat → Nat} {vs : Nat → Option Nat} {o : Nat} {K189 : Int32 → Int32 → Int32 → XS → Prop} {Q : Int32 → XS → Prop} (N k0 : Nat) (hN : N < 2147483648) (h0 : k0 ≤ N) (P : Nat → Int32 → Nat → Int32 → Int32 → Int32 → XS → Prop) (step : ∀ (K121 : Int32 → Int32 → Nat → Int32 → Int32 → Int32 → XS → Prop) (k : Nat) (x4 : Int32) (x6 : Nat) (x7 : Int32) (x8 : Int32) (x9 : Int32) (f : XS), k0 ≤ k → k ≤ N → P k x4 x6 x7 x8 x9 f → (∀ (y4 : Int32) (y6 : Nat) (y7 : Int32) (y8 : Int32) (y9 : Int32) (f' : XS), k < N → P (k + 1) y4 y6 y7 y8 y9 f' → K121 (Int32.ofNat (k + 1)) y4 y6 y7 y8 y9 f') → wbX0_walk_121 b cs ad vs o K121 K189 Q (Int32.ofNat k) x4 x6 x7 x8 x9 f) (x4 : Int32) (x6 : Nat) (x7 : Int32) (x8 : Int32) (x9 : Int32) (f : XS) (hP : P k0 x4 x6 x7 x8 x9 f) : ∃ n : Nat, wlX0_walk_121 b cs ad vs o K189 Q n (Int32.ofNat k0) x4 x6 x7 x8 x9 f := by
  refine ilX0_walk_121 (fun x3 x4 x6 x7 x8 x9 f => ∃ k, k0 ≤ k ∧ k ≤ N ∧ x3 = Int32.ofNat k ∧ P k x4 x6 x7 x8 x9 f) (fun x3 x4 x6 x7 x8 x9 _ => N - x3.toNatClampNeg) ?_ _ _ _ _ _ _ _ ⟨k0, Nat.le_refl _, h0, rfl, hP⟩
  intro K x3 x4 x6 x7 x8 x9 f hI hK
  obtain ⟨k, h1, h2, rfl, h3⟩ := hI
  refine step K k x4 x6 x7 x8 x9 f h1 h2 h3 (fun y4 y6 y7 y8 y9 f' h4 h5 => hK _ _ _ _ _ _ _ ⟨k + 1, by omega, by omega, rfl, h5⟩ ?_)
  show N - (Int32.ofNat (k + 1)).toNatClampNeg < N - (Int32.ofNat k).toNatClampNeg
  rw [n_clamp (by omega), n_clamp (by omega)]
  omega
theorem ijX0_walk_121_4 {b : Nat} {cs : Nat → ClassId} {ad : Nat → Nat} {vs : Nat → Option Nat} {o : Nat} {K189 : Int32 → Int32 → Int32 → XS → Prop} {Q : Int32 → XS → Prop} (N k0 : Nat) (hN : N < 2147483648) (h0 : k0 ≤ N) (P : Nat → Int32 → Nat → Int32 → Int32 → Int32 → XS → Prop) (step : ∀ (K121 : Int32 → Int32 → Nat → Int32 → Int32 → Int32 → XS → Prop) (k : Nat) (x3 : Int32) (x6 : Nat) (x7 : Int32) (x8 : Int32) (x9 : Int32) (f : XS), k0 ≤ k → k ≤ N → P k x3 x6 x7 x8 x9 f → (∀ (y3 : Int32) (y6 : Nat) (y7 : Int32) (y8 : Int32) (y9 : Int32) (f' : XS), k < N → P (k + 1) y3 y6 y7 y8 y9 f' → K121 y3 (Int32.ofNat (k + 1)) y6 y7 y8 y9 f') → wbX0_walk_121 b cs ad vs o K121 K189 Q x3 (Int32.ofNat k) x6 x7 x8 x9 f) (x3 : Int32) (x6 : Nat) (x7 : Int32) (x8 : Int32) (x9 : Int32) (f : XS) (hP : P k0 x3 x6 x7 x8 x9 f) : ∃ n : Nat, wlX0_walk_121 b cs ad vs o K189 Q n x3 (Int32.ofNat k0) x6 x7 x8 x9 f := by
  refine ilX0_walk_121 (fun x3 x4 x6 x7 x8 x9 f => ∃ k, k0 ≤ k ∧ k ≤ N ∧ x4 = Int32.ofNat k ∧ P k x3 x6 x7 x8 x9 f) (fun x3 x4 x6 x7 x8 x9 _ => N - x4.toNatClampNeg) ?_ _ _ _ _ _ _ _ ⟨k0, Nat.le_refl _, h0, rfl, hP⟩
  intro K x3 x4 x6 x7 x8 x9 f hI hK
  obtain ⟨k, h1, h2, rfl, h3⟩ := hI
  refine step K k x3 x6 x7 x8 x9 f h1 h2 h3 (fun y3 y6 y7 y8 y9 f' h4 h5 => hK _ _ _ _ _ _ _ ⟨k + 1, by omega, by omega, rfl, h5⟩ ?_)
  show N - (Int32.ofNat (k + 1)).toNatClampNeg < N - (Int32.ofNat k).toNatClampNeg
  rw [n_clamp (by omega), n_clamp (by omega)]
  omega
theorem ijX0_walk_121_7 {b : Nat} {cs : Nat → ClassId} {ad : Nat → Nat} {vs : Nat → Option Nat} {o : Nat} {K189 : Int32 → Int32 → Int32 → XS → Prop} {Q : Int32 → XS → Prop} (N k0 : Nat) (hN : N < 2147483648) (h0 : k0 ≤ N) (P : Nat → Int32 → Int32 → Nat → Int32 → Int32 → XS → Prop) (step : ∀ (K121 : Int32 → Int32 → Nat → Int32 → Int32 → Int32 → XS → Prop) (k : Nat) (x3 : Int32) (x4 : Int32) (x6 : Nat) (x8 : Int32) (x9 : Int32) (f : XS), k0 ≤ k → k ≤ N → P k x3 x4 x6 x8 x9 f → (∀ (y3 : Int32) (y4 : Int32) (y6 : Nat) (y8 : Int32) (y9 : Int32) (f' : XS), k < N → P (k + 1) y3 y4 y6 y8 y9 f' → K121 y3 y4 y6 (Int32.ofNat (k + 1)) y8 y9 f') → wbX0_walk_121 b cs ad vs o K121 K189 Q x3 x4 x6 (Int32.ofNat k) x8 x9 f) (x3 : Int32) (x4 : Int32) (x6 : Nat) (x8 : Int32) (x9 : Int32) (f : XS) (hP : P k0 x3 x4 x6 x8 x9 f) : ∃ n : Nat, wlX0_walk_121 b cs ad vs o K189 Q n x3 x4 x6 (Int32.ofNat k0) x8 x9 f := by
  refine ilX0_walk_121 (fun x3 x4 x6 x7 x8 x9 f => ∃ k, k0 ≤ k ∧ k ≤ N ∧ x7 = Int32.ofNat k ∧ P k x3 x4 x6 x8 x9 f) (fun x3 x4 x6 x7 x8 x9 _ => N - x7.toNatClampNeg) ?_ _ _ _ _ _ _ _ ⟨k0, Nat.le_refl _, h0, rfl, hP⟩
  intro K x3 x4 x6 x7 x8 x9 f hI hK
  obtain ⟨k, h1, h2, rfl, h3⟩ := hI
  refine step K k x3 x4 x6 x8 x9 f h1 h2 h3 (fun y3 y4 y6 y8 y9 f' h4 h5 => hK _ _ _ _ _ _ _ ⟨k + 1, by omega, by omega, rfl, h5⟩ ?_)
  show N - (Int32.ofNat (k + 1)).toNatClampNeg < N - (Int32.ofNat k).toNatClampNeg
  rw [n_clamp (by omega), n_clamp (by omega)]
  omega
theorem ijX0_walk_121_8 {b : Nat} {cs : Nat → ClassId} {ad : Nat → Nat} {vs : Nat → Option Nat} {o : Nat} {K189 : Int32 → Int32 → Int32 → XS → Prop} {Q : Int32 → XS → Prop} (N k0 : Nat) (hN : N < 2147483648) (h0 : k0 ≤ N) (P : Nat → Int32 → Int32 → Nat → Int32 → Int32 → XS → Prop) (step : ∀ (K121 : Int32 → Int32 → Nat → Int32 → Int32 → Int32 → XS → Prop) (k : Nat) (x3 : Int32) (x4 : Int32) (x6 : Nat) (x7 : Int32) (x9 : Int32) (f : XS), k0 ≤ k → k ≤ N → P k x3 x4 x6 x7 x9 f → (∀ (y3 : Int32) (y4 : Int32) (y6 : Nat) (y7 : Int32) (y9 : Int32) (f' : XS), k < N → P (k + 1) y3 y4 y6 y7 y9 f' → K121 y3 y4 y6 y7 (Int32.ofNat (k + 1)) y9 f') → wbX0_walk_121 b cs ad vs o K121 K189 Q x3 x4 x6 x7 (Int32.ofNat k) x9 f) (x3 : Int32) (x4 : Int32) (x6 : Nat) (x7 : Int32) (x9 : Int32) (f : XS) (hP : P k0 x3 x4 x6 x7 x9 f) : ∃ n : Nat, wlX0_walk_121 b cs ad vs o K189 Q n x3 x4 x6 x7 (Int32.ofNat k0) x9 f := by
  refine ilX0_walk_121 (fun x3 x4 x6 x7 x8 x9 f => ∃ k, k0 ≤ k ∧ k ≤ N ∧ x8 = Int32.ofNat k ∧ P k x3 x4 x6 x7 x9 f) (fun x3 x4 x6 x7 x8 x9 _ => N - x8.toNatClampNeg) ?_ _ _ _ _ _ _ _ ⟨k0, Nat.le_refl _, h0, rfl, hP⟩
  intro K x3 x4 x6 x7 x8 x9 f hI hK
  obtain ⟨k, h1, h2, rfl, h3⟩ := hI
  refine step K k x3 x4 x6 x7 x9 f h1 h2 h3 (fun y3 y4 y6 y7 y9 f' h4 h5 => hK _ _ _ _ _ _ _ ⟨k + 1, by omega, by omega, rfl, h5⟩ ?_)
  show N - (Int32.ofNat (k + 1)).toNatClampNeg < N - (Int32.ofNat k).toNatClampNeg
  rw [n_clamp (by omega), n_clamp (by omega)]
  omega
theorem ijX0_walk_121_9 {b : Nat} {cs : Nat → ClassId} {ad : Nat → Nat} {vs : Nat → Option Nat} {o : Nat} {K189 : Int32 → Int32 → Int32 → XS → Prop} {Q : Int32 → XS → Prop} (N k0 : Nat) (hN : N < 2147483648) (h0 : k0 ≤ N) (P : Nat → Int32 → Int32 → Nat → Int32 → Int32 → XS → Prop) (step : ∀ (K121 : Int32 → Int32 → Nat → Int32 → Int32 → Int32 → XS → Prop) (k : Nat) (x3 : Int32) (x4 : Int32) (x6 : Nat) (x7 : Int32) (x8 : Int32) (f : XS), k0 ≤ k → k ≤ N → P k x3 x4 x6 x7 x8 f → (∀ (y3 : Int32) (y4 : Int32) (y6 : Nat) (y7 : Int32) (y8 : Int32) (f' : XS), k < N → P (k + 1) y3 y4 y6 y7 y8 f' → K121 y3 y4 y6 y7 y8 (Int32.ofNat (k + 1)) f') → wbX0_walk_121 b cs ad vs o K121 K189 Q x3 x4 x6 x7 x8 (Int32.ofNat k) f) (x3 : Int32) (x4 : Int32) (x6 : Nat) (x7 : Int32) (x8 : Int32) (f : XS) (hP : P k0 x3 x4 x6 x7 x8 f) : ∃ n : Nat, wlX0_walk_121 b cs ad vs o K189 Q n x3 x4 x6 x7 x8 (Int32.ofNat k0) f := by
  refine ilX0_walk_121 (fun x3 x4 x6 x7 x8 x9 f => ∃ k, k0 ≤ k ∧ k ≤ N ∧ x9 = Int32.ofNat k ∧ P k x3 x4 x6 x7 x8 f) (fun x3 x4 x6 x7 x8 x9 _ => N - x9.toNatClampNeg) ?_ _ _ _ _ _ _ _ ⟨k0, Nat.le_refl _, h0, rfl, hP⟩
  intro K x3 x4 x6 x7 x8 x9 f hI hK
  obtain ⟨k, h1, h2, rfl, h3⟩ := hI
  refine step K k x3 x4 x6 x7 x8 f h1 h2 h3 (fun y3 y4 y6 y7 y8 f' h4 h5 => hK _ _ _ _ _ _ _ ⟨k + 1, by omega, by omega, rfl, h5⟩ ?_)
  show N - (Int32.ofNat (k + 1)).toNatClampNeg < N - (Int32.ofNat k).toNatClampNeg
  rw [n_clamp (by omega), n_clamp (by omega)]
  omega
theorem ijX0_back_74_1 {b : Nat} {cs : Nat → ClassId} {ad : Nat → Nat} {vs : Nat → Option Nat} {o : Nat} {K126 : Int32 → XS → Prop} {Q : Int32 → XS → Prop} (N k0 : Nat) (hN : N < 2147483648) (h0 : k0 ≤ N) (P : Nat → Int32 → XS → Prop) (step : ∀ (K74 : Int32 → Int32 → XS → Prop) (k : Nat) (x2 : Int32) (f : XS), k0 ≤ k → k ≤ N → P k x2 f → (∀ (y2 : Int32) (f' : XS), k < N → P (k + 1) y2 f' → K74 (Int32.ofNat (k + 1)) y2 f') → wbX0_back_74 b cs ad vs o K74 K126 Q (Int32.ofNat k) x2 f) (x2 : Int32) (f : XS) (hP : P k0 x2 f) : ∃ n : Nat, wlX0_back_74 b cs ad vs o K126 Q n (Int32.ofNat k0) x2 f := by
  refine ilX0_back_74 (fun x1 x2 f => ∃ k, k0 ≤ k ∧ k ≤ N ∧ x1 = Int32.ofNat k ∧ P k x2 f) (fun x1 x2 _ => N - x1.toNatClampNeg) ?_ _ _ _ ⟨k0, Nat.le_refl _, h0, rfl, hP⟩
  intro K x1 x2 f hI hK
  obtain ⟨k, h1, h2, rfl, h3⟩ := hI
  refine step K k x2 f h1 h2 h3 (fun y2 f' h4 h5 => hK _ _ _ ⟨k + 1, by omega, by omega, rfl, h5⟩ ?_)
  show N - (Int32.ofNat (k + 1)).toNatClampNeg < N - (Int32.ofNat k).toNatClampNeg
  rw [n_clamp (by omega), n_clamp (by omega)]
  omega
theorem ijX0_back_74_2 {b : Nat} {cs : Nat → ClassId} {ad : Nat → Nat} {vs : Nat → Option Nat} {o : Nat} {K126 : Int32 → XS → Prop} {Q : Int32 → XS → Prop} (N k0 : Nat) (hN : N < 2147483648) (h0 : k0 ≤ N) (P : Nat → Int32 → XS → Prop) (step : ∀ (K74 : Int32 → Int32 → XS → Prop) (k : Nat) (x1 : Int32) (f : XS), k0 ≤ k → k ≤ N → P k x1 f → (∀ (y1 : Int32) (f' : XS), k < N → P (k + 1) y1 f' → K74 y1 (Int32.ofNat (k + 1)) f') → wbX0_back_74 b cs ad vs o K74 K126 Q x1 (Int32.ofNat k) f) (x1 : Int32) (f : XS) (hP : P k0 x1 f) : ∃ n : Nat, wlX0_back_74 b cs ad vs o K126 Q n x1 (Int32.ofNat k0) f := by
  refine ilX0_back_74 (fun x1 x2 f => ∃ k, k0 ≤ k ∧ k ≤ N ∧ x2 = Int32.ofNat k ∧ P k x1 f) (fun x1 x2 _ => N - x2.toNatClampNeg) ?_ _ _ _ ⟨k0, Nat.le_refl _, h0, rfl, hP⟩
  intro K x1 x2 f hI hK
  obtain ⟨k, h1, h2, rfl, h3⟩ := hI
  refine step K k x1 f h1 h2 h3 (fun y1 f' h4 h5 => hK _ _ _ ⟨k + 1, by omega, by omega, rfl, h5⟩ ?_)
  show N - (Int32.ofNat (k + 1)).toNatClampNeg < N - (Int32.ofNat k).toNatClampNeg
  rw [n_clamp (by omega), n_clamp (by omega)]
  omega
theorem ijX0_back_64_1 {b : Nat} {cs : Nat → ClassId} {ad : Nat → Nat} {vs : Nat → Option Nat} {o : Nat} {K132 : XS → Prop} {Q : Int32 → XS → Prop} (N k0 : Nat) (hN : N < 2147483648) (h0 : k0 ≤ N) (P : Nat → XS → Prop) (step : ∀ (K64 : Int32 → XS → Prop) (k : Nat)  (f : XS), k0 ≤ k → k ≤ N → P k  f → (∀  (f' : XS), k < N → P (k + 1)  f' → K64 (Int32.ofNat (k + 1)) f') → wbX0_back_64 b cs ad vs o K64 K132 Q (Int32.ofNat k) f)  (f : XS) (hP : P k0  f) : ∃ n : Nat, wlX0_back_64 b cs ad vs o K132 Q n (Int32.ofNat k0) f := by
  refine ilX0_back_64 (fun x1 f => ∃ k, k0 ≤ k ∧ k ≤ N ∧ x1 = Int32.ofNat k ∧ P k  f) (fun x1 _ => N - x1.toNatClampNeg) ?_ _ _ ⟨k0, Nat.le_refl _, h0, rfl, hP⟩
  intro K x1 f hI hK
  obtain ⟨k, h1, h2, rfl, h3⟩ := hI
  refine step K k  f h1 h2 h3 (fun  f' h4 h5 => hK _ _ ⟨k + 1, by omega, by omega, rfl, h5⟩ ?_)
  show N - (Int32.ofNat (k + 1)).toNatClampNeg < N - (Int32.ofNat k).toNatClampNeg
  rw [n_clamp (by omega), n_clamp (by omega)]
  omega
theorem ijX0_feed_35_4 {b : Nat} {cs : Nat → ClassId} {ad : Nat → Nat} {vs : Nat → Option Nat} {o : Nat}  {Q : Int32 → XS → Prop} (N k0 : Nat) (hN : N < 2147483648) (h0 : k0 ≤ N) (P : Nat → Int64 → XS → Prop) (step : ∀ (K35 : Int64 → Int32 → XS → Prop) (k : Nat) (x1 : Int64) (f : XS), k0 ≤ k → k ≤ N → P k x1 f → (∀ (y1 : Int64) (f' : XS), k < N → P (k + 1) y1 f' → K35 y1 (Int32.ofNat (k + 1)) f') → wbX0_feed_35 b cs ad vs o K35 Q x1 (Int32.ofNat k) f) (x1 : Int64) (f : XS) (hP : P k0 x1 f) : ∃ n : Nat, wlX0_feed_35 b cs ad vs o  Q n x1 (Int32.ofNat k0) f := by
  refine ilX0_feed_35 (fun x1 x4 f => ∃ k, k0 ≤ k ∧ k ≤ N ∧ x4 = Int32.ofNat k ∧ P k x1 f) (fun x1 x4 _ => N - x4.toNatClampNeg) ?_ _ _ _ ⟨k0, Nat.le_refl _, h0, rfl, hP⟩
  intro K x1 x4 f hI hK
  obtain ⟨k, h1, h2, rfl, h3⟩ := hI
  refine step K k x1 f h1 h2 h3 (fun y1 f' h4 h5 => hK _ _ _ ⟨k + 1, by omega, by omega, rfl, h5⟩ ?_)
  show N - (Int32.ofNat (k + 1)).toNatClampNeg < N - (Int32.ofNat k).toNatClampNeg
  rw [n_clamp (by omega), n_clamp (by omega)]
  omega
theorem ijX0_roads_67_3 {b : Nat} {cs : Nat → ClassId} {ad : Nat → Nat} {vs : Nat → Option Nat} {o : Nat}  {Q : Int32 → XS → Prop} (N k0 : Nat) (hN : N < 2147483648) (h0 : k0 ≤ N) (P : Nat → Int32 → Int32 → Nat → Int32 → XS → Prop) (step : ∀ (K67 : Int32 → Int32 → Int32 → Nat → Int32 → XS → Prop) (k : Nat) (x4 : Int32) (x5 : Int32) (x6 : Nat) (x7 : Int32) (f : XS), k0 ≤ k → k ≤ N → P k x4 x5 x6 x7 f → (∀ (y4 : Int32) (y5 : Int32) (y6 : Nat) (y7 : Int32) (f' : XS), k < N → P (k + 1) y4 y5 y6 y7 f' → K67 (Int32.ofNat (k + 1)) y4 y5 y6 y7 f') → wbX0_roads_67 b cs ad vs o K67 Q (Int32.ofNat k) x4 x5 x6 x7 f) (x4 : Int32) (x5 : Int32) (x6 : Nat) (x7 : Int32) (f : XS) (hP : P k0 x4 x5 x6 x7 f) : ∃ n : Nat, wlX0_roads_67 b cs ad vs o  Q n (Int32.ofNat k0) x4 x5 x6 x7 f := by
  refine ilX0_roads_67 (fun x3 x4 x5 x6 x7 f => ∃ k, k0 ≤ k ∧ k ≤ N ∧ x3 = Int32.ofNat k ∧ P k x4 x5 x6 x7 f) (fun x3 x4 x5 x6 x7 _ => N - x3.toNatClampNeg) ?_ _ _ _ _ _ _ ⟨k0, Nat.le_refl _, h0, rfl, hP⟩
  intro K x3 x4 x5 x6 x7 f hI hK
  obtain ⟨k, h1, h2, rfl, h3⟩ := hI
  refine step K k x4 x5 x6 x7 f h1 h2 h3 (fun y4 y5 y6 y7 f' h4 h5 => hK _ _ _ _ _ _ ⟨k + 1, by omega, by omega, rfl, h5⟩ ?_)
  show N - (Int32.ofNat (k + 1)).toNatClampNeg < N - (Int32.ofNat k).toNatClampNeg
  rw [n_clamp (by omega), n_clamp (by omega)]
  omega
theorem ijX0_roads_67_4 {b : Nat} {cs : Nat → ClassId} {ad : Nat → Nat} {vs : Nat → Option Nat} {o : Nat}  {Q : Int32 → XS → Prop} (N k0 : Nat) (hN : N < 2147483648) (h0 : k0 ≤ N) (P : Nat → Int32 → Int32 → Nat → Int32 → XS → Prop) (step : ∀ (K67 : Int32 → Int32 → Int32 → Nat → Int32 → XS → Prop) (k : Nat) (x3 : Int32) (x5 : Int32) (x6 : Nat) (x7 : Int32) (f : XS), k0 ≤ k → k ≤ N → P k x3 x5 x6 x7 f → (∀ (y3 : Int32) (y5 : Int32) (y6 : Nat) (y7 : Int32) (f' : XS), k < N → P (k + 1) y3 y5 y6 y7 f' → K67 y3 (Int32.ofNat (k + 1)) y5 y6 y7 f') → wbX0_roads_67 b cs ad vs o K67 Q x3 (Int32.ofNat k) x5 x6 x7 f) (x3 : Int32) (x5 : Int32) (x6 : Nat) (x7 : Int32) (f : XS) (hP : P k0 x3 x5 x6 x7 f) : ∃ n : Nat, wlX0_roads_67 b cs ad vs o  Q n x3 (Int32.ofNat k0) x5 x6 x7 f := by
  refine ilX0_roads_67 (fun x3 x4 x5 x6 x7 f => ∃ k, k0 ≤ k ∧ k ≤ N ∧ x4 = Int32.ofNat k ∧ P k x3 x5 x6 x7 f) (fun x3 x4 x5 x6 x7 _ => N - x4.toNatClampNeg) ?_ _ _ _ _ _ _ ⟨k0, Nat.le_refl _, h0, rfl, hP⟩
  intro K x3 x4 x5 x6 x7 f hI hK
  obtain ⟨k, h1, h2, rfl, h3⟩ := hI
  refine step K k x3 x5 x6 x7 f h1 h2 h3 (fun y3 y5 y6 y7 f' h4 h5 => hK _ _ _ _ _ _ ⟨k + 1, by omega, by omega, rfl, h5⟩ ?_)
  show N - (Int32.ofNat (k + 1)).toNatClampNeg < N - (Int32.ofNat k).toNatClampNeg
  rw [n_clamp (by omega), n_clamp (by omega)]
  omega
theorem ijX0_roads_67_5 {b : Nat} {cs : Nat → ClassId} {ad : Nat → Nat} {vs : Nat → Option Nat} {o : Nat}  {Q : Int32 → XS → Prop} (N k0 : Nat) (hN : N < 2147483648) (h0 : k0 ≤ N) (P : Nat → Int32 → Int32 → Nat → Int32 → XS → Prop) (step : ∀ (K67 : Int32 → Int32 → Int32 → Nat → Int32 → XS → Prop) (k : Nat) (x3 : Int32) (x4 : Int32) (x6 : Nat) (x7 : Int32) (f : XS), k0 ≤ k → k ≤ N → P k x3 x4 x6 x7 f → (∀ (y3 : Int32) (y4 : Int32) (y6 : Nat) (y7 : Int32) (f' : XS), k < N → P (k + 1) y3 y4 y6 y7 f' → K67 y3 y4 (Int32.ofNat (k + 1)) y6 y7 f') → wbX0_roads_67 b cs ad vs o K67 Q x3 x4 (Int32.ofNat k) x6 x7 f) (x3 : Int32) (x4 : Int32) (x6 : Nat) (x7 : Int32) (f : XS) (hP : P k0 x3 x4 x6 x7 f) : ∃ n : Nat, wlX0_roads_67 b cs ad vs o  Q n x3 x4 (Int32.ofNat k0) x6 x7 f := by
  refine ilX0_roads_67 (fun x3 x4 x5 x6 x7 f => ∃ k, k0 ≤ k ∧ k ≤ N ∧ x5 = Int32.ofNat k ∧ P k x3 x4 x6 x7 f) (fun x3 x4 x5 x6 x7 _ => N - x5.toNatClampNeg) ?_ _ _ _ _ _ _ ⟨k0, Nat.le_refl _, h0, rfl, hP⟩
  intro K x3 x4 x5 x6 x7 f hI hK
  obtain ⟨k, h1, h2, rfl, h3⟩ := hI
  refine step K k x3 x4 x6 x7 f h1 h2 h3 (fun y3 y4 y6 y7 f' h4 h5 => hK _ _ _ _ _ _ ⟨k + 1, by omega, by omega, rfl, h5⟩ ?_)
  show N - (Int32.ofNat (k + 1)).toNatClampNeg < N - (Int32.ofNat k).toNatClampNeg
  rw [n_clamp (by omega), n_clamp (by omega)]
  omega
theorem ijX0_roads_67_7 {b : Nat} {cs : Nat → ClassId} {ad : Nat → Nat} {vs : Nat → Option Nat} {o : Nat}  {Q : Int32 → XS → Prop} (N k0 : Nat) (hN : N < 2147483648) (h0 : k0 ≤ N) (P : Nat → Int32 → Int32 → Int32 → Nat → XS → Prop) (step : ∀ (K67 : Int32 → Int32 → Int32 → Nat → Int32 → XS → Prop) (k : Nat) (x3 : Int32) (x4 : Int32) (x5 : Int32) (x6 : Nat) (f : XS), k0 ≤ k → k ≤ N → P k x3 x4 x5 x6 f → (∀ (y3 : Int32) (y4 : Int32) (y5 : Int32) (y6 : Nat) (f' : XS), k < N → P (k + 1) y3 y4 y5 y6 f' → K67 y3 y4 y5 y6 (Int32.ofNat (k + 1)) f') → wbX0_roads_67 b cs ad vs o K67 Q x3 x4 x5 x6 (Int32.ofNat k) f) (x3 : Int32) (x4 : Int32) (x5 : Int32) (x6 : Nat) (f : XS) (hP : P k0 x3 x4 x5 x6 f) : ∃ n : Nat, wlX0_roads_67 b cs ad vs o  Q n x3 x4 x5 x6 (Int32.ofNat k0) f := by
  refine ilX0_roads_67 (fun x3 x4 x5 x6 x7 f => ∃ k, k0 ≤ k ∧ k ≤ N ∧ x7 = Int32.ofNat k ∧ P k x3 x4 x5 x6 f) (fun x3 x4 x5 x6 x7 _ => N - x7.toNatClampNeg) ?_ _ _ _ _ _ _ ⟨k0, Nat.le_refl _, h0, rfl, hP⟩
  intro K x3 x4 x5 x6 x7 f hI hK
  obtain ⟨k, h1, h2, rfl, h3⟩ := hI
  refine step K k x3 x4 x5 x6 f h1 h2 h3 (fun y3 y4 y5 y6 f' h4 h5 => hK _ _ _ _ _ _ ⟨k + 1, by omega, by omega, rfl, h5⟩ ?_)
  show N - (Int32.ofNat (k + 1)).toNatClampNeg < N - (Int32.ofNat k).toNatClampNeg
  rw [n_clamp (by omega), n_clamp (by omega)]
  omega
