/-! rules of the loops (by program) -/
set_option maxRecDepth 100000
theorem ilX0_ways_12 {b : Nat} {cs : Nat → ClassId} {ad : Nat → Nat} {vs : Nat → Option Nat} {o : Nat} {K76 : Int32 → XS → Prop} {Q : XS → Prop} (Inv : Int32 → Int32 → XS → Prop) (meas : Int32 → Int32 → XS → Nat) (step : ∀ (K12 : Int32 → Int32 → XS → Prop) (x1 : Int32) (x2 : Int32) (f : XS), Inv x1 x2 f → (∀ (y1 : Int32) (y2 : Int32) (f' : XS), Inv y1 y2 f' → meas y1 y2 f' < meas x1 x2 f → K12 y1 y2 f') → wbX0_ways_12 b cs ad vs o K12 K76 Q x1 x2 f) (x1 : Int32) (x2 : Int32) (f : XS) (h : Inv x1 x2 f) : ∃ n : Nat, wlX0_ways_12 b cs ad vs o K76 Q n x1 x2 f := by
  have key : ∀ (n : Nat) (x1 : Int32) (x2 : Int32) (f : XS), Inv x1 x2 f → meas x1 x2 f < n → wlX0_ways_12 b cs ad vs o K76 Q n x1 x2 f := by
    intro n
    induction n with
    | zero => intro x1 x2 f hI hm; exact absurd hm (Nat.not_lt_zero _)
    | succ n ih => intro x1 x2 f hI hm; exact step _ x1 x2 f hI (fun y1 y2 f' hI' hlt => ih y1 y2 f' hI' (Nat.lt_of_lt_of_le hlt (Nat.le_of_lt_succ hm)))
  exact ⟨_, key _ x1 x2 f h (Nat.lt_succ_self _)⟩
theorem icX0_ways_12_1 {b : Nat} {cs : Nat → ClassId} {ad : Nat → Nat} {vs : Nat → Option Nat} {o : Nat} {K76 : Int32 → XS → Prop} {Q : XS → Prop} (N k0 : Nat) (hN : N < 2147483648) (h0 : k0 ≤ N) (P : Nat → Prop) (p2 : Nat → Int32) (st : Nat → XS) (hP : P k0) (step : ∀ (K12 : Int32 → Int32 → XS → Prop) (k : Nat), k0 ≤ k → k ≤ N → P k → (k < N → P (k + 1) → K12 (Int32.ofNat (k + 1)) (p2 (k + 1)) (st (k + 1))) → wbX0_ways_12 b cs ad vs o K12 K76 Q (Int32.ofNat k) (p2 k) (st k)) : ∃ n : Nat, wlX0_ways_12 b cs ad vs o K76 Q n (Int32.ofNat k0) (p2 k0) (st k0) := by
  refine ilX0_ways_12 (fun x1 x2 f => ∃ k, k0 ≤ k ∧ k ≤ N ∧ P k ∧ x1 = Int32.ofNat k ∧ x2 = p2 k ∧ f = st k) (fun x1 x2 _ => N - x1.toNatClampNeg) ?_ _ _ _ ⟨k0, Nat.le_refl _, h0, hP, rfl, rfl, rfl⟩
  intro K x1 x2 f hI hK
  obtain ⟨k, h1, h2, h3, rfl, rfl, rfl⟩ := hI
  refine step K k h1 h2 h3 (fun h4 h5 => hK _ _ _ ⟨k + 1, by omega, by omega, h5, rfl, rfl, rfl⟩ ?_)
  show N - (Int32.ofNat (k + 1)).toNatClampNeg < N - (Int32.ofNat k).toNatClampNeg
  rw [n_clamp (by omega), n_clamp (by omega)]
  omega
theorem icX0_ways_12_2 {b : Nat} {cs : Nat → ClassId} {ad : Nat → Nat} {vs : Nat → Option Nat} {o : Nat} {K76 : Int32 → XS → Prop} {Q : XS → Prop} (N k0 : Nat) (hN : N < 2147483648) (h0 : k0 ≤ N) (P : Nat → Prop) (p1 : Nat → Int32) (st : Nat → XS) (hP : P k0) (step : ∀ (K12 : Int32 → Int32 → XS → Prop) (k : Nat), k0 ≤ k → k ≤ N → P k → (k < N → P (k + 1) → K12 (p1 (k + 1)) (Int32.ofNat (k + 1)) (st (k + 1))) → wbX0_ways_12 b cs ad vs o K12 K76 Q (p1 k) (Int32.ofNat k) (st k)) : ∃ n : Nat, wlX0_ways_12 b cs ad vs o K76 Q n (p1 k0) (Int32.ofNat k0) (st k0) := by
  refine ilX0_ways_12 (fun x1 x2 f => ∃ k, k0 ≤ k ∧ k ≤ N ∧ P k ∧ x1 = p1 k ∧ x2 = Int32.ofNat k ∧ f = st k) (fun x1 x2 _ => N - x2.toNatClampNeg) ?_ _ _ _ ⟨k0, Nat.le_refl _, h0, hP, rfl, rfl, rfl⟩
  intro K x1 x2 f hI hK
  obtain ⟨k, h1, h2, h3, rfl, rfl, rfl⟩ := hI
  refine step K k h1 h2 h3 (fun h4 h5 => hK _ _ _ ⟨k + 1, by omega, by omega, h5, rfl, rfl, rfl⟩ ?_)
  show N - (Int32.ofNat (k + 1)).toNatClampNeg < N - (Int32.ofNat k).toNatClampNeg
  rw [n_clamp (by omega), n_clamp (by omega)]
  omega
theorem ilX0_ways_2 {b : Nat} {cs : Nat → ClassId} {ad : Nat → Nat} {vs : Nat → Option Nat} {o : Nat} {K82 : XS → Prop} {Q : XS → Prop} (Inv : Int32 → XS → Prop) (meas : Int32 → XS → Nat) (step : ∀ (K2 : Int32 → XS → Prop) (x1 : Int32) (f : XS), Inv x1 f → (∀ (y1 : Int32) (f' : XS), Inv y1 f' → meas y1 f' < meas x1 f → K2 y1 f') → wbX0_ways_2 b cs ad vs o K2 K82 Q x1 f) (x1 : Int32) (f : XS) (h : Inv x1 f) : ∃ n : Nat, wlX0_ways_2 b cs ad vs o K82 Q n x1 f := by
  have key : ∀ (n : Nat) (x1 : Int32) (f : XS), Inv x1 f → meas x1 f < n → wlX0_ways_2 b cs ad vs o K82 Q n x1 f := by
    intro n
    induction n with
    | zero => intro x1 f hI hm; exact absurd hm (Nat.not_lt_zero _)
    | succ n ih => intro x1 f hI hm; exact step _ x1 f hI (fun y1 f' hI' hlt => ih y1 f' hI' (Nat.lt_of_lt_of_le hlt (Nat.le_of_lt_succ hm)))
  exact ⟨_, key _ x1 f h (Nat.lt_succ_self _)⟩
theorem icX0_ways_2_1 {b : Nat} {cs : Nat → ClassId} {ad : Nat → Nat} {vs : Nat → Option Nat} {o : Nat} {K82 : XS → Prop} {Q : XS → Prop} (N k0 : Nat) (hN : N < 2147483648) (h0 : k0 ≤ N) (P : Nat → Prop)  (st : Nat → XS) (hP : P k0) (step : ∀ (K2 : Int32 → XS → Prop) (k : Nat), k0 ≤ k → k ≤ N → P k → (k < N → P (k + 1) → K2 (Int32.ofNat (k + 1)) (st (k + 1))) → wbX0_ways_2 b cs ad vs o K2 K82 Q (Int32.ofNat k) (st k)) : ∃ n : Nat, wlX0_ways_2 b cs ad vs o K82 Q n (Int32.ofNat k0) (st k0) := by
  refine ilX0_ways_2 (fun x1 f => ∃ k, k0 ≤ k ∧ k ≤ N ∧ P k ∧ x1 = Int32.ofNat k ∧ f = st k) (fun x1 _ => N - x1.toNatClampNeg) ?_ _ _ ⟨k0, Nat.le_refl _, h0, hP, rfl, rfl⟩
  intro K x1 f hI hK
  obtain ⟨k, h1, h2, h3, rfl, rfl⟩ := hI
  refine step K k h1 h2 h3 (fun h4 h5 => hK _ _ ⟨k + 1, by omega, by omega, h5, rfl, rfl⟩ ?_)
  show N - (Int32.ofNat (k + 1)).toNatClampNeg < N - (Int32.ofNat k).toNatClampNeg
  rw [n_clamp (by omega), n_clamp (by omega)]
  omega
theorem ilX0_ways_104 {b : Nat} {cs : Nat → ClassId} {ad : Nat → Nat} {vs : Nat → Option Nat} {o : Nat} {K171 : Int32 → Int32 → XS → Prop} {Q : XS → Prop} (Inv : Int32 → Int32 → Int32 → XS → Prop) (meas : Int32 → Int32 → Int32 → XS → Nat) (step : ∀ (K104 : Int32 → Int32 → Int32 → XS → Prop) (x1 : Int32) (x2 : Int32) (x3 : Int32) (f : XS), Inv x1 x2 x3 f → (∀ (y1 : Int32) (y2 : Int32) (y3 : Int32) (f' : XS), Inv y1 y2 y3 f' → meas y1 y2 y3 f' < meas x1 x2 x3 f → K104 y1 y2 y3 f') → wbX0_ways_104 b cs ad vs o K104 K171 Q x1 x2 x3 f) (x1 : Int32) (x2 : Int32) (x3 : Int32) (f : XS) (h : Inv x1 x2 x3 f) : ∃ n : Nat, wlX0_ways_104 b cs ad vs o K171 Q n x1 x2 x3 f := by
  have key : ∀ (n : Nat) (x1 : Int32) (x2 : Int32) (x3 : Int32) (f : XS), Inv x1 x2 x3 f → meas x1 x2 x3 f < n → wlX0_ways_104 b cs ad vs o K171 Q n x1 x2 x3 f := by
    intro n
    induction n with
    | zero => intro x1 x2 x3 f hI hm; exact absurd hm (Nat.not_lt_zero _)
    | succ n ih => intro x1 x2 x3 f hI hm; exact step _ x1 x2 x3 f hI (fun y1 y2 y3 f' hI' hlt => ih y1 y2 y3 f' hI' (Nat.lt_of_lt_of_le hlt (Nat.le_of_lt_succ hm)))
  exact ⟨_, key _ x1 x2 x3 f h (Nat.lt_succ_self _)⟩
theorem icX0_ways_104_1 {b : Nat} {cs : Nat → ClassId} {ad : Nat → Nat} {vs : Nat → Option Nat} {o : Nat} {K171 : Int32 → Int32 → XS → Prop} {Q : XS → Prop} (N k0 : Nat) (hN : N < 2147483648) (h0 : k0 ≤ N) (P : Nat → Prop) (p2 : Nat → Int32) (p3 : Nat → Int32) (st : Nat → XS) (hP : P k0) (step : ∀ (K104 : Int32 → Int32 → Int32 → XS → Prop) (k : Nat), k0 ≤ k → k ≤ N → P k → (k < N → P (k + 1) → K104 (Int32.ofNat (k + 1)) (p2 (k + 1)) (p3 (k + 1)) (st (k + 1))) → wbX0_ways_104 b cs ad vs o K104 K171 Q (Int32.ofNat k) (p2 k) (p3 k) (st k)) : ∃ n : Nat, wlX0_ways_104 b cs ad vs o K171 Q n (Int32.ofNat k0) (p2 k0) (p3 k0) (st k0) := by
  refine ilX0_ways_104 (fun x1 x2 x3 f => ∃ k, k0 ≤ k ∧ k ≤ N ∧ P k ∧ x1 = Int32.ofNat k ∧ x2 = p2 k ∧ x3 = p3 k ∧ f = st k) (fun x1 x2 x3 _ => N - x1.toNatClampNeg) ?_ _ _ _ _ ⟨k0, Nat.le_refl _, h0, hP, rfl, rfl, rfl, rfl⟩
  intro K x1 x2 x3 f hI hK
  obtain ⟨k, h1, h2, h3, rfl, rfl, rfl, rfl⟩ := hI
  refine step K k h1 h2 h3 (fun h4 h5 => hK _ _ _ _ ⟨k + 1, by omega, by omega, h5, rfl, rfl, rfl, rfl⟩ ?_)
  show N - (Int32.ofNat (k + 1)).toNatClampNeg < N - (Int32.ofNat k).toNatClampNeg
  rw [n_clamp (by omega), n_clamp (by omega)]
  omega
theorem icX0_ways_104_2 {b : Nat} {cs : Nat → ClassId} {ad : Nat → Nat} {vs : Nat → Option Nat} {o : Nat} {K171 : Int32 → Int32 → XS → Prop} {Q : XS → Prop} (N k0 : Nat) (hN : N < 2147483648) (h0 : k0 ≤ N) (P : Nat → Prop) (p1 : Nat → Int32) (p3 : Nat → Int32) (st : Nat → XS) (hP : P k0) (step : ∀ (K104 : Int32 → Int32 → Int32 → XS → Prop) (k : Nat), k0 ≤ k → k ≤ N → P k → (k < N → P (k + 1) → K104 (p1 (k + 1)) (Int32.ofNat (k + 1)) (p3 (k + 1)) (st (k + 1))) → wbX0_ways_104 b cs ad vs o K104 K171 Q (p1 k) (Int32.ofNat k) (p3 k) (st k)) : ∃ n : Nat, wlX0_ways_104 b cs ad vs o K171 Q n (p1 k0) (Int32.ofNat k0) (p3 k0) (st k0) := by
  refine ilX0_ways_104 (fun x1 x2 x3 f => ∃ k, k0 ≤ k ∧ k ≤ N ∧ P k ∧ x1 = p1 k ∧ x2 = Int32.ofNat k ∧ x3 = p3 k ∧ f = st k) (fun x1 x2 x3 _ => N - x2.toNatClampNeg) ?_ _ _ _ _ ⟨k0, Nat.le_refl _, h0, hP, rfl, rfl, rfl, rfl⟩
  intro K x1 x2 x3 f hI hK
  obtain ⟨k, h1, h2, h3, rfl, rfl, rfl, rfl⟩ := hI
  refine step K k h1 h2 h3 (fun h4 h5 => hK _ _ _ _ ⟨k + 1, by omega, by omega, h5, rfl, rfl, rfl, rfl⟩ ?_)
  show N - (Int32.ofNat (k + 1)).toNatClampNeg < N - (Int32.ofNat k).toNatClampNeg
  rw [n_clamp (by omega), n_clamp (by omega)]
  omega
theorem icX0_ways_104_3 {b : Nat} {cs : Nat → ClassId} {ad : Nat → Nat} {vs : Nat → Option Nat} {o : Nat} {K171 : Int32 → Int32 → XS → Prop} {Q : XS → Prop} (N k0 : Nat) (hN : N < 2147483648) (h0 : k0 ≤ N) (P : Nat → Prop) (p1 : Nat → Int32) (p2 : Nat → Int32) (st : Nat → XS) (hP : P k0) (step : ∀ (K104 : Int32 → Int32 → Int32 → XS → Prop) (k : Nat), k0 ≤ k → k ≤ N → P k → (k < N → P (k + 1) → K104 (p1 (k + 1)) (p2 (k + 1)) (Int32.ofNat (k + 1)) (st (k + 1))) → wbX0_ways_104 b cs ad vs o K104 K171 Q (p1 k) (p2 k) (Int32.ofNat k) (st k)) : ∃ n : Nat, wlX0_ways_104 b cs ad vs o K171 Q n (p1 k0) (p2 k0) (Int32.ofNat k0) (st k0) := by
  refine ilX0_ways_104 (fun x1 x2 x3 f => ∃ k, k0 ≤ k ∧ k ≤ N ∧ P k ∧ x1 = p1 k ∧ x2 = p2 k ∧ x3 = Int32.ofNat k ∧ f = st k) (fun x1 x2 x3 _ => N - x3.toNatClampNeg) ?_ _ _ _ _ ⟨k0, Nat.le_refl _, h0, hP, rfl, rfl, rfl, rfl⟩
  intro K x1 x2 x3 f hI hK
  obtain ⟨k, h1, h2, h3, rfl, rfl, rfl, rfl⟩ := hI
  refine step K k h1 h2 h3 (fun h4 h5 => hK _ _ _ _ ⟨k + 1, by omega, by omega, h5, rfl, rfl, rfl, rfl⟩ ?_)
  show N - (Int32.ofNat (k + 1)).toNatClampNeg < N - (Int32.ofNat k).toNatClampNeg
  rw [n_clamp (by omega), n_clamp (by omega)]
  omega
theorem ilX0_ways_94 {b : Nat} {cs : Nat → ClassId} {ad : Nat → Nat} {vs : Nat → Option Nat} {o : Nat} {K177 : Int32 → XS → Prop} {Q : XS → Prop} (Inv : Int32 → Int32 → XS → Prop) (meas : Int32 → Int32 → XS → Nat) (step : ∀ (K94 : Int32 → Int32 → XS → Prop) (x1 : Int32) (x2 : Int32) (f : XS), Inv x1 x2 f → (∀ (y1 : Int32) (y2 : Int32) (f' : XS), Inv y1 y2 f' → meas y1 y2 f' < meas x1 x2 f → K94 y1 y2 f') → wbX0_ways_94 b cs ad vs o K94 K177 Q x1 x2 f) (x1 : Int32) (x2 : Int32) (f : XS) (h : Inv x1 x2 f) : ∃ n : Nat, wlX0_ways_94 b cs ad vs o K177 Q n x1 x2 f := by
  have key : ∀ (n : Nat) (x1 : Int32) (x2 : Int32) (f : XS), Inv x1 x2 f → meas x1 x2 f < n → wlX0_ways_94 b cs ad vs o K177 Q n x1 x2 f := by
    intro n
    induction n with
    | zero => intro x1 x2 f hI hm; exact absurd hm (Nat.not_lt_zero _)
    | succ n ih => intro x1 x2 f hI hm; exact step _ x1 x2 f hI (fun y1 y2 f' hI' hlt => ih y1 y2 f' hI' (Nat.lt_of_lt_of_le hlt (Nat.le_of_lt_succ hm)))
  exact ⟨_, key _ x1 x2 f h (Nat.lt_succ_self _)⟩
theorem icX0_ways_94_1 {b : Nat} {cs : Nat → ClassId} {ad : Nat → Nat} {vs : Nat → Option Nat} {o : Nat} {K177 : Int32 → XS → Prop} {Q : XS → Prop} (N k0 : Nat) (hN : N < 2147483648) (h0 : k0 ≤ N) (P : Nat → Prop) (p2 : Nat → Int32) (st : Nat → XS) (hP : P k0) (step : ∀ (K94 : Int32 → Int32 → XS → Prop) (k : Nat), k0 ≤ k → k ≤ N → P k → (k < N → P (k + 1) → K94 (Int32.ofNat (k + 1)) (p2 (k + 1)) (st (k + 1))) → wbX0_ways_94 b cs ad vs o K94 K177 Q (Int32.ofNat k) (p2 k) (st k)) : ∃ n : Nat, wlX0_ways_94 b cs ad vs o K177 Q n (Int32.ofNat k0) (p2 k0) (st k0) := by
  refine ilX0_ways_94 (fun x1 x2 f => ∃ k, k0 ≤ k ∧ k ≤ N ∧ P k ∧ x1 = Int32.ofNat k ∧ x2 = p2 k ∧ f = st k) (fun x1 x2 _ => N - x1.toNatClampNeg) ?_ _ _ _ ⟨k0, Nat.le_refl _, h0, hP, rfl, rfl, rfl⟩
  intro K x1 x2 f hI hK
  obtain ⟨k, h1, h2, h3, rfl, rfl, rfl⟩ := hI
  refine step K k h1 h2 h3 (fun h4 h5 => hK _ _ _ ⟨k + 1, by omega, by omega, h5, rfl, rfl, rfl⟩ ?_)
  show N - (Int32.ofNat (k + 1)).toNatClampNeg < N - (Int32.ofNat k).toNatClampNeg
  rw [n_clamp (by omega), n_clamp (by omega)]
  omega
theorem icX0_ways_94_2 {b : Nat} {cs : Nat → ClassId} {ad : Nat → Nat} {vs : Nat → Option Nat} {o : Nat} {K177 : Int32 → XS → Prop} {Q : XS → Prop} (N k0 : Nat) (hN : N < 2147483648) (h0 : k0 ≤ N) (P : Nat → Prop) (p1 : Nat → Int32) (st : Nat → XS) (hP : P k0) (step : ∀ (K94 : Int32 → Int32 → XS → Prop) (k : Nat), k0 ≤ k → k ≤ N → P k → (k < N → P (k + 1) → K94 (p1 (k + 1)) (Int32.ofNat (k + 1)) (st (k + 1))) → wbX0_ways_94 b cs ad vs o K94 K177 Q (p1 k) (Int32.ofNat k) (st k)) : ∃ n : Nat, wlX0_ways_94 b cs ad vs o K177 Q n (p1 k0) (Int32.ofNat k0) (st k0) := by
  refine ilX0_ways_94 (fun x1 x2 f => ∃ k, k0 ≤ k ∧ k ≤ N ∧ P k ∧ x1 = p1 k ∧ x2 = Int32.ofNat k ∧ f = st k) (fun x1 x2 _ => N - x2.toNatClampNeg) ?_ _ _ _ ⟨k0, Nat.le_refl _, h0, hP, rfl, rfl, rfl⟩
  intro K x1 x2 f hI hK
  obtain ⟨k, h1, h2, h3, rfl, rfl, rfl⟩ := hI
  refine step K k h1 h2 h3 (fun h4 h5 => hK _ _ _ ⟨k + 1, by omega, by omega, h5, rfl, rfl, rfl⟩ ?_)
  show N - (Int32.ofNat (k + 1)).toNatClampNeg < N - (Int32.ofNat k).toNatClampNeg
  rw [n_clamp (by omega), n_clamp (by omega)]
  omega
theorem ilX0_ways_84 {b : Nat} {cs : Nat → ClassId} {ad : Nat → Nat} {vs : Nat → Option Nat} {o : Nat}  {Q : XS → Prop} (Inv : Int32 → XS → Prop) (meas : Int32 → XS → Nat) (step : ∀ (K84 : Int32 → XS → Prop) (x1 : Int32) (f : XS), Inv x1 f → (∀ (y1 : Int32) (f' : XS), Inv y1 f' → meas y1 f' < meas x1 f → K84 y1 f') → wbX0_ways_84 b cs ad vs o K84 Q x1 f) (x1 : Int32) (f : XS) (h : Inv x1 f) : ∃ n : Nat, wlX0_ways_84 b cs ad vs o  Q n x1 f := by
  have key : ∀ (n : Nat) (x1 : Int32) (f : XS), Inv x1 f → meas x1 f < n → wlX0_ways_84 b cs ad vs o  Q n x1 f := by
    intro n
    induction n with
    | zero => intro x1 f hI hm; exact absurd hm (Nat.not_lt_zero _)
    | succ n ih => intro x1 f hI hm; exact step _ x1 f hI (fun y1 f' hI' hlt => ih y1 f' hI' (Nat.lt_of_lt_of_le hlt (Nat.le_of_lt_succ hm)))
  exact ⟨_, key _ x1 f h (Nat.lt_succ_self _)⟩
theorem icX0_ways_84_1 {b : Nat} {cs : Nat → ClassId} {ad : Nat → Nat} {vs : Nat → Option Nat} {o : Nat}  {Q : XS → Prop} (N k0 : Nat) (hN : N < 2147483648) (h0 : k0 ≤ N) (P : Nat → Prop)  (st : Nat → XS) (hP : P k0) (step : ∀ (K84 : Int32 → XS → Prop) (k : Nat), k0 ≤ k → k ≤ N → P k → (k < N → P (k + 1) → K84 (Int32.ofNat (k + 1)) (st (k + 1))) → wbX0_ways_84 b cs ad vs o K84 Q (Int32.ofNat k) (st k)) : ∃ n : Nat, wlX0_ways_84 b cs ad vs o  Q n (Int32.ofNat k0) (st k0) := by
  refine ilX0_ways_84 (fun x1 f => ∃ k, k0 ≤ k ∧ k ≤ N ∧ P k ∧ x1 = Int32.ofNat k ∧ f = st k) (fun x1 _ => N - x1.toNatClampNeg) ?_ _ _ ⟨k0, Nat.le_refl _, h0, hP, rfl, rfl⟩
  intro K x1 f hI hK
  obtain ⟨k, h1, h2, h3, rfl, rfl⟩ := hI
  refine step K k h1 h2 h3 (fun h4 h5 => hK _ _ ⟨k + 1, by omega, by omega, h5, rfl, rfl⟩ ?_)
  show N - (Int32.ofNat (k + 1)).toNatClampNeg < N - (Int32.ofNat k).toNatClampNeg
  rw [n_clamp (by omega), n_clamp (by omega)]
  omega
theorem ilX0_giving_79 {b : Nat} {cs : Nat → ClassId} {ad : Nat → Nat} {vs : Nat → Option Nat} {o : Nat} {K135 : Nat → XS → Prop} {Q : Int32 → XS → Prop} (Inv : Nat → Nat → Nat → Int32 → XS → Prop) (meas : Nat → Nat → Nat → Int32 → XS → Nat) (step : ∀ (K79 : Nat → Nat → Nat → Int32 → XS → Prop) (x3 : Nat) (x4 : Nat) (x5 : Nat) (x6 : Int32) (f : XS), Inv x3 x4 x5 x6 f → (∀ (y3 : Nat) (y4 : Nat) (y5 : Nat) (y6 : Int32) (f' : XS), Inv y3 y4 y5 y6 f' → meas y3 y4 y5 y6 f' < meas x3 x4 x5 x6 f → K79 y3 y4 y5 y6 f') → wbX0_giving_79 b cs ad vs o K79 K135 Q x3 x4 x5 x6 f) (x3 : Nat) (x4 : Nat) (x5 : Nat) (x6 : Int32) (f : XS) (h : Inv x3 x4 x5 x6 f) : ∃ n : Nat, wlX0_giving_79 b cs ad vs o K135 Q n x3 x4 x5 x6 f := by
  have key : ∀ (n : Nat) (x3 : Nat) (x4 : Nat) (x5 : Nat) (x6 : Int32) (f : XS), Inv x3 x4 x5 x6 f → meas x3 x4 x5 x6 f < n → wlX0_giving_79 b cs ad vs o K135 Q n x3 x4 x5 x6 f := by
    intro n
    induction n with
    | zero => intro x3 x4 x5 x6 f hI hm; exact absurd hm (Nat.not_lt_zero _)
    | succ n ih => intro x3 x4 x5 x6 f hI hm; exact step _ x3 x4 x5 x6 f hI (fun y3 y4 y5 y6 f' hI' hlt => ih y3 y4 y5 y6 f' hI' (Nat.lt_of_lt_of_le hlt (Nat.le_of_lt_succ hm)))
  exact ⟨_, key _ x3 x4 x5 x6 f h (Nat.lt_succ_self _)⟩
theorem icX0_giving_79_6 {b : Nat} {cs : Nat → ClassId} {ad : Nat → Nat} {vs : Nat → Option Nat} {o : Nat} {K135 : Nat → XS → Prop} {Q : Int32 → XS → Prop} (N k0 : Nat) (hN : N < 2147483648) (h0 : k0 ≤ N) (P : Nat → Prop) (p3 : Nat → Nat) (p4 : Nat → Nat) (p5 : Nat → Nat) (st : Nat → XS) (hP : P k0) (step : ∀ (K79 : Nat → Nat → Nat → Int32 → XS → Prop) (k : Nat), k0 ≤ k → k ≤ N → P k → (k < N → P (k + 1) → K79 (p3 (k + 1)) (p4 (k + 1)) (p5 (k + 1)) (Int32.ofNat (k + 1)) (st (k + 1))) → wbX0_giving_79 b cs ad vs o K79 K135 Q (p3 k) (p4 k) (p5 k) (Int32.ofNat k) (st k)) : ∃ n : Nat, wlX0_giving_79 b cs ad vs o K135 Q n (p3 k0) (p4 k0) (p5 k0) (Int32.ofNat k0) (st k0) := by
  refine ilX0_giving_79 (fun x3 x4 x5 x6 f => ∃ k, k0 ≤ k ∧ k ≤ N ∧ P k ∧ x3 = p3 k ∧ x4 = p4 k ∧ x5 = p5 k ∧ x6 = Int32.ofNat k ∧ f = st k) (fun x3 x4 x5 x6 _ => N - x6.toNatClampNeg) ?_ _ _ _ _ _ ⟨k0, Nat.le_refl _, h0, hP, rfl, rfl, rfl, rfl, rfl⟩
  intro K x3 x4 x5 x6 f hI hK
  obtain ⟨k, h1, h2, h3, rfl, rfl, rfl, rfl, rfl⟩ := hI
  refine step K k h1 h2 h3 (fun h4 h5 => hK _ _ _ _ _ ⟨k + 1, by omega, by omega, h5, rfl, rfl, rfl, rfl, rfl⟩ ?_)
  show N - (Int32.ofNat (k + 1)).toNatClampNeg < N - (Int32.ofNat k).toNatClampNeg
  rw [n_clamp (by omega), n_clamp (by omega)]
  omega
theorem ilX0_market_25 {b : Nat} {cs : Nat → ClassId} {ad : Nat → Nat} {vs : Nat → Option Nat} {o : Nat}  {Q : Int32 → XS → Prop} (Inv : Int32 → Int32 → Int32 → XS → Prop) (meas : Int32 → Int32 → Int32 → XS → Nat) (step : ∀ (K25 : Int32 → Int32 → Int32 → XS → Prop) (x3 : Int32) (x4 : Int32) (x5 : Int32) (f : XS), Inv x3 x4 x5 f → (∀ (y3 : Int32) (y4 : Int32) (y5 : Int32) (f' : XS), Inv y3 y4 y5 f' → meas y3 y4 y5 f' < meas x3 x4 x5 f → K25 y3 y4 y5 f') → wbX0_market_25 b cs ad vs o K25 Q x3 x4 x5 f) (x3 : Int32) (x4 : Int32) (x5 : Int32) (f : XS) (h : Inv x3 x4 x5 f) : ∃ n : Nat, wlX0_market_25 b cs ad vs o  Q n x3 x4 x5 f := by
  have key : ∀ (n : Nat) (x3 : Int32) (x4 : Int32) (x5 : Int32) (f : XS), Inv x3 x4 x5 f → meas x3 x4 x5 f < n → wlX0_market_25 b cs ad vs o  Q n x3 x4 x5 f := by
    intro n
    induction n with
    | zero => intro x3 x4 x5 f hI hm; exact absurd hm (Nat.not_lt_zero _)
    | succ n ih => intro x3 x4 x5 f hI hm; exact step _ x3 x4 x5 f hI (fun y3 y4 y5 f' hI' hlt => ih y3 y4 y5 f' hI' (Nat.lt_of_lt_of_le hlt (Nat.le_of_lt_succ hm)))
  exact ⟨_, key _ x3 x4 x5 f h (Nat.lt_succ_self _)⟩
theorem icX0_market_25_3 {b : Nat} {cs : Nat → ClassId} {ad : Nat → Nat} {vs : Nat → Option Nat} {o : Nat}  {Q : Int32 → XS → Prop} (N k0 : Nat) (hN : N < 2147483648) (h0 : k0 ≤ N) (P : Nat → Prop) (p4 : Nat → Int32) (p5 : Nat → Int32) (st : Nat → XS) (hP : P k0) (step : ∀ (K25 : Int32 → Int32 → Int32 → XS → Prop) (k : Nat), k0 ≤ k → k ≤ N → P k → (k < N → P (k + 1) → K25 (Int32.ofNat (k + 1)) (p4 (k + 1)) (p5 (k + 1)) (st (k + 1))) → wbX0_market_25 b cs ad vs o K25 Q (Int32.ofNat k) (p4 k) (p5 k) (st k)) : ∃ n : Nat, wlX0_market_25 b cs ad vs o  Q n (Int32.ofNat k0) (p4 k0) (p5 k0) (st k0) := by
  refine ilX0_market_25 (fun x3 x4 x5 f => ∃ k, k0 ≤ k ∧ k ≤ N ∧ P k ∧ x3 = Int32.ofNat k ∧ x4 = p4 k ∧ x5 = p5 k ∧ f = st k) (fun x3 x4 x5 _ => N - x3.toNatClampNeg) ?_ _ _ _ _ ⟨k0, Nat.le_refl _, h0, hP, rfl, rfl, rfl, rfl⟩
  intro K x3 x4 x5 f hI hK
  obtain ⟨k, h1, h2, h3, rfl, rfl, rfl, rfl⟩ := hI
  refine step K k h1 h2 h3 (fun h4 h5 => hK _ _ _ _ ⟨k + 1, by omega, by omega, h5, rfl, rfl, rfl, rfl⟩ ?_)
  show N - (Int32.ofNat (k + 1)).toNatClampNeg < N - (Int32.ofNat k).toNatClampNeg
  rw [n_clamp (by omega), n_clamp (by omega)]
  omega
theorem icX0_market_25_4 {b : Nat} {cs : Nat → ClassId} {ad : Nat → Nat} {vs : Nat → Option Nat} {o : Nat}  {Q : Int32 → XS → Prop} (N k0 : Nat) (hN : N < 2147483648) (h0 : k0 ≤ N) (P : Nat → Prop) (p3 : Nat → Int32) (p5 : Nat → Int32) (st : Nat → XS) (hP : P k0) (step : ∀ (K25 : Int32 → Int32 → Int32 → XS → Prop) (k : Nat), k0 ≤ k → k ≤ N → P k → (k < N → P (k + 1) → K25 (p3 (k + 1)) (Int32.ofNat (k + 1)) (p5 (k + 1)) (st (k + 1))) → wbX0_market_25 b cs ad vs o K25 Q (p3 k) (Int32.ofNat k) (p5 k) (st k)) : ∃ n : Nat, wlX0_market_25 b cs ad vs o  Q n (p3 k0) (Int32.ofNat k0) (p5 k0) (st k0) := by
  refine ilX0_market_25 (fun x3 x4 x5 f => ∃ k, k0 ≤ k ∧ k ≤ N ∧ P k ∧ x3 = p3 k ∧ x4 = Int32.ofNat k ∧ x5 = p5 k ∧ f = st k) (fun x3 x4 x5 _ => N - x4.toNatClampNeg) ?_ _ _ _ _ ⟨k0, Nat.le_refl _, h0, hP, rfl, rfl, rfl, rfl⟩
  intro K x3 x4 x5 f hI hK
  obtain ⟨k, h1, h2, h3, rfl, rfl, rfl, rfl⟩ := hI
  refine step K k h1 h2 h3 (fun h4 h5 => hK _ _ _ _ ⟨k + 1, by omega, by omega, h5, rfl, rfl, rfl, rfl⟩ ?_)
  show N - (Int32.ofNat (k + 1)).toNatClampNeg < N - (Int32.ofNat k).toNatClampNeg
  rw [n_clamp (by omega), n_clamp (by omega)]
  omega
theorem icX0_market_25_5 {b : Nat} {cs : Nat → ClassId} {ad : Nat → Nat} {vs : Nat → Option Nat} {o : Nat}  {Q : Int32 → XS → Prop} (N k0 : Nat) (hN : N < 2147483648) (h0 : k0 ≤ N) (P : Nat → Prop) (p3 : Nat → Int32) (p4 : Nat → Int32) (st : Nat → XS) (hP : P k0) (step : ∀ (K25 : Int32 → Int32 → Int32 → XS → Prop) (k : Nat), k0 ≤ k → k ≤ N → P k → (k < N → P (k + 1) → K25 (p3 (k + 1)) (p4 (k + 1)) (Int32.ofNat (k + 1)) (st (k + 1))) → wbX0_market_25 b cs ad vs o K25 Q (p3 k) (p4 k) (Int32.ofNat k) (st k)) : ∃ n : Nat, wlX0_market_25 b cs ad vs o  Q n (p3 k0) (p4 k0) (Int32.ofNat k0) (st k0) := by
  refine ilX0_market_25 (fun x3 x4 x5 f => ∃ k, k0 ≤ k ∧ k ≤ N ∧ P k ∧ x3 = p3 k ∧ x4 = p4 k ∧ x5 = Int32.ofNat k ∧ f = st k) (fun x3 x4 x5 _ => N - x5.toNatClampNeg) ?_ _ _ _ _ ⟨k0, Nat.le_refl _, h0, hP, rfl, rfl, rfl, rfl⟩
  intro K x3 x4 x5 f hI hK
  obtain ⟨k, h1, h2, h3, rfl, rfl, rfl, rfl⟩ := hI
  refine step K k h1 h2 h3 (fun h4 h5 => hK _ _ _ _ ⟨k + 1, by omega, by omega, h5, rfl, rfl, rfl, rfl⟩ ?_)
  show N - (Int32.ofNat (k + 1)).toNatClampNeg < N - (Int32.ofNat k).toNatClampNeg
  rw [n_clamp (by omega), n_clamp (by omega)]
  omega
theorem ilX0_looks_2 {b : Nat} {cs : Nat → ClassId} {ad : Nat → Nat} {vs : Nat → Option Nat} {o : Nat}  {Q : XS → Prop} (Inv : Nat → Int32 → Int32 → XS → Prop) (meas : Nat → Int32 → Int32 → XS → Nat) (step : ∀ (K2 : Nat → Int32 → Int32 → XS → Prop) (x1 : Nat) (x2 : Int32) (x3 : Int32) (f : XS), Inv x1 x2 x3 f → (∀ (y1 : Nat) (y2 : Int32) (y3 : Int32) (f' : XS), Inv y1 y2 y3 f' → meas y1 y2 y3 f' < meas x1 x2 x3 f → K2 y1 y2 y3 f') → wbX0_looks_2 b cs ad vs o K2 Q x1 x2 x3 f) (x1 : Nat) (x2 : Int32) (x3 : Int32) (f : XS) (h : Inv x1 x2 x3 f) : ∃ n : Nat, wlX0_looks_2 b cs ad vs o  Q n x1 x2 x3 f := by
  have key : ∀ (n : Nat) (x1 : Nat) (x2 : Int32) (x3 : Int32) (f : XS), Inv x1 x2 x3 f → meas x1 x2 x3 f < n → wlX0_looks_2 b cs ad vs o  Q n x1 x2 x3 f := by
    intro n
    induction n with
    | zero => intro x1 x2 x3 f hI hm; exact absurd hm (Nat.not_lt_zero _)
    | succ n ih => intro x1 x2 x3 f hI hm; exact step _ x1 x2 x3 f hI (fun y1 y2 y3 f' hI' hlt => ih y1 y2 y3 f' hI' (Nat.lt_of_lt_of_le hlt (Nat.le_of_lt_succ hm)))
  exact ⟨_, key _ x1 x2 x3 f h (Nat.lt_succ_self _)⟩
theorem icX0_looks_2_2 {b : Nat} {cs : Nat → ClassId} {ad : Nat → Nat} {vs : Nat → Option Nat} {o : Nat}  {Q : XS → Prop} (N k0 : Nat) (hN : N < 2147483648) (h0 : k0 ≤ N) (P : Nat → Prop) (p1 : Nat → Nat) (p3 : Nat → Int32) (st : Nat → XS) (hP : P k0) (step : ∀ (K2 : Nat → Int32 → Int32 → XS → Prop) (k : Nat), k0 ≤ k → k ≤ N → P k → (k < N → P (k + 1) → K2 (p1 (k + 1)) (Int32.ofNat (k + 1)) (p3 (k + 1)) (st (k + 1))) → wbX0_looks_2 b cs ad vs o K2 Q (p1 k) (Int32.ofNat k) (p3 k) (st k)) : ∃ n : Nat, wlX0_looks_2 b cs ad vs o  Q n (p1 k0) (Int32.ofNat k0) (p3 k0) (st k0) := by
  refine ilX0_looks_2 (fun x1 x2 x3 f => ∃ k, k0 ≤ k ∧ k ≤ N ∧ P k ∧ x1 = p1 k ∧ x2 = Int32.ofNat k ∧ x3 = p3 k ∧ f = st k) (fun x1 x2 x3 _ => N - x2.toNatClampNeg) ?_ _ _ _ _ ⟨k0, Nat.le_refl _, h0, hP, rfl, rfl, rfl, rfl⟩
  intro K x1 x2 x3 f hI hK
  obtain ⟨k, h1, h2, h3, rfl, rfl, rfl, rfl⟩ := hI
  refine step K k h1 h2 h3 (fun h4 h5 => hK _ _ _ _ ⟨k + 1, by omega, by omega, h5, rfl, rfl, rfl, rfl⟩ ?_)
  show N - (Int32.ofNat (k + 1)).toNatClampNeg < N - (Int32.ofNat k).toNatClampNeg
  rw [n_clamp (by omega), n_clamp (by omega)]
  omega
theorem icX0_looks_2_3 {b : Nat} {cs : Nat → ClassId} {ad : Nat → Nat} {vs : Nat → Option Nat} {o : Nat}  {Q : XS → Prop} (N k0 : Nat) (hN : N < 2147483648) (h0 : k0 ≤ N) (P : Nat → Prop) (p1 : Nat → Nat) (p2 : Nat → Int32) (st : Nat → XS) (hP : P k0) (step : ∀ (K2 : Nat → Int32 → Int32 → XS → Prop) (k : Nat), k0 ≤ k → k ≤ N → P k → (k < N → P (k + 1) → K2 (p1 (k + 1)) (p2 (k + 1)) (Int32.ofNat (k + 1)) (st (k + 1))) → wbX0_looks_2 b cs ad vs o K2 Q (p1 k) (p2 k) (Int32.ofNat k) (st k)) : ∃ n : Nat, wlX0_looks_2 b cs ad vs o  Q n (p1 k0) (p2 k0) (Int32.ofNat k0) (st k0) := by
  refine ilX0_looks_2 (fun x1 x2 x3 f => ∃ k, k0 ≤ k ∧ k ≤ N ∧ P k ∧ x1 = p1 k ∧ x2 = p2 k ∧ x3 = Int32.ofNat k ∧ f = st k) (fun x1 x2 x3 _ => N - x3.toNatClampNeg) ?_ _ _ _ _ ⟨k0, Nat.le_refl _, h0, hP, rfl, rfl, rfl, rfl⟩
  intro K x1 x2 x3 f hI hK
  obtain ⟨k, h1, h2, h3, rfl, rfl, rfl, rfl⟩ := hI
  refine step K k h1 h2 h3 (fun h4 h5 => hK _ _ _ _ ⟨k + 1, by omega, by omega, h5, rfl, rfl, rfl, rfl⟩ ?_)
  show N - (Int32.ofNat (k + 1)).toNatClampNeg < N - (Int32.ofNat k).toNatClampNeg
  rw [n_clamp (by omega), n_clamp (by omega)]
  omega
theorem ilX0_firstBar_12 {b : Nat} {cs : Nat → ClassId} {ad : Nat → Nat} {vs : Nat → Option Nat} {o : Nat} {K42 : Int32 → XS → Prop} {Q : Int32 → XS → Prop} (Inv : Int32 → Int32 → XS → Prop) (meas : Int32 → Int32 → XS → Nat) (step : ∀ (K12 : Int32 → Int32 → XS → Prop) (x1 : Int32) (x2 : Int32) (f : XS), Inv x1 x2 f → (∀ (y1 : Int32) (y2 : Int32) (f' : XS), Inv y1 y2 f' → meas y1 y2 f' < meas x1 x2 f → K12 y1 y2 f') → wbX0_firstBar_12 b cs ad vs o K12 K42 Q x1 x2 f) (x1 : Int32) (x2 : Int32) (f : XS) (h : Inv x1 x2 f) : ∃ n : Nat, wlX0_firstBar_12 b cs ad vs o K42 Q n x1 x2 f := by
  have key : ∀ (n : Nat) (x1 : Int32) (x2 : Int32) (f : XS), Inv x1 x2 f → meas x1 x2 f < n → wlX0_firstBar_12 b cs ad vs o K42 Q n x1 x2 f := by
    intro n
    induction n with
    | zero => intro x1 x2 f hI hm; exact absurd hm (Nat.not_lt_zero _)
    | succ n ih => intro x1 x2 f hI hm; exact step _ x1 x2 f hI (fun y1 y2 f' hI' hlt => ih y1 y2 f' hI' (Nat.lt_of_lt_of_le hlt (Nat.le_of_lt_succ hm)))
  exact ⟨_, key _ x1 x2 f h (Nat.lt_succ_self _)⟩
theorem icX0_firstBar_12_1 {b : Nat} {cs : Nat → ClassId} {ad : Nat → Nat} {vs : Nat → Option Nat} {o : Nat} {K42 : Int32 → XS → Prop} {Q : Int32 → XS → Prop} (N k0 : Nat) (hN : N < 2147483648) (h0 : k0 ≤ N) (P : Nat → Prop) (p2 : Nat → Int32) (st : Nat → XS) (hP : P k0) (step : ∀ (K12 : Int32 → Int32 → XS → Prop) (k : Nat), k0 ≤ k → k ≤ N → P k → (k < N → P (k + 1) → K12 (Int32.ofNat (k + 1)) (p2 (k + 1)) (st (k + 1))) → wbX0_firstBar_12 b cs ad vs o K12 K42 Q (Int32.ofNat k) (p2 k) (st k)) : ∃ n : Nat, wlX0_firstBar_12 b cs ad vs o K42 Q n (Int32.ofNat k0) (p2 k0) (st k0) := by
  refine ilX0_firstBar_12 (fun x1 x2 f => ∃ k, k0 ≤ k ∧ k ≤ N ∧ P k ∧ x1 = Int32.ofNat k ∧ x2 = p2 k ∧ f = st k) (fun x1 x2 _ => N - x1.toNatClampNeg) ?_ _ _ _ ⟨k0, Nat.le_refl _, h0, hP, rfl, rfl, rfl⟩
  intro K x1 x2 f hI hK
  obtain ⟨k, h1, h2, h3, rfl, rfl, rfl⟩ := hI
  refine step K k h1 h2 h3 (fun h4 h5 => hK _ _ _ ⟨k + 1, by omega, by omega, h5, rfl, rfl, rfl⟩ ?_)
  show N - (Int32.ofNat (k + 1)).toNatClampNeg < N - (Int32.ofNat k).toNatClampNeg
  rw [n_clamp (by omega), n_clamp (by omega)]
  omega
theorem icX0_firstBar_12_2 {b : Nat} {cs : Nat → ClassId} {ad : Nat → Nat} {vs : Nat → Option Nat} {o : Nat} {K42 : Int32 → XS → Prop} {Q : Int32 → XS → Prop} (N k0 : Nat) (hN : N < 2147483648) (h0 : k0 ≤ N) (P : Nat → Prop) (p1 : Nat → Int32) (st : Nat → XS) (hP : P k0) (step : ∀ (K12 : Int32 → Int32 → XS → Prop) (k : Nat), k0 ≤ k → k ≤ N → P k → (k < N → P (k + 1) → K12 (p1 (k + 1)) (Int32.ofNat (k + 1)) (st (k + 1))) → wbX0_firstBar_12 b cs ad vs o K12 K42 Q (p1 k) (Int32.ofNat k) (st k)) : ∃ n : Nat, wlX0_firstBar_12 b cs ad vs o K42 Q n (p1 k0) (Int32.ofNat k0) (st k0) := by
  refine ilX0_firstBar_12 (fun x1 x2 f => ∃ k, k0 ≤ k ∧ k ≤ N ∧ P k ∧ x1 = p1 k ∧ x2 = Int32.ofNat k ∧ f = st k) (fun x1 x2 _ => N - x2.toNatClampNeg) ?_ _ _ _ ⟨k0, Nat.le_refl _, h0, hP, rfl, rfl, rfl⟩
  intro K x1 x2 f hI hK
  obtain ⟨k, h1, h2, h3, rfl, rfl, rfl⟩ := hI
  refine step K k h1 h2 h3 (fun h4 h5 => hK _ _ _ ⟨k + 1, by omega, by omega, h5, rfl, rfl, rfl⟩ ?_)
  show N - (Int32.ofNat (k + 1)).toNatClampNeg < N - (Int32.ofNat k).toNatClampNeg
  rw [n_clamp (by omega), n_clamp (by omega)]
  omega
theorem ilX0_firstBar_2 {b : Nat} {cs : Nat → ClassId} {ad : Nat → Nat} {vs : Nat → Option Nat} {o : Nat}  {Q : Int32 → XS → Prop} (Inv : Int32 → XS → Prop) (meas : Int32 → XS → Nat) (step : ∀ (K2 : Int32 → XS → Prop) (x1 : Int32) (f : XS), Inv x1 f → (∀ (y1 : Int32) (f' : XS), Inv y1 f' → meas y1 f' < meas x1 f → K2 y1 f') → wbX0_firstBar_2 b cs ad vs o K2 Q x1 f) (x1 : Int32) (f : XS) (h : Inv x1 f) : ∃ n : Nat, wlX0_firstBar_2 b cs ad vs o  Q n x1 f := by
  have key : ∀ (n : Nat) (x1 : Int32) (f : XS), Inv x1 f → meas x1 f < n → wlX0_firstBar_2 b cs ad vs o  Q n x1 f := by
    intro n
    induction n with
    | zero => intro x1 f hI hm; exact absurd hm (Nat.not_lt_zero _)
    | succ n ih => intro x1 f hI hm; exact step _ x1 f hI (fun y1 f' hI' hlt => ih y1 f' hI' (Nat.lt_of_lt_of_le hlt (Nat.le_of_lt_succ hm)))
  exact ⟨_, key _ x1 f h (Nat.lt_succ_self _)⟩
theorem icX0_firstBar_2_1 {b : Nat} {cs : Nat → ClassId} {ad : Nat → Nat} {vs : Nat → Option Nat} {o : Nat}  {Q : Int32 → XS → Prop} (N k0 : Nat) (hN : N < 2147483648) (h0 : k0 ≤ N) (P : Nat → Prop)  (st : Nat → XS) (hP : P k0) (step : ∀ (K2 : Int32 → XS → Prop) (k : Nat), k0 ≤ k → k ≤ N → P k → (k < N → P (k + 1) → K2 (Int32.ofNat (k + 1)) (st (k + 1))) → wbX0_firstBar_2 b cs ad vs o K2 Q (Int32.ofNat k) (st k)) : ∃ n : Nat, wlX0_firstBar_2 b cs ad vs o  Q n (Int32.ofNat k0) (st k0) := by
  refine ilX0_firstBar_2 (fun x1 f => ∃ k, k0 ≤ k ∧ k ≤ N ∧ P k ∧ x1 = Int32.ofNat k ∧ f = st k) (fun x1 _ => N - x1.toNatClampNeg) ?_ _ _ ⟨k0, Nat.le_refl _, h0, hP, rfl, rfl⟩
  intro K x1 f hI hK
  obtain ⟨k, h1, h2, h3, rfl, rfl⟩ := hI
  refine step K k h1 h2 h3 (fun h4 h5 => hK _ _ ⟨k + 1, by omega, by omega, h5, rfl, rfl⟩ ?_)
  show N - (Int32.ofNat (k + 1)).toNatClampNeg < N - (Int32.ofNat k).toNatClampNeg
  rw [n_clamp (by omega), n_clamp (by omega)]
  omega
theorem ilX0_lawful_24 {b : Nat} {cs : Nat → ClassId} {ad : Nat → Nat} {vs : Nat → Option Nat} {o : Nat}  {Q : Int32 → XS → Prop} (Inv : Int32 → Int32 → Int32 → Int32 → XS → Prop) (meas : Int32 → Int32 → Int32 → Int32 → XS → Nat) (step : ∀ (K24 : Int32 → Int32 → Int32 → Int32 → XS → Prop) (x1 : Int32) (x2 : Int32) (x3 : Int32) (x4 : Int32) (f : XS), Inv x1 x2 x3 x4 f → (∀ (y1 : Int32) (y2 : Int32) (y3 : Int32) (y4 : Int32) (f' : XS), Inv y1 y2 y3 y4 f' → meas y1 y2 y3 y4 f' < meas x1 x2 x3 x4 f → K24 y1 y2 y3 y4 f') → wbX0_lawful_24 b cs ad vs o K24 Q x1 x2 x3 x4 f) (x1 : Int32) (x2 : Int32) (x3 : Int32) (x4 : Int32) (f : XS) (h : Inv x1 x2 x3 x4 f) : ∃ n : Nat, wlX0_lawful_24 b cs ad vs o  Q n x1 x2 x3 x4 f := by
  have key : ∀ (n : Nat) (x1 : Int32) (x2 : Int32) (x3 : Int32) (x4 : Int32) (f : XS), Inv x1 x2 x3 x4 f → meas x1 x2 x3 x4 f < n → wlX0_lawful_24 b cs ad vs o  Q n x1 x2 x3 x4 f := by
    intro n
    induction n with
    | zero => intro x1 x2 x3 x4 f hI hm; exact absurd hm (Nat.not_lt_zero _)
    | succ n ih => intro x1 x2 x3 x4 f hI hm; exact step _ x1 x2 x3 x4 f hI (fun y1 y2 y3 y4 f' hI' hlt => ih y1 y2 y3 y4 f' hI' (Nat.lt_of_lt_of_le hlt (Nat.le_of_lt_succ hm)))
  exact ⟨_, key _ x1 x2 x3 x4 f h (Nat.lt_succ_self _)⟩
theorem icX0_lawful_24_1 {b : Nat} {cs : Nat → ClassId} {ad : Nat → Nat} {vs : Nat → Option Nat} {o : Nat}  {Q : Int32 → XS → Prop} (N k0 : Nat) (hN : N < 2147483648) (h0 : k0 ≤ N) (P : Nat → Prop) (p2 : Nat → Int32) (p3 : Nat → Int32) (p4 : Nat → Int32) (st : Nat → XS) (hP : P k0) (step : ∀ (K24 : Int32 → Int32 → Int32 → Int32 → XS → Prop) (k : Nat), k0 ≤ k → k ≤ N → P k → (k < N → P (k + 1) → K24 (Int32.ofNat (k + 1)) (p2 (k + 1)) (p3 (k + 1)) (p4 (k + 1)) (st (k + 1))) → wbX0_lawful_24 b cs ad vs o K24 Q (Int32.ofNat k) (p2 k) (p3 k) (p4 k) (st k)) : ∃ n : Nat, wlX0_lawful_24 b cs ad vs o  Q n (Int32.ofNat k0) (p2 k0) (p3 k0) (p4 k0) (st k0) := by
  refine ilX0_lawful_24 (fun x1 x2 x3 x4 f => ∃ k, k0 ≤ k ∧ k ≤ N ∧ P k ∧ x1 = Int32.ofNat k ∧ x2 = p2 k ∧ x3 = p3 k ∧ x4 = p4 k ∧ f = st k) (fun x1 x2 x3 x4 _ => N - x1.toNatClampNeg) ?_ _ _ _ _ _ ⟨k0, Nat.le_refl _, h0, hP, rfl, rfl, rfl, rfl, rfl⟩
  intro K x1 x2 x3 x4 f hI hK
  obtain ⟨k, h1, h2, h3, rfl, rfl, rfl, rfl, rfl⟩ := hI
  refine step K k h1 h2 h3 (fun h4 h5 => hK _ _ _ _ _ ⟨k + 1, by omega, by omega, h5, rfl, rfl, rfl, rfl, rfl⟩ ?_)
  show N - (Int32.ofNat (k + 1)).toNatClampNeg < N - (Int32.ofNat k).toNatClampNeg
  rw [n_clamp (by omega), n_clamp (by omega)]
  omega
theorem icX0_lawful_24_2 {b : Nat} {cs : Nat → ClassId} {ad : Nat → Nat} {vs : Nat → Option Nat} {o : Nat}  {Q : Int32 → XS → Prop} (N k0 : Nat) (hN : N < 2147483648) (h0 : k0 ≤ N) (P : Nat → Prop) (p1 : Nat → Int32) (p3 : Nat → Int32) (p4 : Nat → Int32) (st : Nat → XS) (hP : P k0) (step : ∀ (K24 : Int32 → Int32 → Int32 → Int32 → XS → Prop) (k : Nat), k0 ≤ k → k ≤ N → P k → (k < N → P (k + 1) → K24 (p1 (k + 1)) (Int32.ofNat (k + 1)) (p3 (k + 1)) (p4 (k + 1)) (st (k + 1))) → wbX0_lawful_24 b cs ad vs o K24 Q (p1 k) (Int32.ofNat k) (p3 k) (p4 k) (st k)) : ∃ n : Nat, wlX0_lawful_24 b cs ad vs o  Q n (p1 k0) (Int32.ofNat k0) (p3 k0) (p4 k0) (st k0) := by
  refine ilX0_lawful_24 (fun x1 x2 x3 x4 f => ∃ k, k0 ≤ k ∧ k ≤ N ∧ P k ∧ x1 = p1 k ∧ x2 = Int32.ofNat k ∧ x3 = p3 k ∧ x4 = p4 k ∧ f = st k) (fun x1 x2 x3 x4 _ => N - x2.toNatClampNeg) ?_ _ _ _ _ _ ⟨k0, Nat.le_refl _, h0, hP, rfl, rfl, rfl, rfl, rfl⟩
  intro K x1 x2 x3 x4 f hI hK
  obtain ⟨k, h1, h2, h3, rfl, rfl, rfl, rfl, rfl⟩ := hI
  refine step K k h1 h2 h3 (fun h4 h5 => hK _ _ _ _ _ ⟨k + 1, by omega, by omega, h5, rfl, rfl, rfl, rfl, rfl⟩ ?_)
  show N - (Int32.ofNat (k + 1)).toNatClampNeg < N - (Int32.ofNat k).toNatClampNeg
  rw [n_clamp (by omega), n_clamp (by omega)]
  omega
theorem icX0_lawful_24_3 {b : Nat} {cs : Nat → ClassId} {ad : Nat → Nat} {vs : Nat → Option Nat} {o : Nat}  {Q : Int32 → XS → Prop} (N k0 : Nat) (hN : N < 2147483648) (h0 : k0 ≤ N) (P : Nat → Prop) (p1 : Nat → Int32) (p2 : Nat → Int32) (p4 : Nat → Int32) (st : Nat → XS) (hP : P k0) (step : ∀ (K24 : Int32 → Int32 → Int32 → Int32 → XS → Prop) (k : Nat), k0 ≤ k → k ≤ N → P k → (k < N → P (k + 1) → K24 (p1 (k + 1)) (p2 (k + 1)) (Int32.ofNat (k + 1)) (p4 (k + 1)) (st (k + 1))) → wbX0_lawful_24 b cs ad vs o K24 Q (p1 k) (p2 k) (Int32.ofNat k) (p4 k) (st k)) : ∃ n : Nat, wlX0_lawful_24 b cs ad vs o  Q n (p1 k0) (p2 k0) (Int32.ofNat k0) (p4 k0) (st k0) := by
  refine ilX0_lawful_24 (fun x1 x2 x3 x4 f => ∃ k, k0 ≤ k ∧ k ≤ N ∧ P k ∧ x1 = p1 k ∧ x2 = p2 k ∧ x3 = Int32.ofNat k ∧ x4 = p4 k ∧ f = st k) (fun x1 x2 x3 x4 _ => N - x3.toNatClampNeg) ?_ _ _ _ _ _ ⟨k0, Nat.le_refl _, h0, hP, rfl, rfl, rfl, rfl, rfl⟩
  intro K x1 x2 x3 x4 f hI hK
  obtain ⟨k, h1, h2, h3, rfl, rfl, rfl, rfl, rfl⟩ := hI
  refine step K k h1 h2 h3 (fun h4 h5 => hK _ _ _ _ _ ⟨k + 1, by omega, by omega, h5, rfl, rfl, rfl, rfl, rfl⟩ ?_)
  show N - (Int32.ofNat (k + 1)).toNatClampNeg < N - (Int32.ofNat k).toNatClampNeg
  rw [n_clamp (by omega), n_clamp (by omega)]
  omega
theorem icX0_lawful_24_4 {b : Nat} {cs : Nat → ClassId} {ad : Nat → Nat} {vs : Nat → Option Nat} {o : Nat}  {Q : Int32 → XS → Prop} (N k0 : Nat) (hN : N < 2147483648) (h0 : k0 ≤ N) (P : Nat → Prop) (p1 : Nat → Int32) (p2 : Nat → Int32) (p3 : Nat → Int32) (st : Nat → XS) (hP : P k0) (step : ∀ (K24 : Int32 → Int32 → Int32 → Int32 → XS → Prop) (k : Nat), k0 ≤ k → k ≤ N → P k → (k < N → P (k + 1) → K24 (p1 (k + 1)) (p2 (k + 1)) (p3 (k + 1)) (Int32.ofNat (k + 1)) (st (k + 1))) → wbX0_lawful_24 b cs ad vs o K24 Q (p1 k) (p2 k) (p3 k) (Int32.ofNat k) (st k)) : ∃ n : Nat, wlX0_lawful_24 b cs ad vs o  Q n (p1 k0) (p2 k0) (p3 k0) (Int32.ofNat k0) (st k0) := by
  refine ilX0_lawful_24 (fun x1 x2 x3 x4 f => ∃ k, k0 ≤ k ∧ k ≤ N ∧ P k ∧ x1 = p1 k ∧ x2 = p2 k ∧ x3 = p3 k ∧ x4 = Int32.ofNat k ∧ f = st k) (fun x1 x2 x3 x4 _ => N - x4.toNatClampNeg) ?_ _ _ _ _ _ ⟨k0, Nat.le_refl _, h0, hP, rfl, rfl, rfl, rfl, rfl⟩
  intro K x1 x2 x3 x4 f hI hK
  obtain ⟨k, h1, h2, h3, rfl, rfl, rfl, rfl, rfl⟩ := hI
  refine step K k h1 h2 h3 (fun h4 h5 => hK _ _ _ _ _ ⟨k + 1, by omega, by omega, h5, rfl, rfl, rfl, rfl, rfl⟩ ?_)
  show N - (Int32.ofNat (k + 1)).toNatClampNeg < N - (Int32.ofNat k).toNatClampNeg
  rw [n_clamp (by omega), n_clamp (by omega)]
  omega
theorem ilX0_hoursAhead_23 {b : Nat} {cs : Nat → ClassId} {ad : Nat → Nat} {vs : Nat → Option Nat} {o : Nat}  {Q : Int32 → XS → Prop} (Inv : Int32 → Int32 → Int32 → Int32 → XS → Prop) (meas : Int32 → Int32 → Int32 → Int32 → XS → Nat) (step : ∀ (K23 : Int32 → Int32 → Int32 → Int32 → XS → Prop) (x1 : Int32) (x3 : Int32) (x4 : Int32) (x5 : Int32) (f : XS), Inv x1 x3 x4 x5 f → (∀ (y1 : Int32) (y3 : Int32) (y4 : Int32) (y5 : Int32) (f' : XS), Inv y1 y3 y4 y5 f' → meas y1 y3 y4 y5 f' < meas x1 x3 x4 x5 f → K23 y1 y3 y4 y5 f') → wbX0_hoursAhead_23 b cs ad vs o K23 Q x1 x3 x4 x5 f) (x1 : Int32) (x3 : Int32) (x4 : Int32) (x5 : Int32) (f : XS) (h : Inv x1 x3 x4 x5 f) : ∃ n : Nat, wlX0_hoursAhead_23 b cs ad vs o  Q n x1 x3 x4 x5 f := by
  have key : ∀ (n : Nat) (x1 : Int32) (x3 : Int32) (x4 : Int32) (x5 : Int32) (f : XS), Inv x1 x3 x4 x5 f → meas x1 x3 x4 x5 f < n → wlX0_hoursAhead_23 b cs ad vs o  Q n x1 x3 x4 x5 f := by
    intro n
    induction n with
    | zero => intro x1 x3 x4 x5 f hI hm; exact absurd hm (Nat.not_lt_zero _)
    | succ n ih => intro x1 x3 x4 x5 f hI hm; exact step _ x1 x3 x4 x5 f hI (fun y1 y3 y4 y5 f' hI' hlt => ih y1 y3 y4 y5 f' hI' (Nat.lt_of_lt_of_le hlt (Nat.le_of_lt_succ hm)))
  exact ⟨_, key _ x1 x3 x4 x5 f h (Nat.lt_succ_self _)⟩
theorem icX0_hoursAhead_23_1 {b : Nat} {cs : Nat → ClassId} {ad : Nat → Nat} {vs : Nat → Option Nat} {o : Nat}  {Q : Int32 → XS → Prop} (N k0 : Nat) (hN : N < 2147483648) (h0 : k0 ≤ N) (P : Nat → Prop) (p3 : Nat → Int32) (p4 : Nat → Int32) (p5 : Nat → Int32) (st : Nat → XS) (hP : P k0) (step : ∀ (K23 : Int32 → Int32 → Int32 → Int32 → XS → Prop) (k : Nat), k0 ≤ k → k ≤ N → P k → (k < N → P (k + 1) → K23 (Int32.ofNat (k + 1)) (p3 (k + 1)) (p4 (k + 1)) (p5 (k + 1)) (st (k + 1))) → wbX0_hoursAhead_23 b cs ad vs o K23 Q (Int32.ofNat k) (p3 k) (p4 k) (p5 k) (st k)) : ∃ n : Nat, wlX0_hoursAhead_23 b cs ad vs o  Q n (Int32.ofNat k0) (p3 k0) (p4 k0) (p5 k0) (st k0) := by
  refine ilX0_hoursAhead_23 (fun x1 x3 x4 x5 f => ∃ k, k0 ≤ k ∧ k ≤ N ∧ P k ∧ x1 = Int32.ofNat k ∧ x3 = p3 k ∧ x4 = p4 k ∧ x5 = p5 k ∧ f = st k) (fun x1 x3 x4 x5 _ => N - x1.toNatClampNeg) ?_ _ _ _ _ _ ⟨k0, Nat.le_refl _, h0, hP, rfl, rfl, rfl, rfl, rfl⟩
  intro K x1 x3 x4 x5 f hI hK
  obtain ⟨k, h1, h2, h3, rfl, rfl, rfl, rfl, rfl⟩ := hI
  refine step K k h1 h2 h3 (fun h4 h5 => hK _ _ _ _ _ ⟨k + 1, by omega, by omega, h5, rfl, rfl, rfl, rfl, rfl⟩ ?_)
  show N - (Int32.ofNat (k + 1)).toNatClampNeg < N - (Int32.ofNat k).toNatClampNeg
  rw [n_clamp (by omega), n_clamp (by omega)]
  omega
theorem icX0_hoursAhead_23_3 {b : Nat} {cs : Nat → ClassId} {ad : Nat → Nat} {vs : Nat → Option Nat} {o : Nat}  {Q : Int32 → XS → Prop} (N k0 : Nat) (hN : N < 2147483648) (h0 : k0 ≤ N) (P : Nat → Prop) (p1 : Nat → Int32) (p4 : Nat → Int32) (p5 : Nat → Int32) (st : Nat → XS) (hP : P k0) (step : ∀ (K23 : Int32 → Int32 → Int32 → Int32 → XS → Prop) (k : Nat), k0 ≤ k → k ≤ N → P k → (k < N → P (k + 1) → K23 (p1 (k + 1)) (Int32.ofNat (k + 1)) (p4 (k + 1)) (p5 (k + 1)) (st (k + 1))) → wbX0_hoursAhead_23 b cs ad vs o K23 Q (p1 k) (Int32.ofNat k) (p4 k) (p5 k) (st k)) : ∃ n : Nat, wlX0_hoursAhead_23 b cs ad vs o  Q n (p1 k0) (Int32.ofNat k0) (p4 k0) (p5 k0) (st k0) := by
  refine ilX0_hoursAhead_23 (fun x1 x3 x4 x5 f => ∃ k, k0 ≤ k ∧ k ≤ N ∧ P k ∧ x1 = p1 k ∧ x3 = Int32.ofNat k ∧ x4 = p4 k ∧ x5 = p5 k ∧ f = st k) (fun x1 x3 x4 x5 _ => N - x3.toNatClampNeg) ?_ _ _ _ _ _ ⟨k0, Nat.le_refl _, h0, hP, rfl, rfl, rfl, rfl, rfl⟩
  intro K x1 x3 x4 x5 f hI hK
  obtain ⟨k, h1, h2, h3, rfl, rfl, rfl, rfl, rfl⟩ := hI
  refine step K k h1 h2 h3 (fun h4 h5 => hK _ _ _ _ _ ⟨k + 1, by omega, by omega, h5, rfl, rfl, rfl, rfl, rfl⟩ ?_)
  show N - (Int32.ofNat (k + 1)).toNatClampNeg < N - (Int32.ofNat k).toNatClampNeg
  rw [n_clamp (by omega), n_clamp (by omega)]
  omega
theorem icX0_hoursAhead_23_4 {b : Nat} {cs : Nat → ClassId} {ad : Nat → Nat} {vs : Nat → Option Nat} {o : Nat}  {Q : Int32 → XS → Prop} (N k0 : Nat) (hN : N < 2147483648) (h0 : k0 ≤ N) (P : Nat → Prop) (p1 : Nat → Int32) (p3 : Nat → Int32) (p5 : Nat → Int32) (st : Nat → XS) (hP : P k0) (step : ∀ (K23 : Int32 → Int32 → Int32 → Int32 → XS → Prop) (k : Nat), k0 ≤ k → k ≤ N → P k → (k < N → P (k + 1) → K23 (p1 (k + 1)) (p3 (k + 1)) (Int32.ofNat (k + 1)) (p5 (k + 1)) (st (k + 1))) → wbX0_hoursAhead_23 b cs ad vs o K23 Q (p1 k) (p3 k) (Int32.ofNat k) (p5 k) (st k)) : ∃ n : Nat, wlX0_hoursAhead_23 b cs ad vs o  Q n (p1 k0) (p3 k0) (Int32.ofNat k0) (p5 k0) (st k0) := by
  refine ilX0_hoursAhead_23 (fun x1 x3 x4 x5 f => ∃ k, k0 ≤ k ∧ k ≤ N ∧ P k ∧ x1 = p1 k ∧ x3 = p3 k ∧ x4 = Int32.ofNat k ∧ x5 = p5 k ∧ f = st k) (fun x1 x3 x4 x5 _ => N - x4.toNatClampNeg) ?_ _ _ _ _ _ ⟨k0, Nat.le_refl _, h0, hP, rfl, rfl, rfl, rfl, rfl⟩
  intro K x1 x3 x4 x5 f hI hK
  obtain ⟨k, h1, h2, h3, rfl, rfl, rfl, rfl, rfl⟩ := hI
  refine step K k h1 h2 h3 (fun h4 h5 => hK _ _ _ _ _ ⟨k + 1, by omega, by omega, h5, rfl, rfl, rfl, rfl, rfl⟩ ?_)
  show N - (Int32.ofNat (k + 1)).toNatClampNeg < N - (Int32.ofNat k).toNatClampNeg
  rw [n_clamp (by omega), n_clamp (by omega)]
  omega
theorem icX0_hoursAhead_23_5 {b : Nat} {cs : Nat → ClassId} {ad : Nat → Nat} {vs : Nat → Option Nat} {o : Nat}  {Q : Int32 → XS → Prop} (N k0 : Nat) (hN : N < 2147483648) (h0 : k0 ≤ N) (P : Nat → Prop) (p1 : Nat → Int32) (p3 : Nat → Int32) (p4 : Nat → Int32) (st : Nat → XS) (hP : P k0) (step : ∀ (K23 : Int32 → Int32 → Int32 → Int32 → XS → Prop) (k : Nat), k0 ≤ k → k ≤ N → P k → (k < N → P (k + 1) → K23 (p1 (k + 1)) (p3 (k + 1)) (p4 (k + 1)) (Int32.ofNat (k + 1)) (st (k + 1))) → wbX0_hoursAhead_23 b cs ad vs o K23 Q (p1 k) (p3 k) (p4 k) (Int32.ofNat k) (st k)) : ∃ n : Nat, wlX0_hoursAhead_23 b cs ad vs o  Q n (p1 k0) (p3 k0) (p4 k0) (Int32.ofNat k0) (st k0) := by
  refine ilX0_hoursAhead_23 (fun x1 x3 x4 x5 f => ∃ k, k0 ≤ k ∧ k ≤ N ∧ P k ∧ x1 = p1 k ∧ x3 = p3 k ∧ x4 = p4 k ∧ x5 = Int32.ofNat k ∧ f = st k) (fun x1 x3 x4 x5 _ => N - x5.toNatClampNeg) ?_ _ _ _ _ _ ⟨k0, Nat.le_refl _, h0, hP, rfl, rfl, rfl, rfl, rfl⟩
  intro K x1 x3 x4 x5 f hI hK
  obtain ⟨k, h1, h2, h3, rfl, rfl, rfl, rfl, rfl⟩ := hI
  refine step K k h1 h2 h3 (fun h4 h5 => hK _ _ _ _ _ ⟨k + 1, by omega, by omega, h5, rfl, rfl, rfl, rfl, rfl⟩ ?_)
  show N - (Int32.ofNat (k + 1)).toNatClampNeg < N - (Int32.ofNat k).toNatClampNeg
  rw [n_clamp (by omega), n_clamp (by omega)]
  omega
theorem ilX0_others_5 {b : Nat} {cs : Nat → ClassId} {ad : Nat → Nat} {vs : Nat → Option Nat} {o : Nat}  {Q : Int32 → XS → Prop} (Inv : Int32 → Int32 → Int32 → Int32 → XS → Prop) (meas : Int32 → Int32 → Int32 → Int32 → XS → Nat) (step : ∀ (K5 : Int32 → Int32 → Int32 → Int32 → XS → Prop) (x1 : Int32) (x2 : Int32) (x3 : Int32) (x4 : Int32) (f : XS), Inv x1 x2 x3 x4 f → (∀ (y1 : Int32) (y2 : Int32) (y3 : Int32) (y4 : Int32) (f' : XS), Inv y1 y2 y3 y4 f' → meas y1 y2 y3 y4 f' < meas x1 x2 x3 x4 f → K5 y1 y2 y3 y4 f') → wbX0_others_5 b cs ad vs o K5 Q x1 x2 x3 x4 f) (x1 : Int32) (x2 : Int32) (x3 : Int32) (x4 : Int32) (f : XS) (h : Inv x1 x2 x3 x4 f) : ∃ n : Nat, wlX0_others_5 b cs ad vs o  Q n x1 x2 x3 x4 f := by
  have key : ∀ (n : Nat) (x1 : Int32) (x2 : Int32) (x3 : Int32) (x4 : Int32) (f : XS), Inv x1 x2 x3 x4 f → meas x1 x2 x3 x4 f < n → wlX0_others_5 b cs ad vs o  Q n x1 x2 x3 x4 f := by
    intro n
    induction n with
    | zero => intro x1 x2 x3 x4 f hI hm; exact absurd hm (Nat.not_lt_zero _)
    | succ n ih => intro x1 x2 x3 x4 f hI hm; exact step _ x1 x2 x3 x4 f hI (fun y1 y2 y3 y4 f' hI' hlt => ih y1 y2 y3 y4 f' hI' (Nat.lt_of_lt_of_le hlt (Nat.le_of_lt_succ hm)))
  exact ⟨_, key _ x1 x2 x3 x4 f h (Nat.lt_succ_self _)⟩
theorem icX0_others_5_1 {b : Nat} {cs : Nat → ClassId} {ad : Nat → Nat} {vs : Nat → Option Nat} {o : Nat}  {Q : Int32 → XS → Prop} (N k0 : Nat) (hN : N < 2147483648) (h0 : k0 ≤ N) (P : Nat → Prop) (p2 : Nat → Int32) (p3 : Nat → Int32) (p4 : Nat → Int32) (st : Nat → XS) (hP : P k0) (step : ∀ (K5 : Int32 → Int32 → Int32 → Int32 → XS → Prop) (k : Nat), k0 ≤ k → k ≤ N → P k → (k < N → P (k + 1) → K5 (Int32.ofNat (k + 1)) (p2 (k + 1)) (p3 (k + 1)) (p4 (k + 1)) (st (k + 1))) → wbX0_others_5 b cs ad vs o K5 Q (Int32.ofNat k) (p2 k) (p3 k) (p4 k) (st k)) : ∃ n : Nat, wlX0_others_5 b cs ad vs o  Q n (Int32.ofNat k0) (p2 k0) (p3 k0) (p4 k0) (st k0) := by
  refine ilX0_others_5 (fun x1 x2 x3 x4 f => ∃ k, k0 ≤ k ∧ k ≤ N ∧ P k ∧ x1 = Int32.ofNat k ∧ x2 = p2 k ∧ x3 = p3 k ∧ x4 = p4 k ∧ f = st k) (fun x1 x2 x3 x4 _ => N - x1.toNatClampNeg) ?_ _ _ _ _ _ ⟨k0, Nat.le_refl _, h0, hP, rfl, rfl, rfl, rfl, rfl⟩
  intro K x1 x2 x3 x4 f hI hK
  obtain ⟨k, h1, h2, h3, rfl, rfl, rfl, rfl, rfl⟩ := hI
  refine step K k h1 h2 h3 (fun h4 h5 => hK _ _ _ _ _ ⟨k + 1, by omega, by omega, h5, rfl, rfl, rfl, rfl, rfl⟩ ?_)
  show N - (Int32.ofNat (k + 1)).toNatClampNeg < N - (Int32.ofNat k).toNatClampNeg
  rw [n_clamp (by omega), n_clamp (by omega)]
  omega
theorem icX0_others_5_2 {b : Nat} {cs : Nat → ClassId} {ad : Nat → Nat} {vs : Nat → Option Nat} {o : Nat}  {Q : Int32 → XS → Prop} (N k0 : Nat) (hN : N < 2147483648) (h0 : k0 ≤ N) (P : Nat → Prop) (p1 : Nat → Int32) (p3 : Nat → Int32) (p4 : Nat → Int32) (st : Nat → XS) (hP : P k0) (step : ∀ (K5 : Int32 → Int32 → Int32 → Int32 → XS → Prop) (k : Nat), k0 ≤ k → k ≤ N → P k → (k < N → P (k + 1) → K5 (p1 (k + 1)) (Int32.ofNat (k + 1)) (p3 (k + 1)) (p4 (k + 1)) (st (k + 1))) → wbX0_others_5 b cs ad vs o K5 Q (p1 k) (Int32.ofNat k) (p3 k) (p4 k) (st k)) : ∃ n : Nat, wlX0_others_5 b cs ad vs o  Q n (p1 k0) (Int32.ofNat k0) (p3 k0) (p4 k0) (st k0) := by
  refine ilX0_others_5 (fun x1 x2 x3 x4 f => ∃ k, k0 ≤ k ∧ k ≤ N ∧ P k ∧ x1 = p1 k ∧ x2 = Int32.ofNat k ∧ x3 = p3 k ∧ x4 = p4 k ∧ f = st k) (fun x1 x2 x3 x4 _ => N - x2.toNatClampNeg) ?_ _ _ _ _ _ ⟨k0, Nat.le_refl _, h0, hP, rfl, rfl, rfl, rfl, rfl⟩
  intro K x1 x2 x3 x4 f hI hK
  obtain ⟨k, h1, h2, h3, rfl, rfl, rfl, rfl, rfl⟩ := hI
  refine step K k h1 h2 h3 (fun h4 h5 => hK _ _ _ _ _ ⟨k + 1, by omega, by omega, h5, rfl, rfl, rfl, rfl, rfl⟩ ?_)
  show N - (Int32.ofNat (k + 1)).toNatClampNeg < N - (Int32.ofNat k).toNatClampNeg
  rw [n_clamp (by omega), n_clamp (by omega)]
  omega
theorem icX0_others_5_3 {b : Nat} {cs : Nat → ClassId} {ad : Nat → Nat} {vs : Nat → Option Nat} {o : Nat}  {Q : Int32 → XS → Prop} (N k0 : Nat) (hN : N < 2147483648) (h0 : k0 ≤ N) (P : Nat → Prop) (p1 : Nat → Int32) (p2 : Nat → Int32) (p4 : Nat → Int32) (st : Nat → XS) (hP : P k0) (step : ∀ (K5 : Int32 → Int32 → Int32 → Int32 → XS → Prop) (k : Nat), k0 ≤ k → k ≤ N → P k → (k < N → P (k + 1) → K5 (p1 (k + 1)) (p2 (k + 1)) (Int32.ofNat (k + 1)) (p4 (k + 1)) (st (k + 1))) → wbX0_others_5 b cs ad vs o K5 Q (p1 k) (p2 k) (Int32.ofNat k) (p4 k) (st k)) : ∃ n : Nat, wlX0_others_5 b cs ad vs o  Q n (p1 k0) (p2 k0) (Int32.ofNat k0) (p4 k0) (st k0) := by
  refine ilX0_others_5 (fun x1 x2 x3 x4 f => ∃ k, k0 ≤ k ∧ k ≤ N ∧ P k ∧ x1 = p1 k ∧ x2 = p2 k ∧ x3 = Int32.ofNat k ∧ x4 = p4 k ∧ f = st k) (fun x1 x2 x3 x4 _ => N - x3.toNatClampNeg) ?_ _ _ _ _ _ ⟨k0, Nat.le_refl _, h0, hP, rfl, rfl, rfl, rfl, rfl⟩
  intro K x1 x2 x3 x4 f hI hK
  obtain ⟨k, h1, h2, h3, rfl, rfl, rfl, rfl, rfl⟩ := hI
  refine step K k h1 h2 h3 (fun h4 h5 => hK _ _ _ _ _ ⟨k + 1, by omega, by omega, h5, rfl, rfl, rfl, rfl, rfl⟩ ?_)
  show N - (Int32.ofNat (k + 1)).toNatClampNeg < N - (Int32.ofNat k).toNatClampNeg
  rw [n_clamp (by omega), n_clamp (by omega)]
  omega
theorem icX0_others_5_4 {b : Nat} {cs : Nat → ClassId} {ad : Nat → Nat} {vs : Nat → Option Nat} {o : Nat}  {Q : Int32 → XS → Prop} (N k0 : Nat) (hN : N < 2147483648) (h0 : k0 ≤ N) (P : Nat → Prop) (p1 : Nat → Int32) (p2 : Nat → Int32) (p3 : Nat → Int32) (st : Nat → XS) (hP : P k0) (step : ∀ (K5 : Int32 → Int32 → Int32 → Int32 → XS → Prop) (k : Nat), k0 ≤ k → k ≤ N → P k → (k < N → P (k + 1) → K5 (p1 (k + 1)) (p2 (k + 1)) (p3 (k + 1)) (Int32.ofNat (k + 1)) (st (k + 1))) → wbX0_others_5 b cs ad vs o K5 Q (p1 k) (p2 k) (p3 k) (Int32.ofNat k) (st k)) : ∃ n : Nat, wlX0_others_5 b cs ad vs o  Q n (p1 k0) (p2 k0) (p3 k0) (Int32.ofNat k0) (st k0) := by
  refine ilX0_others_5 (fun x1 x2 x3 x4 f => ∃ k, k0 ≤ k ∧ k ≤ N ∧ P k ∧ x1 = p1 k ∧ x2 = p2 k ∧ x3 = p3 k ∧ x4 = Int32.ofNat k ∧ f = st k) (fun x1 x2 x3 x4 _ => N - x4.toNatClampNeg) ?_ _ _ _ _ _ ⟨k0, Nat.le_refl _, h0, hP, rfl, rfl, rfl, rfl, rfl⟩
  intro K x1 x2 x3 x4 f hI hK
  obtain ⟨k, h1, h2, h3, rfl, rfl, rfl, rfl, rfl⟩ := hI
  refine step K k h1 h2 h3 (fun h4 h5 => hK _ _ _ _ _ ⟨k + 1, by omega, by omega, h5, rfl, rfl, rfl, rfl, rfl⟩ ?_)
  show N - (Int32.ofNat (k + 1)).toNatClampNeg < N - (Int32.ofNat k).toNatClampNeg
  rw [n_clamp (by omega), n_clamp (by omega)]
  omega
theorem ilX0_worthAt_8 {b : Nat} {cs : Nat → ClassId} {ad : Nat → Nat} {vs : Nat → Option Nat} {o : Nat} {K67 : Nat → Int32 → Int32 → XS → Prop} {Q : Int32 → XS → Prop} (Inv : Nat → Int32 → Int32 → Int32 → Int32 → XS → Prop) (meas : Nat → Int32 → Int32 → Int32 → Int32 → XS → Nat) (step : ∀ (K8 : Nat → Int32 → Int32 → Int32 → Int32 → XS → Prop) (x1 : Nat) (x2 : Int32) (x3 : Int32) (x4 : Int32) (x5 : Int32) (f : XS), Inv x1 x2 x3 x4 x5 f → (∀ (y1 : Nat) (y2 : Int32) (y3 : Int32) (y4 : Int32) (y5 : Int32) (f' : XS), Inv y1 y2 y3 y4 y5 f' → meas y1 y2 y3 y4 y5 f' < meas x1 x2 x3 x4 x5 f → K8 y1 y2 y3 y4 y5 f') → wbX0_worthAt_8 b cs ad vs o K8 K67 Q x1 x2 x3 x4 x5 f) (x1 : Nat) (x2 : Int32) (x3 : Int32) (x4 : Int32) (x5 : Int32) (f : XS) (h : Inv x1 x2 x3 x4 x5 f) : ∃ n : Nat, wlX0_worthAt_8 b cs ad vs o K67 Q n x1 x2 x3 x4 x5 f := by
  have key : ∀ (n : Nat) (x1 : Nat) (x2 : Int32) (x3 : Int32) (x4 : Int32) (x5 : Int32) (f : XS), Inv x1 x2 x3 x4 x5 f → meas x1 x2 x3 x4 x5 f < n → wlX0_worthAt_8 b cs ad vs o K67 Q n x1 x2 x3 x4 x5 f := by
    intro n
    induction n with
    | zero => intro x1 x2 x3 x4 x5 f hI hm; exact absurd hm (Nat.not_lt_zero _)
    | succ n ih => intro x1 x2 x3 x4 x5 f hI hm; exact step _ x1 x2 x3 x4 x5 f hI (fun y1 y2 y3 y4 y5 f' hI' hlt => ih y1 y2 y3 y4 y5 f' hI' (Nat.lt_of_lt_of_le hlt (Nat.le_of_lt_succ hm)))
  exact ⟨_, key _ x1 x2 x3 x4 x5 f h (Nat.lt_succ_self _)⟩
theorem icX0_worthAt_8_2 {b : Nat} {cs : Nat → ClassId} {ad : Nat → Nat} {vs : Nat → Option Nat} {o : Nat} {K67 : Nat → Int32 → Int32 → XS → Prop} {Q : Int32 → XS → Prop} (N k0 : Nat) (hN : N < 2147483648) (h0 : k0 ≤ N) (P : Nat → Prop) (p1 : Nat → Nat) (p3 : Nat → Int32) (p4 : Nat → Int32) (p5 : Nat → Int32) (st : Nat → XS) (hP : P k0) (step : ∀ (K8 : Nat → Int32 → Int32 → Int32 → Int32 → XS → Prop) (k : Nat), k0 ≤ k → k ≤ N → P k → (k < N → P (k + 1) → K8 (p1 (k + 1)) (Int32.ofNat (k + 1)) (p3 (k + 1)) (p4 (k + 1)) (p5 (k + 1)) (st (k + 1))) → wbX0_worthAt_8 b cs ad vs o K8 K67 Q (p1 k) (Int32.ofNat k) (p3 k) (p4 k) (p5 k) (st k)) : ∃ n : Nat, wlX0_worthAt_8 b cs ad vs o K67 Q n (p1 k0) (Int32.ofNat k0) (p3 k0) (p4 k0) (p5 k0) (st k0) := by
  refine ilX0_worthAt_8 (fun x1 x2 x3 x4 x5 f => ∃ k, k0 ≤ k ∧ k ≤ N ∧ P k ∧ x1 = p1 k ∧ x2 = Int32.ofNat k ∧ x3 = p3 k ∧ x4 = p4 k ∧ x5 = p5 k ∧ f = st k) (fun x1 x2 x3 x4 x5 _ => N - x2.toNatClampNeg) ?_ _ _ _ _ _ _ ⟨k0, Nat.le_refl _, h0, hP, rfl, rfl, rfl, rfl, rfl, rfl⟩
  intro K x1 x2 x3 x4 x5 f hI hK
  obtain ⟨k, h1, h2, h3, rfl, rfl, rfl, rfl, rfl, rfl⟩ := hI
  refine step K k h1 h2 h3 (fun h4 h5 => hK _ _ _ _ _ _ ⟨k + 1, by omega, by omega, h5, rfl, rfl, rfl, rfl, rfl, rfl⟩ ?_)
  show N - (Int32.ofNat (k + 1)).toNatClampNeg < N - (Int32.ofNat k).toNatClampNeg
  rw [n_clamp (by omega), n_clamp (by omega)]
  omega
theorem icX0_worthAt_8_3 {b : Nat} {cs : Nat → ClassId} {ad : Nat → Nat} {vs : Nat → Option Nat} {o : Nat} {K67 : Nat → Int32 → Int32 → XS → Prop} {Q : Int32 → XS → Prop} (N k0 : Nat) (hN : N < 2147483648) (h0 : k0 ≤ N) (P : Nat → Prop) (p1 : Nat → Nat) (p2 : Nat → Int32) (p4 : Nat → Int32) (p5 : Nat → Int32) (st : Nat → XS) (hP : P k0) (step : ∀ (K8 : Nat → Int32 → Int32 → Int32 → Int32 → XS → Prop) (k : Nat), k0 ≤ k → k ≤ N → P k → (k < N → P (k + 1) → K8 (p1 (k + 1)) (p2 (k + 1)) (Int32.ofNat (k + 1)) (p4 (k + 1)) (p5 (k + 1)) (st (k + 1))) → wbX0_worthAt_8 b cs ad vs o K8 K67 Q (p1 k) (p2 k) (Int32.ofNat k) (p4 k) (p5 k) (st k)) : ∃ n : Nat, wlX0_worthAt_8 b cs ad vs o K67 Q n (p1 k0) (p2 k0) (Int32.ofNat k0) (p4 k0) (p5 k0) (st k0) := by
  refine ilX0_worthAt_8 (fun x1 x2 x3 x4 x5 f => ∃ k, k0 ≤ k ∧ k ≤ N ∧ P k ∧ x1 = p1 k ∧ x2 = p2 k ∧ x3 = Int32.ofNat k ∧ x4 = p4 k ∧ x5 = p5 k ∧ f = st k) (fun x1 x2 x3 x4 x5 _ => N - x3.toNatClampNeg) ?_ _ _ _ _ _ _ ⟨k0, Nat.le_refl _, h0, hP, rfl, rfl, rfl, rfl, rfl, rfl⟩
  intro K x1 x2 x3 x4 x5 f hI hK
  obtain ⟨k, h1, h2, h3, rfl, rfl, rfl, rfl, rfl, rfl⟩ := hI
  refine step K k h1 h2 h3 (fun h4 h5 => hK _ _ _ _ _ _ ⟨k + 1, by omega, by omega, h5, rfl, rfl, rfl, rfl, rfl, rfl⟩ ?_)
  show N - (Int32.ofNat (k + 1)).toNatClampNeg < N - (Int32.ofNat k).toNatClampNeg
  rw [n_clamp (by omega), n_clamp (by omega)]
  omega
theorem icX0_worthAt_8_4 {b : Nat} {cs : Nat → ClassId} {ad : Nat → Nat} {vs : Nat → Option Nat} {o : Nat} {K67 : Nat → Int32 → Int32 → XS → Prop} {Q : Int32 → XS → Prop} (N k0 : Nat) (hN : N < 2147483648) (h0 : k0 ≤ N) (P : Nat → Prop) (p1 : Nat → Nat) (p2 : Nat → Int32) (p3 : Nat → Int32) (p5 : Nat → Int32) (st : Nat → XS) (hP : P k0) (step : ∀ (K8 : Nat → Int32 → Int32 → Int32 → Int32 → XS → Prop) (k : Nat), k0 ≤ k → k ≤ N → P k → (k < N → P (k + 1) → K8 (p1 (k + 1)) (p2 (k + 1)) (p3 (k + 1)) (Int32.ofNat (k + 1)) (p5 (k + 1)) (st (k + 1))) → wbX0_worthAt_8 b cs ad vs o K8 K67 Q (p1 k) (p2 k) (p3 k) (Int32.ofNat k) (p5 k) (st k)) : ∃ n : Nat, wlX0_worthAt_8 b cs ad vs o K67 Q n (p1 k0) (p2 k0) (p3 k0) (Int32.ofNat k0) (p5 k0) (st k0) := by
  refine ilX0_worthAt_8 (fun x1 x2 x3 x4 x5 f => ∃ k, k0 ≤ k ∧ k ≤ N ∧ P k ∧ x1 = p1 k ∧ x2 = p2 k ∧ x3 = p3 k ∧ x4 = Int32.ofNat k ∧ x5 = p5 k ∧ f = st k) (fun x1 x2 x3 x4 x5 _ => N - x4.toNatClampNeg) ?_ _ _ _ _ _ _ ⟨k0, Nat.le_refl _, h0, hP, rfl, rfl, rfl, rfl, rfl, rfl⟩
  intro K x1 x2 x3 x4 x5 f hI hK
  obtain ⟨k, h1, h2, h3, rfl, rfl, rfl, rfl, rfl, rfl⟩ := hI
  refine step K k h1 h2 h3 (fun h4 h5 => hK _ _ _ _ _ _ ⟨k + 1, by omega, by omega, h5, rfl, rfl, rfl, rfl, rfl, rfl⟩ ?_)
  show N - (Int32.ofNat (k + 1)).toNatClampNeg < N - (Int32.ofNat k).toNatClampNeg
  rw [n_clamp (by omega), n_clamp (by omega)]
  omega
theorem icX0_worthAt_8_5 {b : Nat} {cs : Nat → ClassId} {ad : Nat → Nat} {vs : Nat → Option Nat} {o : Nat} {K67 : Nat → Int32 → Int32 → XS → Prop} {Q : Int32 → XS → Prop} (N k0 : Nat) (hN : N < 2147483648) (h0 : k0 ≤ N) (P : Nat → Prop) (p1 : Nat → Nat) (p2 : Nat → Int32) (p3 : Nat → Int32) (p4 : Nat → Int32) (st : Nat → XS) (hP : P k0) (step : ∀ (K8 : Nat → Int32 → Int32 → Int32 → Int32 → XS → Prop) (k : Nat), k0 ≤ k → k ≤ N → P k → (k < N → P (k + 1) → K8 (p1 (k + 1)) (p2 (k + 1)) (p3 (k + 1)) (p4 (k + 1)) (Int32.ofNat (k + 1)) (st (k + 1))) → wbX0_worthAt_8 b cs ad vs o K8 K67 Q (p1 k) (p2 k) (p3 k) (p4 k) (Int32.ofNat k) (st k)) : ∃ n : Nat, wlX0_worthAt_8 b cs ad vs o K67 Q n (p1 k0) (p2 k0) (p3 k0) (p4 k0) (Int32.ofNat k0) (st k0) := by
  refine ilX0_worthAt_8 (fun x1 x2 x3 x4 x5 f => ∃ k, k0 ≤ k ∧ k ≤ N ∧ P k ∧ x1 = p1 k ∧ x2 = p2 k ∧ x3 = p3 k ∧ x4 = p4 k ∧ x5 = Int32.ofNat k ∧ f = st k) (fun x1 x2 x3 x4 x5 _ => N - x5.toNatClampNeg) ?_ _ _ _ _ _ _ ⟨k0, Nat.le_refl _, h0, hP, rfl, rfl, rfl, rfl, rfl, rfl⟩
  intro K x1 x2 x3 x4 x5 f hI hK
  obtain ⟨k, h1, h2, h3, rfl, rfl, rfl, rfl, rfl, rfl⟩ := hI
  refine step K k h1 h2 h3 (fun h4 h5 => hK _ _ _ _ _ _ ⟨k + 1, by omega, by omega, h5, rfl, rfl, rfl, rfl, rfl, rfl⟩ ?_)
  show N - (Int32.ofNat (k + 1)).toNatClampNeg < N - (Int32.ofNat k).toNatClampNeg
  rw [n_clamp (by omega), n_clamp (by omega)]
  omega
theorem ilX0_judge_83 {b : Nat} {cs : Nat → ClassId} {ad : Nat → Nat} {vs : Nat → Option Nat} {o : Nat}  {Q : Int64 → XS → Prop} (Inv : Int32 → Int64 → Int32 → XS → Prop) (meas : Int32 → Int64 → Int32 → XS → Nat) (step : ∀ (K83 : Int32 → Int64 → Int32 → XS → Prop) (x1 : Int32) (x4 : Int64) (x6 : Int32) (f : XS), Inv x1 x4 x6 f → (∀ (y1 : Int32) (y4 : Int64) (y6 : Int32) (f' : XS), Inv y1 y4 y6 f' → meas y1 y4 y6 f' < meas x1 x4 x6 f → K83 y1 y4 y6 f') → wbX0_judge_83 b cs ad vs o K83 Q x1 x4 x6 f) (x1 : Int32) (x4 : Int64) (x6 : Int32) (f : XS) (h : Inv x1 x4 x6 f) : ∃ n : Nat, wlX0_judge_83 b cs ad vs o  Q n x1 x4 x6 f := by
  have key : ∀ (n : Nat) (x1 : Int32) (x4 : Int64) (x6 : Int32) (f : XS), Inv x1 x4 x6 f → meas x1 x4 x6 f < n → wlX0_judge_83 b cs ad vs o  Q n x1 x4 x6 f := by
    intro n
    induction n with
    | zero => intro x1 x4 x6 f hI hm; exact absurd hm (Nat.not_lt_zero _)
    | succ n ih => intro x1 x4 x6 f hI hm; exact step _ x1 x4 x6 f hI (fun y1 y4 y6 f' hI' hlt => ih y1 y4 y6 f' hI' (Nat.lt_of_lt_of_le hlt (Nat.le_of_lt_succ hm)))
  exact ⟨_, key _ x1 x4 x6 f h (Nat.lt_succ_self _)⟩
theorem icX0_judge_83_1 {b : Nat} {cs : Nat → ClassId} {ad : Nat → Nat} {vs : Nat → Option Nat} {o : Nat}  {Q : Int64 → XS → Prop} (N k0 : Nat) (hN : N < 2147483648) (h0 : k0 ≤ N) (P : Nat → Prop) (p4 : Nat → Int64) (p6 : Nat → Int32) (st : Nat → XS) (hP : P k0) (step : ∀ (K83 : Int32 → Int64 → Int32 → XS → Prop) (k : Nat), k0 ≤ k → k ≤ N → P k → (k < N → P (k + 1) → K83 (Int32.ofNat (k + 1)) (p4 (k + 1)) (p6 (k + 1)) (st (k + 1))) → wbX0_judge_83 b cs ad vs o K83 Q (Int32.ofNat k) (p4 k) (p6 k) (st k)) : ∃ n : Nat, wlX0_judge_83 b cs ad vs o  Q n (Int32.ofNat k0) (p4 k0) (p6 k0) (st k0) := by
  refine ilX0_judge_83 (fun x1 x4 x6 f => ∃ k, k0 ≤ k ∧ k ≤ N ∧ P k ∧ x1 = Int32.ofNat k ∧ x4 = p4 k ∧ x6 = p6 k ∧ f = st k) (fun x1 x4 x6 _ => N - x1.toNatClampNeg) ?_ _ _ _ _ ⟨k0, Nat.le_refl _, h0, hP, rfl, rfl, rfl, rfl⟩
  intro K x1 x4 x6 f hI hK
  obtain ⟨k, h1, h2, h3, rfl, rfl, rfl, rfl⟩ := hI
  refine step K k h1 h2 h3 (fun h4 h5 => hK _ _ _ _ ⟨k + 1, by omega, by omega, h5, rfl, rfl, rfl, rfl⟩ ?_)
  show N - (Int32.ofNat (k + 1)).toNatClampNeg < N - (Int32.ofNat k).toNatClampNeg
  rw [n_clamp (by omega), n_clamp (by omega)]
  omega
theorem icX0_judge_83_6 {b : Nat} {cs : Nat → ClassId} {ad : Nat → Nat} {vs : Nat → Option Nat} {o : Nat}  {Q : Int64 → XS → Prop} (N k0 : Nat) (hN : N < 2147483648) (h0 : k0 ≤ N) (P : Nat → Prop) (p1 : Nat → Int32) (p4 : Nat → Int64) (st : Nat → XS) (hP : P k0) (step : ∀ (K83 : Int32 → Int64 → Int32 → XS → Prop) (k : Nat), k0 ≤ k → k ≤ N → P k → (k < N → P (k + 1) → K83 (p1 (k + 1)) (p4 (k + 1)) (Int32.ofNat (k + 1)) (st (k + 1))) → wbX0_judge_83 b cs ad vs o K83 Q (p1 k) (p4 k) (Int32.ofNat k) (st k)) : ∃ n : Nat, wlX0_judge_83 b cs ad vs o  Q n (p1 k0) (p4 k0) (Int32.ofNat k0) (st k0) := by
  refine ilX0_judge_83 (fun x1 x4 x6 f => ∃ k, k0 ≤ k ∧ k ≤ N ∧ P k ∧ x1 = p1 k ∧ x4 = p4 k ∧ x6 = Int32.ofNat k ∧ f = st k) (fun x1 x4 x6 _ => N - x6.toNatClampNeg) ?_ _ _ _ _ ⟨k0, Nat.le_refl _, h0, hP, rfl, rfl, rfl, rfl⟩
  intro K x1 x4 x6 f hI hK
  obtain ⟨k, h1, h2, h3, rfl, rfl, rfl, rfl⟩ := hI
  refine step K k h1 h2 h3 (fun h4 h5 => hK _ _ _ _ ⟨k + 1, by omega, by omega, h5, rfl, rfl, rfl, rfl⟩ ?_)
  show N - (Int32.ofNat (k + 1)).toNatClampNeg < N - (Int32.ofNat k).toNatClampNeg
  rw [n_clamp (by omega), n_clamp (by omega)]
  omega
theorem ilX0_wholeWorth_58 {b : Nat} {cs : Nat → ClassId} {ad : Nat → Nat} {vs : Nat → Option Nat} {o : Nat} {K174 : Int64 → Int32 → Int32 → Int32 → XS → Prop} {Q : Int64 → XS → Prop} (Inv : Int64 → Int32 → Int32 → Int32 → Int32 → Int32 → XS → Prop) (meas : Int64 → Int32 → Int32 → Int32 → Int32 → Int32 → XS → Nat) (step : ∀ (K58 : Int64 → Int32 → Int32 → Int32 → Int32 → Int32 → XS → Prop) (x1 : Int64) (x3 : Int32) (x4 : Int32) (x5 : Int32) (x6 : Int32) (x7 : Int32) (f : XS), Inv x1 x3 x4 x5 x6 x7 f → (∀ (y1 : Int64) (y3 : Int32) (y4 : Int32) (y5 : Int32) (y6 : Int32) (y7 : Int32) (f' : XS), Inv y1 y3 y4 y5 y6 y7 f' → meas y1 y3 y4 y5 y6 y7 f' < meas x1 x3 x4 x5 x6 x7 f → K58 y1 y3 y4 y5 y6 y7 f') → wbX0_wholeWorth_58 b cs ad vs o K58 K174 Q x1 x3 x4 x5 x6 x7 f) (x1 : Int64) (x3 : Int32) (x4 : Int32) (x5 : Int32) (x6 : Int32) (x7 : Int32) (f : XS) (h : Inv x1 x3 x4 x5 x6 x7 f) : ∃ n : Nat, wlX0_wholeWorth_58 b cs ad vs o K174 Q n x1 x3 x4 x5 x6 x7 f := by
  have key : ∀ (n : Nat) (x1 : Int64) (x3 : Int32) (x4 : Int32) (x5 : Int32) (x6 : Int32) (x7 : Int32) (f : XS), Inv x1 x3 x4 x5 x6 x7 f → meas x1 x3 x4 x5 x6 x7 f < n → wlX0_wholeWorth_58 b cs ad vs o K174 Q n x1 x3 x4 x5 x6 x7 f := by
    intro n
    induction n with
    | zero => intro x1 x3 x4 x5 x6 x7 f hI hm; exact absurd hm (Nat.not_lt_zero _)
    | succ n ih => intro x1 x3 x4 x5 x6 x7 f hI hm; exact step _ x1 x3 x4 x5 x6 x7 f hI (fun y1 y3 y4 y5 y6 y7 f' hI' hlt => ih y1 y3 y4 y5 y6 y7 f' hI' (Nat.lt_of_lt_of_le hlt (Nat.le_of_lt_succ hm)))
  exact ⟨_, key _ x1 x3 x4 x5 x6 x7 f h (Nat.lt_succ_self _)⟩
theorem icX0_wholeWorth_58_3 {b : Nat} {cs : Nat → ClassId} {ad : Nat → Nat} {vs : Nat → Option Nat} {o : Nat} {K174 : Int64 → Int32 → Int32 → Int32 → XS → Prop} {Q : Int64 → XS → Prop} (N k0 : Nat) (hN : N < 2147483648) (h0 : k0 ≤ N) (P : Nat → Prop) (p1 : Nat → Int64) (p4 : Nat → Int32) (p5 : Nat → Int32) (p6 : Nat → Int32) (p7 : Nat → Int32) (st : Nat → XS) (hP : P k0) (step : ∀ (K58 : Int64 → Int32 → Int32 → Int32 → Int32 → Int32 → XS → Prop) (k : Nat), k0 ≤ k → k ≤ N → P k → (k < N → P (k + 1) → K58 (p1 (k + 1)) (Int32.ofNat (k + 1)) (p4 (k + 1)) (p5 (k + 1)) (p6 (k + 1)) (p7 (k + 1)) (st (k + 1))) → wbX0_wholeWorth_58 b cs ad vs o K58 K174 Q (p1 k) (Int32.ofNat k) (p4 k) (p5 k) (p6 k) (p7 k) (st k)) : ∃ n : Nat, wlX0_wholeWorth_58 b cs ad vs o K174 Q n (p1 k0) (Int32.ofNat k0) (p4 k0) (p5 k0) (p6 k0) (p7 k0) (st k0) := by
  refine ilX0_wholeWorth_58 (fun x1 x3 x4 x5 x6 x7 f => ∃ k, k0 ≤ k ∧ k ≤ N ∧ P k ∧ x1 = p1 k ∧ x3 = Int32.ofNat k ∧ x4 = p4 k ∧ x5 = p5 k ∧ x6 = p6 k ∧ x7 = p7 k ∧ f = st k) (fun x1 x3 x4 x5 x6 x7 _ => N - x3.toNatClampNeg) ?_ _ _ _ _ _ _ _ ⟨k0, Nat.le_refl _, h0, hP, rfl, rfl, rfl, rfl, rfl, rfl, rfl⟩
  intro K x1 x3 x4 x5 x6 x7 f hI hK
  obtain ⟨k, h1, h2, h3, rfl, rfl, rfl, rfl, rfl, rfl, rfl⟩ := hI
  refine step K k h1 h2 h3 (fun h4 h5 => hK _ _ _ _ _ _ _ ⟨k + 1, by omega, by omega, h5, rfl, rfl, rfl, rfl, rfl, rfl, rfl⟩ ?_)
  show N - (Int32.ofNat (k + 1)).toNatClampNeg < N - (Int32.ofNat k).toNatClampNeg
  rw [n_clamp (by omega), n_clamp (by omega)]
  omega
theorem icX0_wholeWorth_58_4 {b : Nat} {cs : Nat → ClassId} {ad : Nat → Nat} {vs : Nat → Option Nat} {o : Nat} {K174 : Int64 → Int32 → Int32 → Int32 → XS → Prop} {Q : Int64 → XS → Prop} (N k0 : Nat) (hN : N < 2147483648) (h0 : k0 ≤ N) (P : Nat → Prop) (p1 : Nat → Int64) (p3 : Nat → Int32) (p5 : Nat → Int32) (p6 : Nat → Int32) (p7 : Nat → Int32) (st : Nat → XS) (hP : P k0) (step : ∀ (K58 : Int64 → Int32 → Int32 → Int32 → Int32 → Int32 → XS → Prop) (k : Nat), k0 ≤ k → k ≤ N → P k → (k < N → P (k + 1) → K58 (p1 (k + 1)) (p3 (k + 1)) (Int32.ofNat (k + 1)) (p5 (k + 1)) (p6 (k + 1)) (p7 (k + 1)) (st (k + 1))) → wbX0_wholeWorth_58 b cs ad vs o K58 K174 Q (p1 k) (p3 k) (Int32.ofNat k) (p5 k) (p6 k) (p7 k) (st k)) : ∃ n : Nat, wlX0_wholeWorth_58 b cs ad vs o K174 Q n (p1 k0) (p3 k0) (Int32.ofNat k0) (p5 k0) (p6 k0) (p7 k0) (st k0) := by
  refine ilX0_wholeWorth_58 (fun x1 x3 x4 x5 x6 x7 f => ∃ k, k0 ≤ k ∧ k ≤ N ∧ P k ∧ x1 = p1 k ∧ x3 = p3 k ∧ x4 = Int32.ofNat k ∧ x5 = p5 k ∧ x6 = p6 k ∧ x7 = p7 k ∧ f = st k) (fun x1 x3 x4 x5 x6 x7 _ => N - x4.toNatClampNeg) ?_ _ _ _ _ _ _ _ ⟨k0, Nat.le_refl _, h0, hP, rfl, rfl, rfl, rfl, rfl, rfl, rfl⟩
  intro K x1 x3 x4 x5 x6 x7 f hI hK
  obtain ⟨k, h1, h2, h3, rfl, rfl, rfl, rfl, rfl, rfl, rfl⟩ := hI
  refine step K k h1 h2 h3 (fun h4 h5 => hK _ _ _ _ _ _ _ ⟨k + 1, by omega, by omega, h5, rfl, rfl, rfl, rfl, rfl, rfl, rfl⟩ ?_)
  show N - (Int32.ofNat (k + 1)).toNatClampNeg < N - (Int32.ofNat k).toNatClampNeg
  rw [n_clamp (by omega), n_clamp (by omega)]
  omega
theorem icX0_wholeWorth_58_5 {b : Nat} {cs : Nat → ClassId} {ad : Nat → Nat} {vs : Nat → Option Nat} {o : Nat} {K174 : Int64 → Int32 → Int32 → Int32 → XS → Prop} {Q : Int64 → XS → Prop} (N k0 : Nat) (hN : N < 2147483648) (h0 : k0 ≤ N) (P : Nat → Prop) (p1 : Nat → Int64) (p3 : Nat → Int32) (p4 : Nat → Int32) (p6 : Nat → Int32) (p7 : Nat → Int32) (st : Nat → XS) (hP : P k0) (step : ∀ (K58 : Int64 → Int32 → Int32 → Int32 → Int32 → Int32 → XS → Prop) (k : Nat), k0 ≤ k → k ≤ N → P k → (k < N → P (k + 1) → K58 (p1 (k + 1)) (p3 (k + 1)) (p4 (k + 1)) (Int32.ofNat (k + 1)) (p6 (k + 1)) (p7 (k + 1)) (st (k + 1))) → wbX0_wholeWorth_58 b cs ad vs o K58 K174 Q (p1 k) (p3 k) (p4 k) (Int32.ofNat k) (p6 k) (p7 k) (st k)) : ∃ n : Nat, wlX0_wholeWorth_58 b cs ad vs o K174 Q n (p1 k0) (p3 k0) (p4 k0) (Int32.ofNat k0) (p6 k0) (p7 k0) (st k0) := by
  refine ilX0_wholeWorth_58 (fun x1 x3 x4 x5 x6 x7 f => ∃ k, k0 ≤ k ∧ k ≤ N ∧ P k ∧ x1 = p1 k ∧ x3 = p3 k ∧ x4 = p4 k ∧ x5 = Int32.ofNat k ∧ x6 = p6 k ∧ x7 = p7 k ∧ f = st k) (fun x1 x3 x4 x5 x6 x7 _ => N - x5.toNatClampNeg) ?_ _ _ _ _ _ _ _ ⟨k0, Nat.le_refl _, h0, hP, rfl, rfl, rfl, rfl, rfl, rfl, rfl⟩
  intro K x1 x3 x4 x5 x6 x7 f hI hK
  obtain ⟨k, h1, h2, h3, rfl, rfl, rfl, rfl, rfl, rfl, rfl⟩ := hI
  refine step K k h1 h2 h3 (fun h4 h5 => hK _ _ _ _ _ _ _ ⟨k + 1, by omega, by omega, h5, rfl, rfl, rfl, rfl, rfl, rfl, rfl⟩ ?_)
  show N - (Int32.ofNat (k + 1)).toNatClampNeg < N - (Int32.ofNat k).toNatClampNeg
  rw [n_clamp (by omega), n_clamp (by omega)]
  omega
theorem icX0_wholeWorth_58_6 {b : Nat} {cs : Nat → ClassId} {ad : Nat → Nat} {vs : Nat → Option Nat} {o : Nat} {K174 : Int64 → Int32 → Int32 → Int32 → XS → Prop} {Q : Int64 → XS → Prop} (N k0 : Nat) (hN : N < 2147483648) (h0 : k0 ≤ N) (P : Nat → Prop) (p1 : Nat → Int64) (p3 : Nat → Int32) (p4 : Nat → Int32) (p5 : Nat → Int32) (p7 : Nat → Int32) (st : Nat → XS) (hP : P k0) (step : ∀ (K58 : Int64 → Int32 → Int32 → Int32 → Int32 → Int32 → XS → Prop) (k : Nat), k0 ≤ k → k ≤ N → P k → (k < N → P (k + 1) → K58 (p1 (k + 1)) (p3 (k + 1)) (p4 (k + 1)) (p5 (k + 1)) (Int32.ofNat (k + 1)) (p7 (k + 1)) (st (k + 1))) → wbX0_wholeWorth_58 b cs ad vs o K58 K174 Q (p1 k) (p3 k) (p4 k) (p5 k) (Int32.ofNat k) (p7 k) (st k)) : ∃ n : Nat, wlX0_wholeWorth_58 b cs ad vs o K174 Q n (p1 k0) (p3 k0) (p4 k0) (p5 k0) (Int32.ofNat k0) (p7 k0) (st k0) := by
  refine ilX0_wholeWorth_58 (fun x1 x3 x4 x5 x6 x7 f => ∃ k, k0 ≤ k ∧ k ≤ N ∧ P k ∧ x1 = p1 k ∧ x3 = p3 k ∧ x4 = p4 k ∧ x5 = p5 k ∧ x6 = Int32.ofNat k ∧ x7 = p7 k ∧ f = st k) (fun x1 x3 x4 x5 x6 x7 _ => N - x6.toNatClampNeg) ?_ _ _ _ _ _ _ _ ⟨k0, Nat.le_refl _, h0, hP, rfl, rfl, rfl, rfl, rfl, rfl, rfl⟩
  intro K x1 x3 x4 x5 x6 x7 f hI hK
  obtain ⟨k, h1, h2, h3, rfl, rfl, rfl, rfl, rfl, rfl, rfl⟩ := hI
  refine step K k h1 h2 h3 (fun h4 h5 => hK _ _ _ _ _ _ _ ⟨k + 1, by omega, by omega, h5, rfl, rfl, rfl, rfl, rfl, rfl, rfl⟩ ?_)
  show N - (Int32.ofNat (k + 1)).toNatClampNeg < N - (Int32.ofNat k).toNatClampNeg
  rw [n_clamp (by omega), n_clamp (by omega)]
  omega
theorem icX0_wholeWorth_58_7 {b : Nat} {cs : Nat → ClassId} {ad : Nat → Nat} {vs : Nat → Option Nat} {o : Nat} {K174 : Int64 → Int32 → Int32 → Int32 → XS → Prop} {Q : Int64 → XS → Prop} (N k0 : Nat) (hN : N < 2147483648) (h0 : k0 ≤ N) (P : Nat → Prop) (p1 : Nat → Int64) (p3 : Nat → Int32) (p4 : Nat → Int32) (p5 : Nat → Int32) (p6 : Nat → Int32) (st : Nat → XS) (hP : P k0) (step : ∀ (K58 : Int64 → Int32 → Int32 → Int32 → Int32 → Int32 → XS → Prop) (k : Nat), k0 ≤ k → k ≤ N → P k → (k < N → P (k + 1) → K58 (p1 (k + 1)) (p3 (k + 1)) (p4 (k + 1)) (p5 (k + 1)) (p6 (k + 1)) (Int32.ofNat (k + 1)) (st (k + 1))) → wbX0_wholeWorth_58 b cs ad vs o K58 K174 Q (p1 k) (p3 k) (p4 k) (p5 k) (p6 k) (Int32.ofNat k) (st k)) : ∃ n : Nat, wlX0_wholeWorth_58 b cs ad vs o K174 Q n (p1 k0) (p3 k0) (p4 k0) (p5 k0) (p6 k0) (Int32.ofNat k0) (st k0) := by
  refine ilX0_wholeWorth_58 (fun x1 x3 x4 x5 x6 x7 f => ∃ k, k0 ≤ k ∧ k ≤ N ∧ P k ∧ x1 = p1 k ∧ x3 = p3 k ∧ x4 = p4 k ∧ x5 = p5 k ∧ x6 = p6 k ∧ x7 = Int32.ofNat k ∧ f = st k) (fun x1 x3 x4 x5 x6 x7 _ => N - x7.toNatClampNeg) ?_ _ _ _ _ _ _ _ ⟨k0, Nat.le_refl _, h0, hP, rfl, rfl, rfl, rfl, rfl, rfl, rfl⟩
  intro K x1 x3 x4 x5 x6 x7 f hI hK
  obtain ⟨k, h1, h2, h3, rfl, rfl, rfl, rfl, rfl, rfl, rfl⟩ := hI
  refine step K k h1 h2 h3 (fun h4 h5 => hK _ _ _ _ _ _ _ ⟨k + 1, by omega, by omega, h5, rfl, rfl, rfl, rfl, rfl, rfl, rfl⟩ ?_)
  show N - (Int32.ofNat (k + 1)).toNatClampNeg < N - (Int32.ofNat k).toNatClampNeg
  rw [n_clamp (by omega), n_clamp (by omega)]
  omega
theorem ilX0_wholeWorth_4 {b : Nat} {cs : Nat → ClassId} {ad : Nat → Nat} {vs : Nat → Option Nat} {o : Nat}  {Q : Int64 → XS → Prop} (Inv : Int64 → Int32 → XS → Prop) (meas : Int64 → Int32 → XS → Nat) (step : ∀ (K4 : Int64 → Int32 → XS → Prop) (x1 : Int64) (x3 : Int32) (f : XS), Inv x1 x3 f → (∀ (y1 : Int64) (y3 : Int32) (f' : XS), Inv y1 y3 f' → meas y1 y3 f' < meas x1 x3 f → K4 y1 y3 f') → wbX0_wholeWorth_4 b cs ad vs o K4 Q x1 x3 f) (x1 : Int64) (x3 : Int32) (f : XS) (h : Inv x1 x3 f) : ∃ n : Nat, wlX0_wholeWorth_4 b cs ad vs o  Q n x1 x3 f := by
  have key : ∀ (n : Nat) (x1 : Int64) (x3 : Int32) (f : XS), Inv x1 x3 f → meas x1 x3 f < n → wlX0_wholeWorth_4 b cs ad vs o  Q n x1 x3 f := by
    intro n
    induction n with
    | zero => intro x1 x3 f hI hm; exact absurd hm (Nat.not_lt_zero _)
    | succ n ih => intro x1 x3 f hI hm; exact step _ x1 x3 f hI (fun y1 y3 f' hI' hlt => ih y1 y3 f' hI' (Nat.lt_of_lt_of_le hlt (Nat.le_of_lt_succ hm)))
  exact ⟨_, key _ x1 x3 f h (Nat.lt_succ_self _)⟩
theorem icX0_wholeWorth_4_3 {b : Nat} {cs : Nat → ClassId} {ad : Nat → Nat} {vs : Nat → Option Nat} {o : Nat}  {Q : Int64 → XS → Prop} (N k0 : Nat) (hN : N < 2147483648) (h0 : k0 ≤ N) (P : Nat → Prop) (p1 : Nat → Int64) (st : Nat → XS) (hP : P k0) (step : ∀ (K4 : Int64 → Int32 → XS → Prop) (k : Nat), k0 ≤ k → k ≤ N → P k → (k < N → P (k + 1) → K4 (p1 (k + 1)) (Int32.ofNat (k + 1)) (st (k + 1))) → wbX0_wholeWorth_4 b cs ad vs o K4 Q (p1 k) (Int32.ofNat k) (st k)) : ∃ n : Nat, wlX0_wholeWorth_4 b cs ad vs o  Q n (p1 k0) (Int32.ofNat k0) (st k0) := by
  refine ilX0_wholeWorth_4 (fun x1 x3 f => ∃ k, k0 ≤ k ∧ k ≤ N ∧ P k ∧ x1 = p1 k ∧ x3 = Int32.ofNat k ∧ f = st k) (fun x1 x3 _ => N - x3.toNatClampNeg) ?_ _ _ _ ⟨k0, Nat.le_refl _, h0, hP, rfl, rfl, rfl⟩
  intro K x1 x3 f hI hK
  obtain ⟨k, h1, h2, h3, rfl, rfl, rfl⟩ := hI
  refine step K k h1 h2 h3 (fun h4 h5 => hK _ _ _ ⟨k + 1, by omega, by omega, h5, rfl, rfl, rfl⟩ ?_)
  show N - (Int32.ofNat (k + 1)).toNatClampNeg < N - (Int32.ofNat k).toNatClampNeg
  rw [n_clamp (by omega), n_clamp (by omega)]
  omega
theorem ilX0_moved_4 {b : Nat} {cs : Nat → ClassId} {ad : Nat → Nat} {vs : Nat → Option Nat} {o : Nat}  {Q : Int32 → XS → Prop} (Inv : Int32 → Int32 → XS → Prop) (meas : Int32 → Int32 → XS → Nat) (step : ∀ (K4 : Int32 → Int32 → XS → Prop) (x1 : Int32) (x2 : Int32) (f : XS), Inv x1 x2 f → (∀ (y1 : Int32) (y2 : Int32) (f' : XS), Inv y1 y2 f' → meas y1 y2 f' < meas x1 x2 f → K4 y1 y2 f') → wbX0_moved_4 b cs ad vs o K4 Q x1 x2 f) (x1 : Int32) (x2 : Int32) (f : XS) (h : Inv x1 x2 f) : ∃ n : Nat, wlX0_moved_4 b cs ad vs o  Q n x1 x2 f := by
  have key : ∀ (n : Nat) (x1 : Int32) (x2 : Int32) (f : XS), Inv x1 x2 f → meas x1 x2 f < n → wlX0_moved_4 b cs ad vs o  Q n x1 x2 f := by
    intro n
    induction n with
    | zero => intro x1 x2 f hI hm; exact absurd hm (Nat.not_lt_zero _)
    | succ n ih => intro x1 x2 f hI hm; exact step _ x1 x2 f hI (fun y1 y2 f' hI' hlt => ih y1 y2 f' hI' (Nat.lt_of_lt_of_le hlt (Nat.le_of_lt_succ hm)))
  exact ⟨_, key _ x1 x2 f h (Nat.lt_succ_self _)⟩
theorem icX0_moved_4_1 {b : Nat} {cs : Nat → ClassId} {ad : Nat → Nat} {vs : Nat → Option Nat} {o : Nat}  {Q : Int32 → XS → Prop} (N k0 : Nat) (hN : N < 2147483648) (h0 : k0 ≤ N) (P : Nat → Prop) (p2 : Nat → Int32) (st : Nat → XS) (hP : P k0) (step : ∀ (K4 : Int32 → Int32 → XS → Prop) (k : Nat), k0 ≤ k → k ≤ N → P k → (k < N → P (k + 1) → K4 (Int32.ofNat (k + 1)) (p2 (k + 1)) (st (k + 1))) → wbX0_moved_4 b cs ad vs o K4 Q (Int32.ofNat k) (p2 k) (st k)) : ∃ n : Nat, wlX0_moved_4 b cs ad vs o  Q n (Int32.ofNat k0) (p2 k0) (st k0) := by
  refine ilX0_moved_4 (fun x1 x2 f => ∃ k, k0 ≤ k ∧ k ≤ N ∧ P k ∧ x1 = Int32.ofNat k ∧ x2 = p2 k ∧ f = st k) (fun x1 x2 _ => N - x1.toNatClampNeg) ?_ _ _ _ ⟨k0, Nat.le_refl _, h0, hP, rfl, rfl, rfl⟩
  intro K x1 x2 f hI hK
  obtain ⟨k, h1, h2, h3, rfl, rfl, rfl⟩ := hI
  refine step K k h1 h2 h3 (fun h4 h5 => hK _ _ _ ⟨k + 1, by omega, by omega, h5, rfl, rfl, rfl⟩ ?_)
  show N - (Int32.ofNat (k + 1)).toNatClampNeg < N - (Int32.ofNat k).toNatClampNeg
  rw [n_clamp (by omega), n_clamp (by omega)]
  omega
theorem icX0_moved_4_2 {b : Nat} {cs : Nat → ClassId} {ad : Nat → Nat} {vs : Nat → Option Nat} {o : Nat}  {Q : Int32 → XS → Prop} (N k0 : Nat) (hN : N < 2147483648) (h0 : k0 ≤ N) (P : Nat → Prop) (p1 : Nat → Int32) (st : Nat → XS) (hP : P k0) (step : ∀ (K4 : Int32 → Int32 → XS → Prop) (k : Nat), k0 ≤ k → k ≤ N → P k → (k < N → P (k + 1) → K4 (p1 (k + 1)) (Int32.ofNat (k + 1)) (st (k + 1))) → wbX0_moved_4 b cs ad vs o K4 Q (p1 k) (Int32.ofNat k) (st k)) : ∃ n : Nat, wlX0_moved_4 b cs ad vs o  Q n (p1 k0) (Int32.ofNat k0) (st k0) := by
  refine ilX0_moved_4 (fun x1 x2 f => ∃ k, k0 ≤ k ∧ k ≤ N ∧ P k ∧ x1 = p1 k ∧ x2 = Int32.ofNat k ∧ f = st k) (fun x1 x2 _ => N - x2.toNatClampNeg) ?_ _ _ _ ⟨k0, Nat.le_refl _, h0, hP, rfl, rfl, rfl⟩
  intro K x1 x2 f hI hK
  obtain ⟨k, h1, h2, h3, rfl, rfl, rfl⟩ := hI
  refine step K k h1 h2 h3 (fun h4 h5 => hK _ _ _ ⟨k + 1, by omega, by omega, h5, rfl, rfl, rfl⟩ ?_)
  show N - (Int32.ofNat (k + 1)).toNatClampNeg < N - (Int32.ofNat k).toNatClampNeg
  rw [n_clamp (by omega), n_clamp (by omega)]
  omega
theorem ilX0_barsAhead_2 {b : Nat} {cs : Nat → ClassId} {ad : Nat → Nat} {vs : Nat → Option Nat} {o : Nat}  {Q : Int32 → XS → Prop} (Inv : Int32 → Int32 → XS → Prop) (meas : Int32 → Int32 → XS → Nat) (step : ∀ (K2 : Int32 → Int32 → XS → Prop) (x1 : Int32) (x2 : Int32) (f : XS), Inv x1 x2 f → (∀ (y1 : Int32) (y2 : Int32) (f' : XS), Inv y1 y2 f' → meas y1 y2 f' < meas x1 x2 f → K2 y1 y2 f') → wbX0_barsAhead_2 b cs ad vs o K2 Q x1 x2 f) (x1 : Int32) (x2 : Int32) (f : XS) (h : Inv x1 x2 f) : ∃ n : Nat, wlX0_barsAhead_2 b cs ad vs o  Q n x1 x2 f := by
  have key : ∀ (n : Nat) (x1 : Int32) (x2 : Int32) (f : XS), Inv x1 x2 f → meas x1 x2 f < n → wlX0_barsAhead_2 b cs ad vs o  Q n x1 x2 f := by
    intro n
    induction n with
    | zero => intro x1 x2 f hI hm; exact absurd hm (Nat.not_lt_zero _)
    | succ n ih => intro x1 x2 f hI hm; exact step _ x1 x2 f hI (fun y1 y2 f' hI' hlt => ih y1 y2 f' hI' (Nat.lt_of_lt_of_le hlt (Nat.le_of_lt_succ hm)))
  exact ⟨_, key _ x1 x2 f h (Nat.lt_succ_self _)⟩
theorem icX0_barsAhead_2_1 {b : Nat} {cs : Nat → ClassId} {ad : Nat → Nat} {vs : Nat → Option Nat} {o : Nat}  {Q : Int32 → XS → Prop} (N k0 : Nat) (hN : N < 2147483648) (h0 : k0 ≤ N) (P : Nat → Prop) (p2 : Nat → Int32) (st : Nat → XS) (hP : P k0) (step : ∀ (K2 : Int32 → Int32 → XS → Prop) (k : Nat), k0 ≤ k → k ≤ N → P k → (k < N → P (k + 1) → K2 (Int32.ofNat (k + 1)) (p2 (k + 1)) (st (k + 1))) → wbX0_barsAhead_2 b cs ad vs o K2 Q (Int32.ofNat k) (p2 k) (st k)) : ∃ n : Nat, wlX0_barsAhead_2 b cs ad vs o  Q n (Int32.ofNat k0) (p2 k0) (st k0) := by
  refine ilX0_barsAhead_2 (fun x1 x2 f => ∃ k, k0 ≤ k ∧ k ≤ N ∧ P k ∧ x1 = Int32.ofNat k ∧ x2 = p2 k ∧ f = st k) (fun x1 x2 _ => N - x1.toNatClampNeg) ?_ _ _ _ ⟨k0, Nat.le_refl _, h0, hP, rfl, rfl, rfl⟩
  intro K x1 x2 f hI hK
  obtain ⟨k, h1, h2, h3, rfl, rfl, rfl⟩ := hI
  refine step K k h1 h2 h3 (fun h4 h5 => hK _ _ _ ⟨k + 1, by omega, by omega, h5, rfl, rfl, rfl⟩ ?_)
  show N - (Int32.ofNat (k + 1)).toNatClampNeg < N - (Int32.ofNat k).toNatClampNeg
  rw [n_clamp (by omega), n_clamp (by omega)]
  omega
theorem icX0_barsAhead_2_2 {b : Nat} {cs : Nat → ClassId} {ad : Nat → Nat} {vs : Nat → Option Nat} {o : Nat}  {Q : Int32 → XS → Prop} (N k0 : Nat) (hN : N < 2147483648) (h0 : k0 ≤ N) (P : Nat → Prop) (p1 : Nat → Int32) (st : Nat → XS) (hP : P k0) (step : ∀ (K2 : Int32 → Int32 → XS → Prop) (k : Nat), k0 ≤ k → k ≤ N → P k → (k < N → P (k + 1) → K2 (p1 (k + 1)) (Int32.ofNat (k + 1)) (st (k + 1))) → wbX0_barsAhead_2 b cs ad vs o K2 Q (p1 k) (Int32.ofNat k) (st k)) : ∃ n : Nat, wlX0_barsAhead_2 b cs ad vs o  Q n (p1 k0) (Int32.ofNat k0) (st k0) := by
  refine ilX0_barsAhead_2 (fun x1 x2 f => ∃ k, k0 ≤ k ∧ k ≤ N ∧ P k ∧ x1 = p1 k ∧ x2 = Int32.ofNat k ∧ f = st k) (fun x1 x2 _ => N - x2.toNatClampNeg) ?_ _ _ _ ⟨k0, Nat.le_refl _, h0, hP, rfl, rfl, rfl⟩
  intro K x1 x2 f hI hK
  obtain ⟨k, h1, h2, h3, rfl, rfl, rfl⟩ := hI
  refine step K k h1 h2 h3 (fun h4 h5 => hK _ _ _ ⟨k + 1, by omega, by omega, h5, rfl, rfl, rfl⟩ ?_)
  show N - (Int32.ofNat (k + 1)).toNatClampNeg < N - (Int32.ofNat k).toNatClampNeg
  rw [n_clamp (by omega), n_clamp (by omega)]
  omega
theorem ilX0_walks_34 {b : Nat} {cs : Nat → ClassId} {ad : Nat → Nat} {vs : Nat → Option Nat} {o : Nat} {NW : XS → Int32 → (Int32 → XS → Prop) → Prop} {K85 : Int32 → XS → Prop} {Q : Int32 → XS → Prop} (Inv : Int32 → Int32 → XS → Prop) (meas : Int32 → Int32 → XS → Nat) (step : ∀ (K34 : Int32 → Int32 → XS → Prop) (x1 : Int32) (x2 : Int32) (f : XS), Inv x1 x2 f → (∀ (y1 : Int32) (y2 : Int32) (f' : XS), Inv y1 y2 f' → meas y1 y2 f' < meas x1 x2 f → K34 y1 y2 f') → wbX0_walks_34 b cs ad vs o NW K34 K85 Q x1 x2 f) (x1 : Int32) (x2 : Int32) (f : XS) (h : Inv x1 x2 f) : ∃ n : Nat, wlX0_walks_34 b cs ad vs o NW K85 Q n x1 x2 f := by
  have key : ∀ (n : Nat) (x1 : Int32) (x2 : Int32) (f : XS), Inv x1 x2 f → meas x1 x2 f < n → wlX0_walks_34 b cs ad vs o NW K85 Q n x1 x2 f := by
    intro n
    induction n with
    | zero => intro x1 x2 f hI hm; exact absurd hm (Nat.not_lt_zero _)
    | succ n ih => intro x1 x2 f hI hm; exact step _ x1 x2 f hI (fun y1 y2 f' hI' hlt => ih y1 y2 f' hI' (Nat.lt_of_lt_of_le hlt (Nat.le_of_lt_succ hm)))
  exact ⟨_, key _ x1 x2 f h (Nat.lt_succ_self _)⟩
theorem icX0_walks_34_1 {b : Nat} {cs : Nat → ClassId} {ad : Nat → Nat} {vs : Nat → Option Nat} {o : Nat} {NW : XS → Int32 → (Int32 → XS → Prop) → Prop} {K85 : Int32 → XS → Prop} {Q : Int32 → XS → Prop} (N k0 : Nat) (hN : N < 2147483648) (h0 : k0 ≤ N) (P : Nat → Prop) (p2 : Nat → Int32) (st : Nat → XS) (hP : P k0) (step : ∀ (K34 : Int32 → Int32 → XS → Prop) (k : Nat), k0 ≤ k → k ≤ N → P k → (k < N → P (k + 1) → K34 (Int32.ofNat (k + 1)) (p2 (k + 1)) (st (k + 1))) → wbX0_walks_34 b cs ad vs o NW K34 K85 Q (Int32.ofNat k) (p2 k) (st k)) : ∃ n : Nat, wlX0_walks_34 b cs ad vs o NW K85 Q n (Int32.ofNat k0) (p2 k0) (st k0) := by
  refine ilX0_walks_34 (fun x1 x2 f => ∃ k, k0 ≤ k ∧ k ≤ N ∧ P k ∧ x1 = Int32.ofNat k ∧ x2 = p2 k ∧ f = st k) (fun x1 x2 _ => N - x1.toNatClampNeg) ?_ _ _ _ ⟨k0, Nat.le_refl _, h0, hP, rfl, rfl, rfl⟩
  intro K x1 x2 f hI hK
  obtain ⟨k, h1, h2, h3, rfl, rfl, rfl⟩ := hI
  refine step K k h1 h2 h3 (fun h4 h5 => hK _ _ _ ⟨k + 1, by omega, by omega, h5, rfl, rfl, rfl⟩ ?_)
  show N - (Int32.ofNat (k + 1)).toNatClampNeg < N - (Int32.ofNat k).toNatClampNeg
  rw [n_clamp (by omega), n_clamp (by omega)]
  omega
theorem icX0_walks_34_2 {b : Nat} {cs : Nat → ClassId} {ad : Nat → Nat} {vs : Nat → Option Nat} {o : Nat} {NW : XS → Int32 → (Int32 → XS → Prop) → Prop} {K85 : Int32 → XS → Prop} {Q : Int32 → XS → Prop} (N k0 : Nat) (hN : N < 2147483648) (h0 : k0 ≤ N) (P : Nat → Prop) (p1 : Nat → Int32) (st : Nat → XS) (hP : P k0) (step : ∀ (K34 : Int32 → Int32 → XS → Prop) (k : Nat), k0 ≤ k → k ≤ N → P k → (k < N → P (k + 1) → K34 (p1 (k + 1)) (Int32.ofNat (k + 1)) (st (k + 1))) → wbX0_walks_34 b cs ad vs o NW K34 K85 Q (p1 k) (Int32.ofNat k) (st k)) : ∃ n : Nat, wlX0_walks_34 b cs ad vs o NW K85 Q n (p1 k0) (Int32.ofNat k0) (st k0) := by
  refine ilX0_walks_34 (fun x1 x2 f => ∃ k, k0 ≤ k ∧ k ≤ N ∧ P k ∧ x1 = p1 k ∧ x2 = Int32.ofNat k ∧ f = st k) (fun x1 x2 _ => N - x2.toNatClampNeg) ?_ _ _ _ ⟨k0, Nat.le_refl _, h0, hP, rfl, rfl, rfl⟩
  intro K x1 x2 f hI hK
  obtain ⟨k, h1, h2, h3, rfl, rfl, rfl⟩ := hI
  refine step K k h1 h2 h3 (fun h4 h5 => hK _ _ _ ⟨k + 1, by omega, by omega, h5, rfl, rfl, rfl⟩ ?_)
  show N - (Int32.ofNat (k + 1)).toNatClampNeg < N - (Int32.ofNat k).toNatClampNeg
  rw [n_clamp (by omega), n_clamp (by omega)]
  omega
theorem ilX0_lays_33 {b : Nat} {cs : Nat → ClassId} {ad : Nat → Nat} {vs : Nat → Option Nat} {o : Nat} {K100 : Int32 → Int32 → Int32 → XS → Prop} {Q : XS → Prop} (Inv : Int32 → Int32 → Int32 → Int32 → XS → Prop) (meas : Int32 → Int32 → Int32 → Int32 → XS → Nat) (step : ∀ (K33 : Int32 → Int32 → Int32 → Int32 → XS → Prop) (x1 : Int32) (x2 : Int32) (x3 : Int32) (x4 : Int32) (f : XS), Inv x1 x2 x3 x4 f → (∀ (y1 : Int32) (y2 : Int32) (y3 : Int32) (y4 : Int32) (f' : XS), Inv y1 y2 y3 y4 f' → meas y1 y2 y3 y4 f' < meas x1 x2 x3 x4 f → K33 y1 y2 y3 y4 f') → wbX0_lays_33 b cs ad vs o K33 K100 Q x1 x2 x3 x4 f) (x1 : Int32) (x2 : Int32) (x3 : Int32) (x4 : Int32) (f : XS) (h : Inv x1 x2 x3 x4 f) : ∃ n : Nat, wlX0_lays_33 b cs ad vs o K100 Q n x1 x2 x3 x4 f := by
  have key : ∀ (n : Nat) (x1 : Int32) (x2 : Int32) (x3 : Int32) (x4 : Int32) (f : XS), Inv x1 x2 x3 x4 f → meas x1 x2 x3 x4 f < n → wlX0_lays_33 b cs ad vs o K100 Q n x1 x2 x3 x4 f := by
    intro n
    induction n with
    | zero => intro x1 x2 x3 x4 f hI hm; exact absurd hm (Nat.not_lt_zero _)
    | succ n ih => intro x1 x2 x3 x4 f hI hm; exact step _ x1 x2 x3 x4 f hI (fun y1 y2 y3 y4 f' hI' hlt => ih y1 y2 y3 y4 f' hI' (Nat.lt_of_lt_of_le hlt (Nat.le_of_lt_succ hm)))
  exact ⟨_, key _ x1 x2 x3 x4 f h (Nat.lt_succ_self _)⟩
theorem icX0_lays_33_1 {b : Nat} {cs : Nat → ClassId} {ad : Nat → Nat} {vs : Nat → Option Nat} {o : Nat} {K100 : Int32 → Int32 → Int32 → XS → Prop} {Q : XS → Prop} (N k0 : Nat) (hN : N < 2147483648) (h0 : k0 ≤ N) (P : Nat → Prop) (p2 : Nat → Int32) (p3 : Nat → Int32) (p4 : Nat → Int32) (st : Nat → XS) (hP : P k0) (step : ∀ (K33 : Int32 → Int32 → Int32 → Int32 → XS → Prop) (k : Nat), k0 ≤ k → k ≤ N → P k → (k < N → P (k + 1) → K33 (Int32.ofNat (k + 1)) (p2 (k + 1)) (p3 (k + 1)) (p4 (k + 1)) (st (k + 1))) → wbX0_lays_33 b cs ad vs o K33 K100 Q (Int32.ofNat k) (p2 k) (p3 k) (p4 k) (st k)) : ∃ n : Nat, wlX0_lays_33 b cs ad vs o K100 Q n (Int32.ofNat k0) (p2 k0) (p3 k0) (p4 k0) (st k0) := by
  refine ilX0_lays_33 (fun x1 x2 x3 x4 f => ∃ k, k0 ≤ k ∧ k ≤ N ∧ P k ∧ x1 = Int32.ofNat k ∧ x2 = p2 k ∧ x3 = p3 k ∧ x4 = p4 k ∧ f = st k) (fun x1 x2 x3 x4 _ => N - x1.toNatClampNeg) ?_ _ _ _ _ _ ⟨k0, Nat.le_refl _, h0, hP, rfl, rfl, rfl, rfl, rfl⟩
  intro K x1 x2 x3 x4 f hI hK
  obtain ⟨k, h1, h2, h3, rfl, rfl, rfl, rfl, rfl⟩ := hI
  refine step K k h1 h2 h3 (fun h4 h5 => hK _ _ _ _ _ ⟨k + 1, by omega, by omega, h5, rfl, rfl, rfl, rfl, rfl⟩ ?_)
  show N - (Int32.ofNat (k + 1)).toNatClampNeg < N - (Int32.ofNat k).toNatClampNeg
  rw [n_clamp (by omega), n_clamp (by omega)]
  omega
theorem icX0_lays_33_2 {b : Nat} {cs : Nat → ClassId} {ad : Nat → Nat} {vs : Nat → Option Nat} {o : Nat} {K100 : Int32 → Int32 → Int32 → XS → Prop} {Q : XS → Prop} (N k0 : Nat) (hN : N < 2147483648) (h0 : k0 ≤ N) (P : Nat → Prop) (p1 : Nat → Int32) (p3 : Nat → Int32) (p4 : Nat → Int32) (st : Nat → XS) (hP : P k0) (step : ∀ (K33 : Int32 → Int32 → Int32 → Int32 → XS → Prop) (k : Nat), k0 ≤ k → k ≤ N → P k → (k < N → P (k + 1) → K33 (p1 (k + 1)) (Int32.ofNat (k + 1)) (p3 (k + 1)) (p4 (k + 1)) (st (k + 1))) → wbX0_lays_33 b cs ad vs o K33 K100 Q (p1 k) (Int32.ofNat k) (p3 k) (p4 k) (st k)) : ∃ n : Nat, wlX0_lays_33 b cs ad vs o K100 Q n (p1 k0) (Int32.ofNat k0) (p3 k0) (p4 k0) (st k0) := by
  refine ilX0_lays_33 (fun x1 x2 x3 x4 f => ∃ k, k0 ≤ k ∧ k ≤ N ∧ P k ∧ x1 = p1 k ∧ x2 = Int32.ofNat k ∧ x3 = p3 k ∧ x4 = p4 k ∧ f = st k) (fun x1 x2 x3 x4 _ => N - x2.toNatClampNeg) ?_ _ _ _ _ _ ⟨k0, Nat.le_refl _, h0, hP, rfl, rfl, rfl, rfl, rfl⟩
  intro K x1 x2 x3 x4 f hI hK
  obtain ⟨k, h1, h2, h3, rfl, rfl, rfl, rfl, rfl⟩ := hI
  refine step K k h1 h2 h3 (fun h4 h5 => hK _ _ _ _ _ ⟨k + 1, by omega, by omega, h5, rfl, rfl, rfl, rfl, rfl⟩ ?_)
  show N - (Int32.ofNat (k + 1)).toNatClampNeg < N - (Int32.ofNat k).toNatClampNeg
  rw [n_clamp (by omega), n_clamp (by omega)]
  omega
theorem icX0_lays_33_3 {b : Nat} {cs : Nat → ClassId} {ad : Nat → Nat} {vs : Nat → Option Nat} {o : Nat} {K100 : Int32 → Int32 → Int32 → XS → Prop} {Q : XS → Prop} (N k0 : Nat) (hN : N < 2147483648) (h0 : k0 ≤ N) (P : Nat → Prop) (p1 : Nat → Int32) (p2 : Nat → Int32) (p4 : Nat → Int32) (st : Nat → XS) (hP : P k0) (step : ∀ (K33 : Int32 → Int32 → Int32 → Int32 → XS → Prop) (k : Nat), k0 ≤ k → k ≤ N → P k → (k < N → P (k + 1) → K33 (p1 (k + 1)) (p2 (k + 1)) (Int32.ofNat (k + 1)) (p4 (k + 1)) (st (k + 1))) → wbX0_lays_33 b cs ad vs o K33 K100 Q (p1 k) (p2 k) (Int32.ofNat k) (p4 k) (st k)) : ∃ n : Nat, wlX0_lays_33 b cs ad vs o K100 Q n (p1 k0) (p2 k0) (Int32.ofNat k0) (p4 k0) (st k0) := by
  refine ilX0_lays_33 (fun x1 x2 x3 x4 f => ∃ k, k0 ≤ k ∧ k ≤ N ∧ P k ∧ x1 = p1 k ∧ x2 = p2 k ∧ x3 = Int32.ofNat k ∧ x4 = p4 k ∧ f = st k) (fun x1 x2 x3 x4 _ => N - x3.toNatClampNeg) ?_ _ _ _ _ _ ⟨k0, Nat.le_refl _, h0, hP, rfl, rfl, rfl, rfl, rfl⟩
  intro K x1 x2 x3 x4 f hI hK
  obtain ⟨k, h1, h2, h3, rfl, rfl, rfl, rfl, rfl⟩ := hI
  refine step K k h1 h2 h3 (fun h4 h5 => hK _ _ _ _ _ ⟨k + 1, by omega, by omega, h5, rfl, rfl, rfl, rfl, rfl⟩ ?_)
  show N - (Int32.ofNat (k + 1)).toNatClampNeg < N - (Int32.ofNat k).toNatClampNeg
  rw [n_clamp (by omega), n_clamp (by omega)]
  omega
theorem icX0_lays_33_4 {b : Nat} {cs : Nat → ClassId} {ad : Nat → Nat} {vs : Nat → Option Nat} {o : Nat} {K100 : Int32 → Int32 → Int32 → XS → Prop} {Q : XS → Prop} (N k0 : Nat) (hN : N < 2147483648) (h0 : k0 ≤ N) (P : Nat → Prop) (p1 : Nat → Int32) (p2 : Nat → Int32) (p3 : Nat → Int32) (st : Nat → XS) (hP : P k0) (step : ∀ (K33 : Int32 → Int32 → Int32 → Int32 → XS → Prop) (k : Nat), k0 ≤ k → k ≤ N → P k → (k < N → P (k + 1) → K33 (p1 (k + 1)) (p2 (k + 1)) (p3 (k + 1)) (Int32.ofNat (k + 1)) (st (k + 1))) → wbX0_lays_33 b cs ad vs o K33 K100 Q (p1 k) (p2 k) (p3 k) (Int32.ofNat k) (st k)) : ∃ n : Nat, wlX0_lays_33 b cs ad vs o K100 Q n (p1 k0) (p2 k0) (p3 k0) (Int32.ofNat k0) (st k0) := by
  refine ilX0_lays_33 (fun x1 x2 x3 x4 f => ∃ k, k0 ≤ k ∧ k ≤ N ∧ P k ∧ x1 = p1 k ∧ x2 = p2 k ∧ x3 = p3 k ∧ x4 = Int32.ofNat k ∧ f = st k) (fun x1 x2 x3 x4 _ => N - x4.toNatClampNeg) ?_ _ _ _ _ _ ⟨k0, Nat.le_refl _, h0, hP, rfl, rfl, rfl, rfl, rfl⟩
  intro K x1 x2 x3 x4 f hI hK
  obtain ⟨k, h1, h2, h3, rfl, rfl, rfl, rfl, rfl⟩ := hI
  refine step K k h1 h2 h3 (fun h4 h5 => hK _ _ _ _ _ ⟨k + 1, by omega, by omega, h5, rfl, rfl, rfl, rfl, rfl⟩ ?_)
  show N - (Int32.ofNat (k + 1)).toNatClampNeg < N - (Int32.ofNat k).toNatClampNeg
  rw [n_clamp (by omega), n_clamp (by omega)]
  omega
theorem ilX0_lays_22 {b : Nat} {cs : Nat → ClassId} {ad : Nat → Nat} {vs : Nat → Option Nat} {o : Nat} {K106 : Int32 → Int32 → XS → Prop} {Q : XS → Prop} (Inv : Int32 → Int32 → Int32 → XS → Prop) (meas : Int32 → Int32 → Int32 → XS → Nat) (step : ∀ (K22 : Int32 → Int32 → Int32 → XS → Prop) (x1 : Int32) (x2 : Int32) (x3 : Int32) (f : XS), Inv x1 x2 x3 f → (∀ (y1 : Int32) (y2 : Int32) (y3 : Int32) (f' : XS), Inv y1 y2 y3 f' → meas y1 y2 y3 f' < meas x1 x2 x3 f → K22 y1 y2 y3 f') → wbX0_lays_22 b cs ad vs o K22 K106 Q x1 x2 x3 f) (x1 : Int32) (x2 : Int32) (x3 : Int32) (f : XS) (h : Inv x1 x2 x3 f) : ∃ n : Nat, wlX0_lays_22 b cs ad vs o K106 Q n x1 x2 x3 f := by
  have key : ∀ (n : Nat) (x1 : Int32) (x2 : Int32) (x3 : Int32) (f : XS), Inv x1 x2 x3 f → meas x1 x2 x3 f < n → wlX0_lays_22 b cs ad vs o K106 Q n x1 x2 x3 f := by
    intro n
    induction n with
    | zero => intro x1 x2 x3 f hI hm; exact absurd hm (Nat.not_lt_zero _)
    | succ n ih => intro x1 x2 x3 f hI hm; exact step _ x1 x2 x3 f hI (fun y1 y2 y3 f' hI' hlt => ih y1 y2 y3 f' hI' (Nat.lt_of_lt_of_le hlt (Nat.le_of_lt_succ hm)))
  exact ⟨_, key _ x1 x2 x3 f h (Nat.lt_succ_self _)⟩
theorem icX0_lays_22_1 {b : Nat} {cs : Nat → ClassId} {ad : Nat → Nat} {vs : Nat → Option Nat} {o : Nat} {K106 : Int32 → Int32 → XS → Prop} {Q : XS → Prop} (N k0 : Nat) (hN : N < 2147483648) (h0 : k0 ≤ N) (P : Nat → Prop) (p2 : Nat → Int32) (p3 : Nat → Int32) (st : Nat → XS) (hP : P k0) (step : ∀ (K22 : Int32 → Int32 → Int32 → XS → Prop) (k : Nat), k0 ≤ k → k ≤ N → P k → (k < N → P (k + 1) → K22 (Int32.ofNat (k + 1)) (p2 (k + 1)) (p3 (k + 1)) (st (k + 1))) → wbX0_lays_22 b cs ad vs o K22 K106 Q (Int32.ofNat k) (p2 k) (p3 k) (st k)) : ∃ n : Nat, wlX0_lays_22 b cs ad vs o K106 Q n (Int32.ofNat k0) (p2 k0) (p3 k0) (st k0) := by
  refine ilX0_lays_22 (fun x1 x2 x3 f => ∃ k, k0 ≤ k ∧ k ≤ N ∧ P k ∧ x1 = Int32.ofNat k ∧ x2 = p2 k ∧ x3 = p3 k ∧ f = st k) (fun x1 x2 x3 _ => N - x1.toNatClampNeg) ?_ _ _ _ _ ⟨k0, Nat.le_refl _, h0, hP, rfl, rfl, rfl, rfl⟩
  intro K x1 x2 x3 f hI hK
  obtain ⟨k, h1, h2, h3, rfl, rfl, rfl, rfl⟩ := hI
  refine step K k h1 h2 h3 (fun h4 h5 => hK _ _ _ _ ⟨k + 1, by omega, by omega, h5, rfl, rfl, rfl, rfl⟩ ?_)
  show N - (Int32.ofNat (k + 1)).toNatClampNeg < N - (Int32.ofNat k).toNatClampNeg
  rw [n_clamp (by omega), n_clamp (by omega)]
  omega
theorem icX0_lays_22_2 {b : Nat} {cs : Nat → ClassId} {ad : Nat → Nat} {vs : Nat → Option Nat} {o : Nat} {K106 : Int32 → Int32 → XS → Prop} {Q : XS → Prop} (N k0 : Nat) (hN : N < 2147483648) (h0 : k0 ≤ N) (P : Nat → Prop) (p1 : Nat → Int32) (p3 : Nat → Int32) (st : Nat → XS) (hP : P k0) (step : ∀ (K22 : Int32 → Int32 → Int32 → XS → Prop) (k : Nat), k0 ≤ k → k ≤ N → P k → (k < N → P (k + 1) → K22 (p1 (k + 1)) (Int32.ofNat (k + 1)) (p3 (k + 1)) (st (k + 1))) → wbX0_lays_22 b cs ad vs o K22 K106 Q (p1 k) (Int32.ofNat k) (p3 k) (st k)) : ∃ n : Nat, wlX0_lays_22 b cs ad vs o K106 Q n (p1 k0) (Int32.ofNat k0) (p3 k0) (st k0) := by
  refine ilX0_lays_22 (fun x1 x2 x3 f => ∃ k, k0 ≤ k ∧ k ≤ N ∧ P k ∧ x1 = p1 k ∧ x2 = Int32.ofNat k ∧ x3 = p3 k ∧ f = st k) (fun x1 x2 x3 _ => N - x2.toNatClampNeg) ?_ _ _ _ _ ⟨k0, Nat.le_refl _, h0, hP, rfl, rfl, rfl, rfl⟩
  intro K x1 x2 x3 f hI hK
  obtain ⟨k, h1, h2, h3, rfl, rfl, rfl, rfl⟩ := hI
  refine step K k h1 h2 h3 (fun h4 h5 => hK _ _ _ _ ⟨k + 1, by omega, by omega, h5, rfl, rfl, rfl, rfl⟩ ?_)
  show N - (Int32.ofNat (k + 1)).toNatClampNeg < N - (Int32.ofNat k).toNatClampNeg
  rw [n_clamp (by omega), n_clamp (by omega)]
  omega
theorem icX0_lays_22_3 {b : Nat} {cs : Nat → ClassId} {ad : Nat → Nat} {vs : Nat → Option Nat} {o : Nat} {K106 : Int32 → Int32 → XS → Prop} {Q : XS → Prop} (N k0 : Nat) (hN : N < 2147483648) (h0 : k0 ≤ N) (P : Nat → Prop) (p1 : Nat → Int32) (p2 : Nat → Int32) (st : Nat → XS) (hP : P k0) (step : ∀ (K22 : Int32 → Int32 → Int32 → XS → Prop) (k : Nat), k0 ≤ k → k ≤ N → P k → (k < N → P (k + 1) → K22 (p1 (k + 1)) (p2 (k + 1)) (Int32.ofNat (k + 1)) (st (k + 1))) → wbX0_lays_22 b cs ad vs o K22 K106 Q (p1 k) (p2 k) (Int32.ofNat k) (st k)) : ∃ n : Nat, wlX0_lays_22 b cs ad vs o K106 Q n (p1 k0) (p2 k0) (Int32.ofNat k0) (st k0) := by
  refine ilX0_lays_22 (fun x1 x2 x3 f => ∃ k, k0 ≤ k ∧ k ≤ N ∧ P k ∧ x1 = p1 k ∧ x2 = p2 k ∧ x3 = Int32.ofNat k ∧ f = st k) (fun x1 x2 x3 _ => N - x3.toNatClampNeg) ?_ _ _ _ _ ⟨k0, Nat.le_refl _, h0, hP, rfl, rfl, rfl, rfl⟩
  intro K x1 x2 x3 f hI hK
  obtain ⟨k, h1, h2, h3, rfl, rfl, rfl, rfl⟩ := hI
  refine step K k h1 h2 h3 (fun h4 h5 => hK _ _ _ _ ⟨k + 1, by omega, by omega, h5, rfl, rfl, rfl, rfl⟩ ?_)
  show N - (Int32.ofNat (k + 1)).toNatClampNeg < N - (Int32.ofNat k).toNatClampNeg
  rw [n_clamp (by omega), n_clamp (by omega)]
  omega
theorem ilX0_lays_12 {b : Nat} {cs : Nat → ClassId} {ad : Nat → Nat} {vs : Nat → Option Nat} {o : Nat} {K112 : Int32 → XS → Prop} {Q : XS → Prop} (Inv : Int32 → Int32 → XS → Prop) (meas : Int32 → Int32 → XS → Nat) (step : ∀ (K12 : Int32 → Int32 → XS → Prop) (x1 : Int32) (x2 : Int32) (f : XS), Inv x1 x2 f → (∀ (y1 : Int32) (y2 : Int32) (f' : XS), Inv y1 y2 f' → meas y1 y2 f' < meas x1 x2 f → K12 y1 y2 f') → wbX0_lays_12 b cs ad vs o K12 K112 Q x1 x2 f) (x1 : Int32) (x2 : Int32) (f : XS) (h : Inv x1 x2 f) : ∃ n : Nat, wlX0_lays_12 b cs ad vs o K112 Q n x1 x2 f := by
  have key : ∀ (n : Nat) (x1 : Int32) (x2 : Int32) (f : XS), Inv x1 x2 f → meas x1 x2 f < n → wlX0_lays_12 b cs ad vs o K112 Q n x1 x2 f := by
    intro n
    induction n with
    | zero => intro x1 x2 f hI hm; exact absurd hm (Nat.not_lt_zero _)
    | succ n ih => intro x1 x2 f hI hm; exact step _ x1 x2 f hI (fun y1 y2 f' hI' hlt => ih y1 y2 f' hI' (Nat.lt_of_lt_of_le hlt (Nat.le_of_lt_succ hm)))
  exact ⟨_, key _ x1 x2 f h (Nat.lt_succ_self _)⟩
theorem icX0_lays_12_1 {b : Nat} {cs : Nat → ClassId} {ad : Nat → Nat} {vs : Nat → Option Nat} {o : Nat} {K112 : Int32 → XS → Prop} {Q : XS → Prop} (N k0 : Nat) (hN : N < 2147483648) (h0 : k0 ≤ N) (P : Nat → Prop) (p2 : Nat → Int32) (st : Nat → XS) (hP : P k0) (step : ∀ (K12 : Int32 → Int32 → XS → Prop) (k : Nat), k0 ≤ k → k ≤ N → P k → (k < N → P (k + 1) → K12 (Int32.ofNat (k + 1)) (p2 (k + 1)) (st (k + 1))) → wbX0_lays_12 b cs ad vs o K12 K112 Q (Int32.ofNat k) (p2 k) (st k)) : ∃ n : Nat, wlX0_lays_12 b cs ad vs o K112 Q n (Int32.ofNat k0) (p2 k0) (st k0) := by
  refine ilX0_lays_12 (fun x1 x2 f => ∃ k, k0 ≤ k ∧ k ≤ N ∧ P k ∧ x1 = Int32.ofNat k ∧ x2 = p2 k ∧ f = st k) (fun x1 x2 _ => N - x1.toNatClampNeg) ?_ _ _ _ ⟨k0, Nat.le_refl _, h0, hP, rfl, rfl, rfl⟩
  intro K x1 x2 f hI hK
  obtain ⟨k, h1, h2, h3, rfl, rfl, rfl⟩ := hI
  refine step K k h1 h2 h3 (fun h4 h5 => hK _ _ _ ⟨k + 1, by omega, by omega, h5, rfl, rfl, rfl⟩ ?_)
  show N - (Int32.ofNat (k + 1)).toNatClampNeg < N - (Int32.ofNat k).toNatClampNeg
  rw [n_clamp (by omega), n_clamp (by omega)]
  omega
theorem icX0_lays_12_2 {b : Nat} {cs : Nat → ClassId} {ad : Nat → Nat} {vs : Nat → Option Nat} {o : Nat} {K112 : Int32 → XS → Prop} {Q : XS → Prop} (N k0 : Nat) (hN : N < 2147483648) (h0 : k0 ≤ N) (P : Nat → Prop) (p1 : Nat → Int32) (st : Nat → XS) (hP : P k0) (step : ∀ (K12 : Int32 → Int32 → XS → Prop) (k : Nat), k0 ≤ k → k ≤ N → P k → (k < N → P (k + 1) → K12 (p1 (k + 1)) (Int32.ofNat (k + 1)) (st (k + 1))) → wbX0_lays_12 b cs ad vs o K12 K112 Q (p1 k) (Int32.ofNat k) (st k)) : ∃ n : Nat, wlX0_lays_12 b cs ad vs o K112 Q n (p1 k0) (Int32.ofNat k0) (st k0) := by
  refine ilX0_lays_12 (fun x1 x2 f => ∃ k, k0 ≤ k ∧ k ≤ N ∧ P k ∧ x1 = p1 k ∧ x2 = Int32.ofNat k ∧ f = st k) (fun x1 x2 _ => N - x2.toNatClampNeg) ?_ _ _ _ ⟨k0, Nat.le_refl _, h0, hP, rfl, rfl, rfl⟩
  intro K x1 x2 f hI hK
  obtain ⟨k, h1, h2, h3, rfl, rfl, rfl⟩ := hI
  refine step K k h1 h2 h3 (fun h4 h5 => hK _ _ _ ⟨k + 1, by omega, by omega, h5, rfl, rfl, rfl⟩ ?_)
  show N - (Int32.ofNat (k + 1)).toNatClampNeg < N - (Int32.ofNat k).toNatClampNeg
  rw [n_clamp (by omega), n_clamp (by omega)]
  omega
theorem ilX0_lays_2 {b : Nat} {cs : Nat → ClassId} {ad : Nat → Nat} {vs : Nat → Option Nat} {o : Nat}  {Q : XS → Prop} (Inv : Int32 → XS → Prop) (meas : Int32 → XS → Nat) (step : ∀ (K2 : Int32 → XS → Prop) (x1 : Int32) (f : XS), Inv x1 f → (∀ (y1 : Int32) (f' : XS), Inv y1 f' → meas y1 f' < meas x1 f → K2 y1 f') → wbX0_lays_2 b cs ad vs o K2 Q x1 f) (x1 : Int32) (f : XS) (h : Inv x1 f) : ∃ n : Nat, wlX0_lays_2 b cs ad vs o  Q n x1 f := by
  have key : ∀ (n : Nat) (x1 : Int32) (f : XS), Inv x1 f → meas x1 f < n → wlX0_lays_2 b cs ad vs o  Q n x1 f := by
    intro n
    induction n with
    | zero => intro x1 f hI hm; exact absurd hm (Nat.not_lt_zero _)
    | succ n ih => intro x1 f hI hm; exact step _ x1 f hI (fun y1 f' hI' hlt => ih y1 f' hI' (Nat.lt_of_lt_of_le hlt (Nat.le_of_lt_succ hm)))
  exact ⟨_, key _ x1 f h (Nat.lt_succ_self _)⟩
theorem icX0_lays_2_1 {b : Nat} {cs : Nat → ClassId} {ad : Nat → Nat} {vs : Nat → Option Nat} {o : Nat}  {Q : XS → Prop} (N k0 : Nat) (hN : N < 2147483648) (h0 : k0 ≤ N) (P : Nat → Prop)  (st : Nat → XS) (hP : P k0) (step : ∀ (K2 : Int32 → XS → Prop) (k : Nat), k0 ≤ k → k ≤ N → P k → (k < N → P (k + 1) → K2 (Int32.ofNat (k + 1)) (st (k + 1))) → wbX0_lays_2 b cs ad vs o K2 Q (Int32.ofNat k) (st k)) : ∃ n : Nat, wlX0_lays_2 b cs ad vs o  Q n (Int32.ofNat k0) (st k0) := by
  refine ilX0_lays_2 (fun x1 f => ∃ k, k0 ≤ k ∧ k ≤ N ∧ P k ∧ x1 = Int32.ofNat k ∧ f = st k) (fun x1 _ => N - x1.toNatClampNeg) ?_ _ _ ⟨k0, Nat.le_refl _, h0, hP, rfl, rfl⟩
  intro K x1 f hI hK
  obtain ⟨k, h1, h2, h3, rfl, rfl⟩ := hI
  refine step K k h1 h2 h3 (fun h4 h5 => hK _ _ ⟨k + 1, by omega, by omega, h5, rfl, rfl⟩ ?_)
  show N - (Int32.ofNat (k + 1)).toNatClampNeg < N - (Int32.ofNat k).toNatClampNeg
  rw [n_clamp (by omega), n_clamp (by omega)]
  omega
theorem ilX0_least_9 {b : Nat} {cs : Nat → ClassId} {ad : Nat → Nat} {vs : Nat → Option Nat} {o : Nat} {K50 : Int32 → Int32 → XS → Prop} {Q : Int32 → XS → Prop} (Inv : Int32 → Int32 → Int32 → XS → Prop) (meas : Int32 → Int32 → Int32 → XS → Nat) (step : ∀ (K9 : Int32 → Int32 → Int32 → XS → Prop) (x1 : Int32) (x2 : Int32) (x3 : Int32) (f : XS), Inv x1 x2 x3 f → (∀ (y1 : Int32) (y2 : Int32) (y3 : Int32) (f' : XS), Inv y1 y2 y3 f' → meas y1 y2 y3 f' < meas x1 x2 x3 f → K9 y1 y2 y3 f') → wbX0_least_9 b cs ad vs o K9 K50 Q x1 x2 x3 f) (x1 : Int32) (x2 : Int32) (x3 : Int32) (f : XS) (h : Inv x1 x2 x3 f) : ∃ n : Nat, wlX0_least_9 b cs ad vs o K50 Q n x1 x2 x3 f := by
  have key : ∀ (n : Nat) (x1 : Int32) (x2 : Int32) (x3 : Int32) (f : XS), Inv x1 x2 x3 f → meas x1 x2 x3 f < n → wlX0_least_9 b cs ad vs o K50 Q n x1 x2 x3 f := by
    intro n
    induction n with
    | zero => intro x1 x2 x3 f hI hm; exact absurd hm (Nat.not_lt_zero _)
    | succ n ih => intro x1 x2 x3 f hI hm; exact step _ x1 x2 x3 f hI (fun y1 y2 y3 f' hI' hlt => ih y1 y2 y3 f' hI' (Nat.lt_of_lt_of_le hlt (Nat.le_of_lt_succ hm)))
  exact ⟨_, key _ x1 x2 x3 f h (Nat.lt_succ_self _)⟩
theorem icX0_least_9_1 {b : Nat} {cs : Nat → ClassId} {ad : Nat → Nat} {vs : Nat → Option Nat} {o : Nat} {K50 : Int32 → Int32 → XS → Prop} {Q : Int32 → XS → Prop} (N k0 : Nat) (hN : N < 2147483648) (h0 : k0 ≤ N) (P : Nat → Prop) (p2 : Nat → Int32) (p3 : Nat → Int32) (st : Nat → XS) (hP : P k0) (step : ∀ (K9 : Int32 → Int32 → Int32 → XS → Prop) (k : Nat), k0 ≤ k → k ≤ N → P k → (k < N → P (k + 1) → K9 (Int32.ofNat (k + 1)) (p2 (k + 1)) (p3 (k + 1)) (st (k + 1))) → wbX0_least_9 b cs ad vs o K9 K50 Q (Int32.ofNat k) (p2 k) (p3 k) (st k)) : ∃ n : Nat, wlX0_least_9 b cs ad vs o K50 Q n (Int32.ofNat k0) (p2 k0) (p3 k0) (st k0) := by
  refine ilX0_least_9 (fun x1 x2 x3 f => ∃ k, k0 ≤ k ∧ k ≤ N ∧ P k ∧ x1 = Int32.ofNat k ∧ x2 = p2 k ∧ x3 = p3 k ∧ f = st k) (fun x1 x2 x3 _ => N - x1.toNatClampNeg) ?_ _ _ _ _ ⟨k0, Nat.le_refl _, h0, hP, rfl, rfl, rfl, rfl⟩
  intro K x1 x2 x3 f hI hK
  obtain ⟨k, h1, h2, h3, rfl, rfl, rfl, rfl⟩ := hI
  refine step K k h1 h2 h3 (fun h4 h5 => hK _ _ _ _ ⟨k + 1, by omega, by omega, h5, rfl, rfl, rfl, rfl⟩ ?_)
  show N - (Int32.ofNat (k + 1)).toNatClampNeg < N - (Int32.ofNat k).toNatClampNeg
  rw [n_clamp (by omega), n_clamp (by omega)]
  omega
theorem icX0_least_9_2 {b : Nat} {cs : Nat → ClassId} {ad : Nat → Nat} {vs : Nat → Option Nat} {o : Nat} {K50 : Int32 → Int32 → XS → Prop} {Q : Int32 → XS → Prop} (N k0 : Nat) (hN : N < 2147483648) (h0 : k0 ≤ N) (P : Nat → Prop) (p1 : Nat → Int32) (p3 : Nat → Int32) (st : Nat → XS) (hP : P k0) (step : ∀ (K9 : Int32 → Int32 → Int32 → XS → Prop) (k : Nat), k0 ≤ k → k ≤ N → P k → (k < N → P (k + 1) → K9 (p1 (k + 1)) (Int32.ofNat (k + 1)) (p3 (k + 1)) (st (k + 1))) → wbX0_least_9 b cs ad vs o K9 K50 Q (p1 k) (Int32.ofNat k) (p3 k) (st k)) : ∃ n : Nat, wlX0_least_9 b cs ad vs o K50 Q n (p1 k0) (Int32.ofNat k0) (p3 k0) (st k0) := by
  refine ilX0_least_9 (fun x1 x2 x3 f => ∃ k, k0 ≤ k ∧ k ≤ N ∧ P k ∧ x1 = p1 k ∧ x2 = Int32.ofNat k ∧ x3 = p3 k ∧ f = st k) (fun x1 x2 x3 _ => N - x2.toNatClampNeg) ?_ _ _ _ _ ⟨k0, Nat.le_refl _, h0, hP, rfl, rfl, rfl, rfl⟩
  intro K x1 x2 x3 f hI hK
  obtain ⟨k, h1, h2, h3, rfl, rfl, rfl, rfl⟩ := hI
  refine step K k h1 h2 h3 (fun h4 h5 => hK _ _ _ _ ⟨k + 1, by omega, by omega, h5, rfl, rfl, rfl, rfl⟩ ?_)
  show N - (Int32.ofNat (k + 1)).toNatClampNeg < N - (Int32.ofNat k).toNatClampNeg
  rw [n_clamp (by omega), n_clamp (by omega)]
  omega
theorem icX0_least_9_3 {b : Nat} {cs : Nat → ClassId} {ad : Nat → Nat} {vs : Nat → Option Nat} {o : Nat} {K50 : Int32 → Int32 → XS → Prop} {Q : Int32 → XS → Prop} (N k0 : Nat) (hN : N < 2147483648) (h0 : k0 ≤ N) (P : Nat → Prop) (p1 : Nat → Int32) (p2 : Nat → Int32) (st : Nat → XS) (hP : P k0) (step : ∀ (K9 : Int32 → Int32 → Int32 → XS → Prop) (k : Nat), k0 ≤ k → k ≤ N → P k → (k < N → P (k + 1) → K9 (p1 (k + 1)) (p2 (k + 1)) (Int32.ofNat (k + 1)) (st (k + 1))) → wbX0_least_9 b cs ad vs o K9 K50 Q (p1 k) (p2 k) (Int32.ofNat k) (st k)) : ∃ n : Nat, wlX0_least_9 b cs ad vs o K50 Q n (p1 k0) (p2 k0) (Int32.ofNat k0) (st k0) := by
  refine ilX0_least_9 (fun x1 x2 x3 f => ∃ k, k0 ≤ k ∧ k ≤ N ∧ P k ∧ x1 = p1 k ∧ x2 = p2 k ∧ x3 = Int32.ofNat k ∧ f = st k) (fun x1 x2 x3 _ => N - x3.toNatClampNeg) ?_ _ _ _ _ ⟨k0, Nat.le_refl _, h0, hP, rfl, rfl, rfl, rfl⟩
  intro K x1 x2 x3 f hI hK
  obtain ⟨k, h1, h2, h3, rfl, rfl, rfl, rfl⟩ := hI
  refine step K k h1 h2 h3 (fun h4 h5 => hK _ _ _ _ ⟨k + 1, by omega, by omega, h5, rfl, rfl, rfl, rfl⟩ ?_)
  show N - (Int32.ofNat (k + 1)).toNatClampNeg < N - (Int32.ofNat k).toNatClampNeg
  rw [n_clamp (by omega), n_clamp (by omega)]
  omega
theorem ilX0_knot_4 {b : Nat} {cs : Nat → ClassId} {ad : Nat → Nat} {vs : Nat → Option Nat} {o : Nat}  {Q : Int32 → XS → Prop} (Inv : Int32 → Int32 → XS → Prop) (meas : Int32 → Int32 → XS → Nat) (step : ∀ (K4 : Int32 → Int32 → XS → Prop) (x1 : Int32) (x2 : Int32) (f : XS), Inv x1 x2 f → (∀ (y1 : Int32) (y2 : Int32) (f' : XS), Inv y1 y2 f' → meas y1 y2 f' < meas x1 x2 f → K4 y1 y2 f') → wbX0_knot_4 b cs ad vs o K4 Q x1 x2 f) (x1 : Int32) (x2 : Int32) (f : XS) (h : Inv x1 x2 f) : ∃ n : Nat, wlX0_knot_4 b cs ad vs o  Q n x1 x2 f := by
  have key : ∀ (n : Nat) (x1 : Int32) (x2 : Int32) (f : XS), Inv x1 x2 f → meas x1 x2 f < n → wlX0_knot_4 b cs ad vs o  Q n x1 x2 f := by
    intro n
    induction n with
    | zero => intro x1 x2 f hI hm; exact absurd hm (Nat.not_lt_zero _)
    | succ n ih => intro x1 x2 f hI hm; exact step _ x1 x2 f hI (fun y1 y2 f' hI' hlt => ih y1 y2 f' hI' (Nat.lt_of_lt_of_le hlt (Nat.le_of_lt_succ hm)))
  exact ⟨_, key _ x1 x2 f h (Nat.lt_succ_self _)⟩
theorem icX0_knot_4_1 {b : Nat} {cs : Nat → ClassId} {ad : Nat → Nat} {vs : Nat → Option Nat} {o : Nat}  {Q : Int32 → XS → Prop} (N k0 : Nat) (hN : N < 2147483648) (h0 : k0 ≤ N) (P : Nat → Prop) (p2 : Nat → Int32) (st : Nat → XS) (hP : P k0) (step : ∀ (K4 : Int32 → Int32 → XS → Prop) (k : Nat), k0 ≤ k → k ≤ N → P k → (k < N → P (k + 1) → K4 (Int32.ofNat (k + 1)) (p2 (k + 1)) (st (k + 1))) → wbX0_knot_4 b cs ad vs o K4 Q (Int32.ofNat k) (p2 k) (st k)) : ∃ n : Nat, wlX0_knot_4 b cs ad vs o  Q n (Int32.ofNat k0) (p2 k0) (st k0) := by
  refine ilX0_knot_4 (fun x1 x2 f => ∃ k, k0 ≤ k ∧ k ≤ N ∧ P k ∧ x1 = Int32.ofNat k ∧ x2 = p2 k ∧ f = st k) (fun x1 x2 _ => N - x1.toNatClampNeg) ?_ _ _ _ ⟨k0, Nat.le_refl _, h0, hP, rfl, rfl, rfl⟩
  intro K x1 x2 f hI hK
  obtain ⟨k, h1, h2, h3, rfl, rfl, rfl⟩ := hI
  refine step K k h1 h2 h3 (fun h4 h5 => hK _ _ _ ⟨k + 1, by omega, by omega, h5, rfl, rfl, rfl⟩ ?_)
  show N - (Int32.ofNat (k + 1)).toNatClampNeg < N - (Int32.ofNat k).toNatClampNeg
  rw [n_clamp (by omega), n_clamp (by omega)]
  omega
theorem icX0_knot_4_2 {b : Nat} {cs : Nat → ClassId} {ad : Nat → Nat} {vs : Nat → Option Nat} {o : Nat}  {Q : Int32 → XS → Prop} (N k0 : Nat) (hN : N < 2147483648) (h0 : k0 ≤ N) (P : Nat → Prop) (p1 : Nat → Int32) (st : Nat → XS) (hP : P k0) (step : ∀ (K4 : Int32 → Int32 → XS → Prop) (k : Nat), k0 ≤ k → k ≤ N → P k → (k < N → P (k + 1) → K4 (p1 (k + 1)) (Int32.ofNat (k + 1)) (st (k + 1))) → wbX0_knot_4 b cs ad vs o K4 Q (p1 k) (Int32.ofNat k) (st k)) : ∃ n : Nat, wlX0_knot_4 b cs ad vs o  Q n (p1 k0) (Int32.ofNat k0) (st k0) := by
  refine ilX0_knot_4 (fun x1 x2 f => ∃ k, k0 ≤ k ∧ k ≤ N ∧ P k ∧ x1 = p1 k ∧ x2 = Int32.ofNat k ∧ f = st k) (fun x1 x2 _ => N - x2.toNatClampNeg) ?_ _ _ _ ⟨k0, Nat.le_refl _, h0, hP, rfl, rfl, rfl⟩
  intro K x1 x2 f hI hK
  obtain ⟨k, h1, h2, h3, rfl, rfl, rfl⟩ := hI
  refine step K k h1 h2 h3 (fun h4 h5 => hK _ _ _ ⟨k + 1, by omega, by omega, h5, rfl, rfl, rfl⟩ ?_)
  show N - (Int32.ofNat (k + 1)).toNatClampNeg < N - (Int32.ofNat k).toNatClampNeg
  rw [n_clamp (by omega), n_clamp (by omega)]
  omega
theorem ilX0_room_74 {b : Nat} {cs : Nat → ClassId} {ad : Nat → Nat} {vs : Nat → Option Nat} {o : Nat} {K111 : Int32 → Int32 → Int32 → Int32 → XS → Prop} {Q : Int32 → XS → Prop} (Inv : Int32 → Int32 → Int32 → Int32 → Int32 → XS → Prop) (meas : Int32 → Int32 → Int32 → Int32 → Int32 → XS → Nat) (step : ∀ (K74 : Int32 → Int32 → Int32 → Int32 → Int32 → XS → Prop) (x2 : Int32) (x4 : Int32) (x5 : Int32) (x6 : Int32) (x7 : Int32) (f : XS), Inv x2 x4 x5 x6 x7 f → (∀ (y2 : Int32) (y4 : Int32) (y5 : Int32) (y6 : Int32) (y7 : Int32) (f' : XS), Inv y2 y4 y5 y6 y7 f' → meas y2 y4 y5 y6 y7 f' < meas x2 x4 x5 x6 x7 f → K74 y2 y4 y5 y6 y7 f') → wbX0_room_74 b cs ad vs o K74 K111 Q x2 x4 x5 x6 x7 f) (x2 : Int32) (x4 : Int32) (x5 : Int32) (x6 : Int32) (x7 : Int32) (f : XS) (h : Inv x2 x4 x5 x6 x7 f) : ∃ n : Nat, wlX0_room_74 b cs ad vs o K111 Q n x2 x4 x5 x6 x7 f := by
  have key : ∀ (n : Nat) (x2 : Int32) (x4 : Int32) (x5 : Int32) (x6 : Int32) (x7 : Int32) (f : XS), Inv x2 x4 x5 x6 x7 f → meas x2 x4 x5 x6 x7 f < n → wlX0_room_74 b cs ad vs o K111 Q n x2 x4 x5 x6 x7 f := by
    intro n
    induction n with
    | zero => intro x2 x4 x5 x6 x7 f hI hm; exact absurd hm (Nat.not_lt_zero _)
    | succ n ih => intro x2 x4 x5 x6 x7 f hI hm; exact step _ x2 x4 x5 x6 x7 f hI (fun y2 y4 y5 y6 y7 f' hI' hlt => ih y2 y4 y5 y6 y7 f' hI' (Nat.lt_of_lt_of_le hlt (Nat.le_of_lt_succ hm)))
  exact ⟨_, key _ x2 x4 x5 x6 x7 f h (Nat.lt_succ_self _)⟩
theorem icX0_room_74_2 {b : Nat} {cs : Nat → ClassId} {ad : Nat → Nat} {vs : Nat → Option Nat} {o : Nat} {K111 : Int32 → Int32 → Int32 → Int32 → XS → Prop} {Q : Int32 → XS → Prop} (N k0 : Nat) (hN : N < 2147483648) (h0 : k0 ≤ N) (P : Nat → Prop) (p4 : Nat → Int32) (p5 : Nat → Int32) (p6 : Nat → Int32) (p7 : Nat → Int32) (st : Nat → XS) (hP : P k0) (step : ∀ (K74 : Int32 → Int32 → Int32 → Int32 → Int32 → XS → Prop) (k : Nat), k0 ≤ k → k ≤ N → P k → (k < N → P (k + 1) → K74 (Int32.ofNat (k + 1)) (p4 (k + 1)) (p5 (k + 1)) (p6 (k + 1)) (p7 (k + 1)) (st (k + 1))) → wbX0_room_74 b cs ad vs o K74 K111 Q (Int32.ofNat k) (p4 k) (p5 k) (p6 k) (p7 k) (st k)) : ∃ n : Nat, wlX0_room_74 b cs ad vs o K111 Q n (Int32.ofNat k0) (p4 k0) (p5 k0) (p6 k0) (p7 k0) (st k0) := by
  refine ilX0_room_74 (fun x2 x4 x5 x6 x7 f => ∃ k, k0 ≤ k ∧ k ≤ N ∧ P k ∧ x2 = Int32.ofNat k ∧ x4 = p4 k ∧ x5 = p5 k ∧ x6 = p6 k ∧ x7 = p7 k ∧ f = st k) (fun x2 x4 x5 x6 x7 _ => N - x2.toNatClampNeg) ?_ _ _ _ _ _ _ ⟨k0, Nat.le_refl _, h0, hP, rfl, rfl, rfl, rfl, rfl, rfl⟩
  intro K x2 x4 x5 x6 x7 f hI hK
  obtain ⟨k, h1, h2, h3, rfl, rfl, rfl, rfl, rfl, rfl⟩ := hI
  refine step K k h1 h2 h3 (fun h4 h5 => hK _ _ _ _ _ _ ⟨k + 1, by omega, by omega, h5, rfl, rfl, rfl, rfl, rfl, rfl⟩ ?_)
  show N - (Int32.ofNat (k + 1)).toNatClampNeg < N - (Int32.ofNat k).toNatClampNeg
  rw [n_clamp (by omega), n_clamp (by omega)]
  omega
theorem icX0_room_74_4 {b : Nat} {cs : Nat → ClassId} {ad : Nat → Nat} {vs : Nat → Option Nat} {o : Nat} {K111 : Int32 → Int32 → Int32 → Int32 → XS → Prop} {Q : Int32 → XS → Prop} (N k0 : Nat) (hN : N < 2147483648) (h0 : k0 ≤ N) (P : Nat → Prop) (p2 : Nat → Int32) (p5 : Nat → Int32) (p6 : Nat → Int32) (p7 : Nat → Int32) (st : Nat → XS) (hP : P k0) (step : ∀ (K74 : Int32 → Int32 → Int32 → Int32 → Int32 → XS → Prop) (k : Nat), k0 ≤ k → k ≤ N → P k → (k < N → P (k + 1) → K74 (p2 (k + 1)) (Int32.ofNat (k + 1)) (p5 (k + 1)) (p6 (k + 1)) (p7 (k + 1)) (st (k + 1))) → wbX0_room_74 b cs ad vs o K74 K111 Q (p2 k) (Int32.ofNat k) (p5 k) (p6 k) (p7 k) (st k)) : ∃ n : Nat, wlX0_room_74 b cs ad vs o K111 Q n (p2 k0) (Int32.ofNat k0) (p5 k0) (p6 k0) (p7 k0) (st k0) := by
  refine ilX0_room_74 (fun x2 x4 x5 x6 x7 f => ∃ k, k0 ≤ k ∧ k ≤ N ∧ P k ∧ x2 = p2 k ∧ x4 = Int32.ofNat k ∧ x5 = p5 k ∧ x6 = p6 k ∧ x7 = p7 k ∧ f = st k) (fun x2 x4 x5 x6 x7 _ => N - x4.toNatClampNeg) ?_ _ _ _ _ _ _ ⟨k0, Nat.le_refl _, h0, hP, rfl, rfl, rfl, rfl, rfl, rfl⟩
  intro K x2 x4 x5 x6 x7 f hI hK
  obtain ⟨k, h1, h2, h3, rfl, rfl, rfl, rfl, rfl, rfl⟩ := hI
  refine step K k h1 h2 h3 (fun h4 h5 => hK _ _ _ _ _ _ ⟨k + 1, by omega, by omega, h5, rfl, rfl, rfl, rfl, rfl, rfl⟩ ?_)
  show N - (Int32.ofNat (k + 1)).toNatClampNeg < N - (Int32.ofNat k).toNatClampNeg
  rw [n_clamp (by omega), n_clamp (by omega)]
  omega
theorem icX0_room_74_5 {b : Nat} {cs : Nat → ClassId} {ad : Nat → Nat} {vs : Nat → Option Nat} {o : Nat} {K111 : Int32 → Int32 → Int32 → Int32 → XS → Prop} {Q : Int32 → XS → Prop} (N k0 : Nat) (hN : N < 2147483648) (h0 : k0 ≤ N) (P : Nat → Prop) (p2 : Nat → Int32) (p4 : Nat → Int32) (p6 : Nat → Int32) (p7 : Nat → Int32) (st : Nat → XS) (hP : P k0) (step : ∀ (K74 : Int32 → Int32 → Int32 → Int32 → Int32 → XS → Prop) (k : Nat), k0 ≤ k → k ≤ N → P k → (k < N → P (k + 1) → K74 (p2 (k + 1)) (p4 (k + 1)) (Int32.ofNat (k + 1)) (p6 (k + 1)) (p7 (k + 1)) (st (k + 1))) → wbX0_room_74 b cs ad vs o K74 K111 Q (p2 k) (p4 k) (Int32.ofNat k) (p6 k) (p7 k) (st k)) : ∃ n : Nat, wlX0_room_74 b cs ad vs o K111 Q n (p2 k0) (p4 k0) (Int32.ofNat k0) (p6 k0) (p7 k0) (st k0) := by
  refine ilX0_room_74 (fun x2 x4 x5 x6 x7 f => ∃ k, k0 ≤ k ∧ k ≤ N ∧ P k ∧ x2 = p2 k ∧ x4 = p4 k ∧ x5 = Int32.ofNat k ∧ x6 = p6 k ∧ x7 = p7 k ∧ f = st k) (fun x2 x4 x5 x6 x7 _ => N - x5.toNatClampNeg) ?_ _ _ _ _ _ _ ⟨k0, Nat.le_refl _, h0, hP, rfl, rfl, rfl, rfl, rfl, rfl⟩
  intro K x2 x4 x5 x6 x7 f hI hK
  obtain ⟨k, h1, h2, h3, rfl, rfl, rfl, rfl, rfl, rfl⟩ := hI
  refine step K k h1 h2 h3 (fun h4 h5 => hK _ _ _ _ _ _ ⟨k + 1, by omega, by omega, h5, rfl, rfl, rfl, rfl, rfl, rfl⟩ ?_)
  show N - (Int32.ofNat (k + 1)).toNatClampNeg < N - (Int32.ofNat k).toNatClampNeg
  rw [n_clamp (by omega), n_clamp (by omega)]
  omega
theorem icX0_room_74_6 {b : Nat} {cs : Nat → ClassId} {ad : Nat → Nat} {vs : Nat → Option Nat} {o : Nat} {K111 : Int32 → Int32 → Int32 → Int32 → XS → Prop} {Q : Int32 → XS → Prop} (N k0 : Nat) (hN : N < 2147483648) (h0 : k0 ≤ N) (P : Nat → Prop) (p2 : Nat → Int32) (p4 : Nat → Int32) (p5 : Nat → Int32) (p7 : Nat → Int32) (st : Nat → XS) (hP : P k0) (step : ∀ (K74 : Int32 → Int32 → Int32 → Int32 → Int32 → XS → Prop) (k : Nat), k0 ≤ k → k ≤ N → P k → (k < N → P (k + 1) → K74 (p2 (k + 1)) (p4 (k + 1)) (p5 (k + 1)) (Int32.ofNat (k + 1)) (p7 (k + 1)) (st (k + 1))) → wbX0_room_74 b cs ad vs o K74 K111 Q (p2 k) (p4 k) (p5 k) (Int32.ofNat k) (p7 k) (st k)) : ∃ n : Nat, wlX0_room_74 b cs ad vs o K111 Q n (p2 k0) (p4 k0) (p5 k0) (Int32.ofNat k0) (p7 k0) (st k0) := by
  refine ilX0_room_74 (fun x2 x4 x5 x6 x7 f => ∃ k, k0 ≤ k ∧ k ≤ N ∧ P k ∧ x2 = p2 k ∧ x4 = p4 k ∧ x5 = p5 k ∧ x6 = Int32.ofNat k ∧ x7 = p7 k ∧ f = st k) (fun x2 x4 x5 x6 x7 _ => N - x6.toNatClampNeg) ?_ _ _ _ _ _ _ ⟨k0, Nat.le_refl _, h0, hP, rfl, rfl, rfl, rfl, rfl, rfl⟩
  intro K x2 x4 x5 x6 x7 f hI hK
  obtain ⟨k, h1, h2, h3, rfl, rfl, rfl, rfl, rfl, rfl⟩ := hI
  refine step K k h1 h2 h3 (fun h4 h5 => hK _ _ _ _ _ _ ⟨k + 1, by omega, by omega, h5, rfl, rfl, rfl, rfl, rfl, rfl⟩ ?_)
  show N - (Int32.ofNat (k + 1)).toNatClampNeg < N - (Int32.ofNat k).toNatClampNeg
  rw [n_clamp (by omega), n_clamp (by omega)]
  omega
theorem icX0_room_74_7 {b : Nat} {cs : Nat → ClassId} {ad : Nat → Nat} {vs : Nat → Option Nat} {o : Nat} {K111 : Int32 → Int32 → Int32 → Int32 → XS → Prop} {Q : Int32 → XS → Prop} (N k0 : Nat) (hN : N < 2147483648) (h0 : k0 ≤ N) (P : Nat → Prop) (p2 : Nat → Int32) (p4 : Nat → Int32) (p5 : Nat → Int32) (p6 : Nat → Int32) (st : Nat → XS) (hP : P k0) (step : ∀ (K74 : Int32 → Int32 → Int32 → Int32 → Int32 → XS → Prop) (k : Nat), k0 ≤ k → k ≤ N → P k → (k < N → P (k + 1) → K74 (p2 (k + 1)) (p4 (k + 1)) (p5 (k + 1)) (p6 (k + 1)) (Int32.ofNat (k + 1)) (st (k + 1))) → wbX0_room_74 b cs ad vs o K74 K111 Q (p2 k) (p4 k) (p5 k) (p6 k) (Int32.ofNat k) (st k)) : ∃ n : Nat, wlX0_room_74 b cs ad vs o K111 Q n (p2 k0) (p4 k0) (p5 k0) (p6 k0) (Int32.ofNat k0) (st k0) := by
  refine ilX0_room_74 (fun x2 x4 x5 x6 x7 f => ∃ k, k0 ≤ k ∧ k ≤ N ∧ P k ∧ x2 = p2 k ∧ x4 = p4 k ∧ x5 = p5 k ∧ x6 = p6 k ∧ x7 = Int32.ofNat k ∧ f = st k) (fun x2 x4 x5 x6 x7 _ => N - x7.toNatClampNeg) ?_ _ _ _ _ _ _ ⟨k0, Nat.le_refl _, h0, hP, rfl, rfl, rfl, rfl, rfl, rfl⟩
  intro K x2 x4 x5 x6 x7 f hI hK
  obtain ⟨k, h1, h2, h3, rfl, rfl, rfl, rfl, rfl, rfl⟩ := hI
  refine step K k h1 h2 h3 (fun h4 h5 => hK _ _ _ _ _ _ ⟨k + 1, by omega, by omega, h5, rfl, rfl, rfl, rfl, rfl, rfl⟩ ?_)
  show N - (Int32.ofNat (k + 1)).toNatClampNeg < N - (Int32.ofNat k).toNatClampNeg
  rw [n_clamp (by omega), n_clamp (by omega)]
  omega
theorem ilX0_room_49 {b : Nat} {cs : Nat → ClassId} {ad : Nat → Nat} {vs : Nat → Option Nat} {o : Nat}  {Q : Int32 → XS → Prop} (Inv : Int32 → Int32 → Int32 → XS → Prop) (meas : Int32 → Int32 → Int32 → XS → Nat) (step : ∀ (K49 : Int32 → Int32 → Int32 → XS → Prop) (x2 : Int32) (x4 : Int32) (x5 : Int32) (f : XS), Inv x2 x4 x5 f → (∀ (y2 : Int32) (y4 : Int32) (y5 : Int32) (f' : XS), Inv y2 y4 y5 f' → meas y2 y4 y5 f' < meas x2 x4 x5 f → K49 y2 y4 y5 f') → wbX0_room_49 b cs ad vs o K49 Q x2 x4 x5 f) (x2 : Int32) (x4 : Int32) (x5 : Int32) (f : XS) (h : Inv x2 x4 x5 f) : ∃ n : Nat, wlX0_room_49 b cs ad vs o  Q n x2 x4 x5 f := by
  have key : ∀ (n : Nat) (x2 : Int32) (x4 : Int32) (x5 : Int32) (f : XS), Inv x2 x4 x5 f → meas x2 x4 x5 f < n → wlX0_room_49 b cs ad vs o  Q n x2 x4 x5 f := by
    intro n
    induction n with
    | zero => intro x2 x4 x5 f hI hm; exact absurd hm (Nat.not_lt_zero _)
    | succ n ih => intro x2 x4 x5 f hI hm; exact step _ x2 x4 x5 f hI (fun y2 y4 y5 f' hI' hlt => ih y2 y4 y5 f' hI' (Nat.lt_of_lt_of_le hlt (Nat.le_of_lt_succ hm)))
  exact ⟨_, key _ x2 x4 x5 f h (Nat.lt_succ_self _)⟩
theorem icX0_room_49_2 {b : Nat} {cs : Nat → ClassId} {ad : Nat → Nat} {vs : Nat → Option Nat} {o : Nat}  {Q : Int32 → XS → Prop} (N k0 : Nat) (hN : N < 2147483648) (h0 : k0 ≤ N) (P : Nat → Prop) (p4 : Nat → Int32) (p5 : Nat → Int32) (st : Nat → XS) (hP : P k0) (step : ∀ (K49 : Int32 → Int32 → Int32 → XS → Prop) (k : Nat), k0 ≤ k → k ≤ N → P k → (k < N → P (k + 1) → K49 (Int32.ofNat (k + 1)) (p4 (k + 1)) (p5 (k + 1)) (st (k + 1))) → wbX0_room_49 b cs ad vs o K49 Q (Int32.ofNat k) (p4 k) (p5 k) (st k)) : ∃ n : Nat, wlX0_room_49 b cs ad vs o  Q n (Int32.ofNat k0) (p4 k0) (p5 k0) (st k0) := by
  refine ilX0_room_49 (fun x2 x4 x5 f => ∃ k, k0 ≤ k ∧ k ≤ N ∧ P k ∧ x2 = Int32.ofNat k ∧ x4 = p4 k ∧ x5 = p5 k ∧ f = st k) (fun x2 x4 x5 _ => N - x2.toNatClampNeg) ?_ _ _ _ _ ⟨k0, Nat.le_refl _, h0, hP, rfl, rfl, rfl, rfl⟩
  intro K x2 x4 x5 f hI hK
  obtain ⟨k, h1, h2, h3, rfl, rfl, rfl, rfl⟩ := hI
  refine step K k h1 h2 h3 (fun h4 h5 => hK _ _ _ _ ⟨k + 1, by omega, by omega, h5, rfl, rfl, rfl, rfl⟩ ?_)
  show N - (Int32.ofNat (k + 1)).toNatClampNeg < N - (Int32.ofNat k).toNatClampNeg
  rw [n_clamp (by omega), n_clamp (by omega)]
  omega
theorem icX0_room_49_4 {b : Nat} {cs : Nat → ClassId} {ad : Nat → Nat} {vs : Nat → Option Nat} {o : Nat}  {Q : Int32 → XS → Prop} (N k0 : Nat) (hN : N < 2147483648) (h0 : k0 ≤ N) (P : Nat → Prop) (p2 : Nat → Int32) (p5 : Nat → Int32) (st : Nat → XS) (hP : P k0) (step : ∀ (K49 : Int32 → Int32 → Int32 → XS → Prop) (k : Nat), k0 ≤ k → k ≤ N → P k → (k < N → P (k + 1) → K49 (p2 (k + 1)) (Int32.ofNat (k + 1)) (p5 (k + 1)) (st (k + 1))) → wbX0_room_49 b cs ad vs o K49 Q (p2 k) (Int32.ofNat k) (p5 k) (st k)) : ∃ n : Nat, wlX0_room_49 b cs ad vs o  Q n (p2 k0) (Int32.ofNat k0) (p5 k0) (st k0) := by
  refine ilX0_room_49 (fun x2 x4 x5 f => ∃ k, k0 ≤ k ∧ k ≤ N ∧ P k ∧ x2 = p2 k ∧ x4 = Int32.ofNat k ∧ x5 = p5 k ∧ f = st k) (fun x2 x4 x5 _ => N - x4.toNatClampNeg) ?_ _ _ _ _ ⟨k0, Nat.le_refl _, h0, hP, rfl, rfl, rfl, rfl⟩
  intro K x2 x4 x5 f hI hK
  obtain ⟨k, h1, h2, h3, rfl, rfl, rfl, rfl⟩ := hI
  refine step K k h1 h2 h3 (fun h4 h5 => hK _ _ _ _ ⟨k + 1, by omega, by omega, h5, rfl, rfl, rfl, rfl⟩ ?_)
  show N - (Int32.ofNat (k + 1)).toNatClampNeg < N - (Int32.ofNat k).toNatClampNeg
  rw [n_clamp (by omega), n_clamp (by omega)]
  omega
theorem icX0_room_49_5 {b : Nat} {cs : Nat → ClassId} {ad : Nat → Nat} {vs : Nat → Option Nat} {o : Nat}  {Q : Int32 → XS → Prop} (N k0 : Nat) (hN : N < 2147483648) (h0 : k0 ≤ N) (P : Nat → Prop) (p2 : Nat → Int32) (p4 : Nat → Int32) (st : Nat → XS) (hP : P k0) (step : ∀ (K49 : Int32 → Int32 → Int32 → XS → Prop) (k : Nat), k0 ≤ k → k ≤ N → P k → (k < N → P (k + 1) → K49 (p2 (k + 1)) (p4 (k + 1)) (Int32.ofNat (k + 1)) (st (k + 1))) → wbX0_room_49 b cs ad vs o K49 Q (p2 k) (p4 k) (Int32.ofNat k) (st k)) : ∃ n : Nat, wlX0_room_49 b cs ad vs o  Q n (p2 k0) (p4 k0) (Int32.ofNat k0) (st k0) := by
  refine ilX0_room_49 (fun x2 x4 x5 f => ∃ k, k0 ≤ k ∧ k ≤ N ∧ P k ∧ x2 = p2 k ∧ x4 = p4 k ∧ x5 = Int32.ofNat k ∧ f = st k) (fun x2 x4 x5 _ => N - x5.toNatClampNeg) ?_ _ _ _ _ ⟨k0, Nat.le_refl _, h0, hP, rfl, rfl, rfl, rfl⟩
  intro K x2 x4 x5 f hI hK
  obtain ⟨k, h1, h2, h3, rfl, rfl, rfl, rfl⟩ := hI
  refine step K k h1 h2 h3 (fun h4 h5 => hK _ _ _ _ ⟨k + 1, by omega, by omega, h5, rfl, rfl, rfl, rfl⟩ ?_)
  show N - (Int32.ofNat (k + 1)).toNatClampNeg < N - (Int32.ofNat k).toNatClampNeg
  rw [n_clamp (by omega), n_clamp (by omega)]
  omega
theorem ilX0_hurt_54 {b : Nat} {cs : Nat → ClassId} {ad : Nat → Nat} {vs : Nat → Option Nat} {o : Nat} {K89 : Int32 → Nat → Int64 → XS → Prop} {Q : Int64 → XS → Prop} (Inv : Int32 → Nat → Int64 → Int32 → XS → Prop) (meas : Int32 → Nat → Int64 → Int32 → XS → Nat) (step : ∀ (K54 : Int32 → Nat → Int64 → Int32 → XS → Prop) (x2 : Int32) (x4 : Nat) (x5 : Int64) (x7 : Int32) (f : XS), Inv x2 x4 x5 x7 f → (∀ (y2 : Int32) (y4 : Nat) (y5 : Int64) (y7 : Int32) (f' : XS), Inv y2 y4 y5 y7 f' → meas y2 y4 y5 y7 f' < meas x2 x4 x5 x7 f → K54 y2 y4 y5 y7 f') → wbX0_hurt_54 b cs ad vs o K54 K89 Q x2 x4 x5 x7 f) (x2 : Int32) (x4 : Nat) (x5 : Int64) (x7 : Int32) (f : XS) (h : Inv x2 x4 x5 x7 f) : ∃ n : Nat, wlX0_hurt_54 b cs ad vs o K89 Q n x2 x4 x5 x7 f := by
  have key : ∀ (n : Nat) (x2 : Int32) (x4 : Nat) (x5 : Int64) (x7 : Int32) (f : XS), Inv x2 x4 x5 x7 f → meas x2 x4 x5 x7 f < n → wlX0_hurt_54 b cs ad vs o K89 Q n x2 x4 x5 x7 f := by
    intro n
    induction n with
    | zero => intro x2 x4 x5 x7 f hI hm; exact absurd hm (Nat.not_lt_zero _)
    | succ n ih => intro x2 x4 x5 x7 f hI hm; exact step _ x2 x4 x5 x7 f hI (fun y2 y4 y5 y7 f' hI' hlt => ih y2 y4 y5 y7 f' hI' (Nat.lt_of_lt_of_le hlt (Nat.le_of_lt_succ hm)))
  exact ⟨_, key _ x2 x4 x5 x7 f h (Nat.lt_succ_self _)⟩
theorem icX0_hurt_54_2 {b : Nat} {cs : Nat → ClassId} {ad : Nat → Nat} {vs : Nat → Option Nat} {o : Nat} {K89 : Int32 → Nat → Int64 → XS → Prop} {Q : Int64 → XS → Prop} (N k0 : Nat) (hN : N < 2147483648) (h0 : k0 ≤ N) (P : Nat → Prop) (p4 : Nat → Nat) (p5 : Nat → Int64) (p7 : Nat → Int32) (st : Nat → XS) (hP : P k0) (step : ∀ (K54 : Int32 → Nat → Int64 → Int32 → XS → Prop) (k : Nat), k0 ≤ k → k ≤ N → P k → (k < N → P (k + 1) → K54 (Int32.ofNat (k + 1)) (p4 (k + 1)) (p5 (k + 1)) (p7 (k + 1)) (st (k + 1))) → wbX0_hurt_54 b cs ad vs o K54 K89 Q (Int32.ofNat k) (p4 k) (p5 k) (p7 k) (st k)) : ∃ n : Nat, wlX0_hurt_54 b cs ad vs o K89 Q n (Int32.ofNat k0) (p4 k0) (p5 k0) (p7 k0) (st k0) := by
  refine ilX0_hurt_54 (fun x2 x4 x5 x7 f => ∃ k, k0 ≤ k ∧ k ≤ N ∧ P k ∧ x2 = Int32.ofNat k ∧ x4 = p4 k ∧ x5 = p5 k ∧ x7 = p7 k ∧ f = st k) (fun x2 x4 x5 x7 _ => N - x2.toNatClampNeg) ?_ _ _ _ _ _ ⟨k0, Nat.le_refl _, h0, hP, rfl, rfl, rfl, rfl, rfl⟩
  intro K x2 x4 x5 x7 f hI hK
  obtain ⟨k, h1, h2, h3, rfl, rfl, rfl, rfl, rfl⟩ := hI
  refine step K k h1 h2 h3 (fun h4 h5 => hK _ _ _ _ _ ⟨k + 1, by omega, by omega, h5, rfl, rfl, rfl, rfl, rfl⟩ ?_)
  show N - (Int32.ofNat (k + 1)).toNatClampNeg < N - (Int32.ofNat k).toNatClampNeg
  rw [n_clamp (by omega), n_clamp (by omega)]
  omega
theorem icX0_hurt_54_7 {b : Nat} {cs : Nat → ClassId} {ad : Nat → Nat} {vs : Nat → Option Nat} {o : Nat} {K89 : Int32 → Nat → Int64 → XS → Prop} {Q : Int64 → XS → Prop} (N k0 : Nat) (hN : N < 2147483648) (h0 : k0 ≤ N) (P : Nat → Prop) (p2 : Nat → Int32) (p4 : Nat → Nat) (p5 : Nat → Int64) (st : Nat → XS) (hP : P k0) (step : ∀ (K54 : Int32 → Nat → Int64 → Int32 → XS → Prop) (k : Nat), k0 ≤ k → k ≤ N → P k → (k < N → P (k + 1) → K54 (p2 (k + 1)) (p4 (k + 1)) (p5 (k + 1)) (Int32.ofNat (k + 1)) (st (k + 1))) → wbX0_hurt_54 b cs ad vs o K54 K89 Q (p2 k) (p4 k) (p5 k) (Int32.ofNat k) (st k)) : ∃ n : Nat, wlX0_hurt_54 b cs ad vs o K89 Q n (p2 k0) (p4 k0) (p5 k0) (Int32.ofNat k0) (st k0) := by
  refine ilX0_hurt_54 (fun x2 x4 x5 x7 f => ∃ k, k0 ≤ k ∧ k ≤ N ∧ P k ∧ x2 = p2 k ∧ x4 = p4 k ∧ x5 = p5 k ∧ x7 = Int32.ofNat k ∧ f = st k) (fun x2 x4 x5 x7 _ => N - x7.toNatClampNeg) ?_ _ _ _ _ _ ⟨k0, Nat.le_refl _, h0, hP, rfl, rfl, rfl, rfl, rfl⟩
  intro K x2 x4 x5 x7 f hI hK
  obtain ⟨k, h1, h2, h3, rfl, rfl, rfl, rfl, rfl⟩ := hI
  refine step K k h1 h2 h3 (fun h4 h5 => hK _ _ _ _ _ ⟨k + 1, by omega, by omega, h5, rfl, rfl, rfl, rfl, rfl⟩ ?_)
  show N - (Int32.ofNat (k + 1)).toNatClampNeg < N - (Int32.ofNat k).toNatClampNeg
  rw [n_clamp (by omega), n_clamp (by omega)]
  omega
theorem ilX0_hurt_102 {b : Nat} {cs : Nat → ClassId} {ad : Nat → Nat} {vs : Nat → Option Nat} {o : Nat}  {Q : Int64 → XS → Prop} (Inv : Int32 → Nat → Int64 → Int64 → Int32 → XS → Prop) (meas : Int32 → Nat → Int64 → Int64 → Int32 → XS → Nat) (step : ∀ (K102 : Int32 → Nat → Int64 → Int64 → Int32 → XS → Prop) (x2 : Int32) (x4 : Nat) (x5 : Int64) (x7 : Int64) (x9 : Int32) (f : XS), Inv x2 x4 x5 x7 x9 f → (∀ (y2 : Int32) (y4 : Nat) (y5 : Int64) (y7 : Int64) (y9 : Int32) (f' : XS), Inv y2 y4 y5 y7 y9 f' → meas y2 y4 y5 y7 y9 f' < meas x2 x4 x5 x7 x9 f → K102 y2 y4 y5 y7 y9 f') → wbX0_hurt_102 b cs ad vs o K102 Q x2 x4 x5 x7 x9 f) (x2 : Int32) (x4 : Nat) (x5 : Int64) (x7 : Int64) (x9 : Int32) (f : XS) (h : Inv x2 x4 x5 x7 x9 f) : ∃ n : Nat, wlX0_hurt_102 b cs ad vs o  Q n x2 x4 x5 x7 x9 f := by
  have key : ∀ (n : Nat) (x2 : Int32) (x4 : Nat) (x5 : Int64) (x7 : Int64) (x9 : Int32) (f : XS), Inv x2 x4 x5 x7 x9 f → meas x2 x4 x5 x7 x9 f < n → wlX0_hurt_102 b cs ad vs o  Q n x2 x4 x5 x7 x9 f := by
    intro n
    induction n with
    | zero => intro x2 x4 x5 x7 x9 f hI hm; exact absurd hm (Nat.not_lt_zero _)
    | succ n ih => intro x2 x4 x5 x7 x9 f hI hm; exact step _ x2 x4 x5 x7 x9 f hI (fun y2 y4 y5 y7 y9 f' hI' hlt => ih y2 y4 y5 y7 y9 f' hI' (Nat.lt_of_lt_of_le hlt (Nat.le_of_lt_succ hm)))
  exact ⟨_, key _ x2 x4 x5 x7 x9 f h (Nat.lt_succ_self _)⟩
theorem icX0_hurt_102_2 {b : Nat} {cs : Nat → ClassId} {ad : Nat → Nat} {vs : Nat → Option Nat} {o : Nat}  {Q : Int64 → XS → Prop} (N k0 : Nat) (hN : N < 2147483648) (h0 : k0 ≤ N) (P : Nat → Prop) (p4 : Nat → Nat) (p5 : Nat → Int64) (p7 : Nat → Int64) (p9 : Nat → Int32) (st : Nat → XS) (hP : P k0) (step : ∀ (K102 : Int32 → Nat → Int64 → Int64 → Int32 → XS → Prop) (k : Nat), k0 ≤ k → k ≤ N → P k → (k < N → P (k + 1) → K102 (Int32.ofNat (k + 1)) (p4 (k + 1)) (p5 (k + 1)) (p7 (k + 1)) (p9 (k + 1)) (st (k + 1))) → wbX0_hurt_102 b cs ad vs o K102 Q (Int32.ofNat k) (p4 k) (p5 k) (p7 k) (p9 k) (st k)) : ∃ n : Nat, wlX0_hurt_102 b cs ad vs o  Q n (Int32.ofNat k0) (p4 k0) (p5 k0) (p7 k0) (p9 k0) (st k0) := by
  refine ilX0_hurt_102 (fun x2 x4 x5 x7 x9 f => ∃ k, k0 ≤ k ∧ k ≤ N ∧ P k ∧ x2 = Int32.ofNat k ∧ x4 = p4 k ∧ x5 = p5 k ∧ x7 = p7 k ∧ x9 = p9 k ∧ f = st k) (fun x2 x4 x5 x7 x9 _ => N - x2.toNatClampNeg) ?_ _ _ _ _ _ _ ⟨k0, Nat.le_refl _, h0, hP, rfl, rfl, rfl, rfl, rfl, rfl⟩
  intro K x2 x4 x5 x7 x9 f hI hK
  obtain ⟨k, h1, h2, h3, rfl, rfl, rfl, rfl, rfl, rfl⟩ := hI
  refine step K k h1 h2 h3 (fun h4 h5 => hK _ _ _ _ _ _ ⟨k + 1, by omega, by omega, h5, rfl, rfl, rfl, rfl, rfl, rfl⟩ ?_)
  show N - (Int32.ofNat (k + 1)).toNatClampNeg < N - (Int32.ofNat k).toNatClampNeg
  rw [n_clamp (by omega), n_clamp (by omega)]
  omega
theorem icX0_hurt_102_9 {b : Nat} {cs : Nat → ClassId} {ad : Nat → Nat} {vs : Nat → Option Nat} {o : Nat}  {Q : Int64 → XS → Prop} (N k0 : Nat) (hN : N < 2147483648) (h0 : k0 ≤ N) (P : Nat → Prop) (p2 : Nat → Int32) (p4 : Nat → Nat) (p5 : Nat → Int64) (p7 : Nat → Int64) (st : Nat → XS) (hP : P k0) (step : ∀ (K102 : Int32 → Nat → Int64 → Int64 → Int32 → XS → Prop) (k : Nat), k0 ≤ k → k ≤ N → P k → (k < N → P (k + 1) → K102 (p2 (k + 1)) (p4 (k + 1)) (p5 (k + 1)) (p7 (k + 1)) (Int32.ofNat (k + 1)) (st (k + 1))) → wbX0_hurt_102 b cs ad vs o K102 Q (p2 k) (p4 k) (p5 k) (p7 k) (Int32.ofNat k) (st k)) : ∃ n : Nat, wlX0_hurt_102 b cs ad vs o  Q n (p2 k0) (p4 k0) (p5 k0) (p7 k0) (Int32.ofNat k0) (st k0) := by
  refine ilX0_hurt_102 (fun x2 x4 x5 x7 x9 f => ∃ k, k0 ≤ k ∧ k ≤ N ∧ P k ∧ x2 = p2 k ∧ x4 = p4 k ∧ x5 = p5 k ∧ x7 = p7 k ∧ x9 = Int32.ofNat k ∧ f = st k) (fun x2 x4 x5 x7 x9 _ => N - x9.toNatClampNeg) ?_ _ _ _ _ _ _ ⟨k0, Nat.le_refl _, h0, hP, rfl, rfl, rfl, rfl, rfl, rfl⟩
  intro K x2 x4 x5 x7 x9 f hI hK
  obtain ⟨k, h1, h2, h3, rfl, rfl, rfl, rfl, rfl, rfl⟩ := hI
  refine step K k h1 h2 h3 (fun h4 h5 => hK _ _ _ _ _ _ ⟨k + 1, by omega, by omega, h5, rfl, rfl, rfl, rfl, rfl, rfl⟩ ?_)
  show N - (Int32.ofNat (k + 1)).toNatClampNeg < N - (Int32.ofNat k).toNatClampNeg
  rw [n_clamp (by omega), n_clamp (by omega)]
  omega
theorem ilX0_best_6 {b : Nat} {cs : Nat → ClassId} {ad : Nat → Nat} {vs : Nat → Option Nat} {o : Nat}  {Q : Int32 → XS → Prop} (Inv : Int32 → Int32 → Int32 → Int32 → Int32 → Int32 → XS → Prop) (meas : Int32 → Int32 → Int32 → Int32 → Int32 → Int32 → XS → Nat) (step : ∀ (K6 : Int32 → Int32 → Int32 → Int32 → Int32 → Int32 → XS → Prop) (x1 : Int32) (x2 : Int32) (x3 : Int32) (x4 : Int32) (x5 : Int32) (x6 : Int32) (f : XS), Inv x1 x2 x3 x4 x5 x6 f → (∀ (y1 : Int32) (y2 : Int32) (y3 : Int32) (y4 : Int32) (y5 : Int32) (y6 : Int32) (f' : XS), Inv y1 y2 y3 y4 y5 y6 f' → meas y1 y2 y3 y4 y5 y6 f' < meas x1 x2 x3 x4 x5 x6 f → K6 y1 y2 y3 y4 y5 y6 f') → wbX0_best_6 b cs ad vs o K6 Q x1 x2 x3 x4 x5 x6 f) (x1 : Int32) (x2 : Int32) (x3 : Int32) (x4 : Int32) (x5 : Int32) (x6 : Int32) (f : XS) (h : Inv x1 x2 x3 x4 x5 x6 f) : ∃ n : Nat, wlX0_best_6 b cs ad vs o  Q n x1 x2 x3 x4 x5 x6 f := by
  have key : ∀ (n : Nat) (x1 : Int32) (x2 : Int32) (x3 : Int32) (x4 : Int32) (x5 : Int32) (x6 : Int32) (f : XS), Inv x1 x2 x3 x4 x5 x6 f → meas x1 x2 x3 x4 x5 x6 f < n → wlX0_best_6 b cs ad vs o  Q n x1 x2 x3 x4 x5 x6 f := by
    intro n
    induction n with
    | zero => intro x1 x2 x3 x4 x5 x6 f hI hm; exact absurd hm (Nat.not_lt_zero _)
    | succ n ih => intro x1 x2 x3 x4 x5 x6 f hI hm; exact step _ x1 x2 x3 x4 x5 x6 f hI (fun y1 y2 y3 y4 y5 y6 f' hI' hlt => ih y1 y2 y3 y4 y5 y6 f' hI' (Nat.lt_of_lt_of_le hlt (Nat.le_of_lt_succ hm)))
  exact ⟨_, key _ x1 x2 x3 x4 x5 x6 f h (Nat.lt_succ_self _)⟩
theorem icX0_best_6_1 {b : Nat} {cs : Nat → ClassId} {ad : Nat → Nat} {vs : Nat → Option Nat} {o : Nat}  {Q : Int32 → XS → Prop} (N k0 : Nat) (hN : N < 2147483648) (h0 : k0 ≤ N) (P : Nat → Prop) (p2 : Nat → Int32) (p3 : Nat → Int32) (p4 : Nat → Int32) (p5 : Nat → Int32) (p6 : Nat → Int32) (st : Nat → XS) (hP : P k0) (step : ∀ (K6 : Int32 → Int32 → Int32 → Int32 → Int32 → Int32 → XS → Prop) (k : Nat), k0 ≤ k → k ≤ N → P k → (k < N → P (k + 1) → K6 (Int32.ofNat (k + 1)) (p2 (k + 1)) (p3 (k + 1)) (p4 (k + 1)) (p5 (k + 1)) (p6 (k + 1)) (st (k + 1))) → wbX0_best_6 b cs ad vs o K6 Q (Int32.ofNat k) (p2 k) (p3 k) (p4 k) (p5 k) (p6 k) (st k)) : ∃ n : Nat, wlX0_best_6 b cs ad vs o  Q n (Int32.ofNat k0) (p2 k0) (p3 k0) (p4 k0) (p5 k0) (p6 k0) (st k0) := by
  refine ilX0_best_6 (fun x1 x2 x3 x4 x5 x6 f => ∃ k, k0 ≤ k ∧ k ≤ N ∧ P k ∧ x1 = Int32.ofNat k ∧ x2 = p2 k ∧ x3 = p3 k ∧ x4 = p4 k ∧ x5 = p5 k ∧ x6 = p6 k ∧ f = st k) (fun x1 x2 x3 x4 x5 x6 _ => N - x1.toNatClampNeg) ?_ _ _ _ _ _ _ _ ⟨k0, Nat.le_refl _, h0, hP, rfl, rfl, rfl, rfl, rfl, rfl, rfl⟩
  intro K x1 x2 x3 x4 x5 x6 f hI hK
  obtain ⟨k, h1, h2, h3, rfl, rfl, rfl, rfl, rfl, rfl, rfl⟩ := hI
  refine step K k h1 h2 h3 (fun h4 h5 => hK _ _ _ _ _ _ _ ⟨k + 1, by omega, by omega, h5, rfl, rfl, rfl, rfl, rfl, rfl, rfl⟩ ?_)
  show N - (Int32.ofNat (k + 1)).toNatClampNeg < N - (Int32.ofNat k).toNatClampNeg
  rw [n_clamp (by omega), n_clamp (by omega)]
  omega
theorem icX0_best_6_2 {b : Nat} {cs : Nat → ClassId} {ad : Nat → Nat} {vs : Nat → Option Nat} {o : Nat}  {Q : Int32 → XS → Prop} (N k0 : Nat) (hN : N < 2147483648) (h0 : k0 ≤ N) (P : Nat → Prop) (p1 : Nat → Int32) (p3 : Nat → Int32) (p4 : Nat → Int32) (p5 : Nat → Int32) (p6 : Nat → Int32) (st : Nat → XS) (hP : P k0) (step : ∀ (K6 : Int32 → Int32 → Int32 → Int32 → Int32 → Int32 → XS → Prop) (k : Nat), k0 ≤ k → k ≤ N → P k → (k < N → P (k + 1) → K6 (p1 (k + 1)) (Int32.ofNat (k + 1)) (p3 (k + 1)) (p4 (k + 1)) (p5 (k + 1)) (p6 (k + 1)) (st (k + 1))) → wbX0_best_6 b cs ad vs o K6 Q (p1 k) (Int32.ofNat k) (p3 k) (p4 k) (p5 k) (p6 k) (st k)) : ∃ n : Nat, wlX0_best_6 b cs ad vs o  Q n (p1 k0) (Int32.ofNat k0) (p3 k0) (p4 k0) (p5 k0) (p6 k0) (st k0) := by
  refine ilX0_best_6 (fun x1 x2 x3 x4 x5 x6 f => ∃ k, k0 ≤ k ∧ k ≤ N ∧ P k ∧ x1 = p1 k ∧ x2 = Int32.ofNat k ∧ x3 = p3 k ∧ x4 = p4 k ∧ x5 = p5 k ∧ x6 = p6 k ∧ f = st k) (fun x1 x2 x3 x4 x5 x6 _ => N - x2.toNatClampNeg) ?_ _ _ _ _ _ _ _ ⟨k0, Nat.le_refl _, h0, hP, rfl, rfl, rfl, rfl, rfl, rfl, rfl⟩
  intro K x1 x2 x3 x4 x5 x6 f hI hK
  obtain ⟨k, h1, h2, h3, rfl, rfl, rfl, rfl, rfl, rfl, rfl⟩ := hI
  refine step K k h1 h2 h3 (fun h4 h5 => hK _ _ _ _ _ _ _ ⟨k + 1, by omega, by omega, h5, rfl, rfl, rfl, rfl, rfl, rfl, rfl⟩ ?_)
  show N - (Int32.ofNat (k + 1)).toNatClampNeg < N - (Int32.ofNat k).toNatClampNeg
  rw [n_clamp (by omega), n_clamp (by omega)]
  omega
theorem icX0_best_6_3 {b : Nat} {cs : Nat → ClassId} {ad : Nat → Nat} {vs : Nat → Option Nat} {o : Nat}  {Q : Int32 → XS → Prop} (N k0 : Nat) (hN : N < 2147483648) (h0 : k0 ≤ N) (P : Nat → Prop) (p1 : Nat → Int32) (p2 : Nat → Int32) (p4 : Nat → Int32) (p5 : Nat → Int32) (p6 : Nat → Int32) (st : Nat → XS) (hP : P k0) (step : ∀ (K6 : Int32 → Int32 → Int32 → Int32 → Int32 → Int32 → XS → Prop) (k : Nat), k0 ≤ k → k ≤ N → P k → (k < N → P (k + 1) → K6 (p1 (k + 1)) (p2 (k + 1)) (Int32.ofNat (k + 1)) (p4 (k + 1)) (p5 (k + 1)) (p6 (k + 1)) (st (k + 1))) → wbX0_best_6 b cs ad vs o K6 Q (p1 k) (p2 k) (Int32.ofNat k) (p4 k) (p5 k) (p6 k) (st k)) : ∃ n : Nat, wlX0_best_6 b cs ad vs o  Q n (p1 k0) (p2 k0) (Int32.ofNat k0) (p4 k0) (p5 k0) (p6 k0) (st k0) := by
  refine ilX0_best_6 (fun x1 x2 x3 x4 x5 x6 f => ∃ k, k0 ≤ k ∧ k ≤ N ∧ P k ∧ x1 = p1 k ∧ x2 = p2 k ∧ x3 = Int32.ofNat k ∧ x4 = p4 k ∧ x5 = p5 k ∧ x6 = p6 k ∧ f = st k) (fun x1 x2 x3 x4 x5 x6 _ => N - x3.toNatClampNeg) ?_ _ _ _ _ _ _ _ ⟨k0, Nat.le_refl _, h0, hP, rfl, rfl, rfl, rfl, rfl, rfl, rfl⟩
  intro K x1 x2 x3 x4 x5 x6 f hI hK
  obtain ⟨k, h1, h2, h3, rfl, rfl, rfl, rfl, rfl, rfl, rfl⟩ := hI
  refine step K k h1 h2 h3 (fun h4 h5 => hK _ _ _ _ _ _ _ ⟨k + 1, by omega, by omega, h5, rfl, rfl, rfl, rfl, rfl, rfl, rfl⟩ ?_)
  show N - (Int32.ofNat (k + 1)).toNatClampNeg < N - (Int32.ofNat k).toNatClampNeg
  rw [n_clamp (by omega), n_clamp (by omega)]
  omega
theorem icX0_best_6_4 {b : Nat} {cs : Nat → ClassId} {ad : Nat → Nat} {vs : Nat → Option Nat} {o : Nat}  {Q : Int32 → XS → Prop} (N k0 : Nat) (hN : N < 2147483648) (h0 : k0 ≤ N) (P : Nat → Prop) (p1 : Nat → Int32) (p2 : Nat → Int32) (p3 : Nat → Int32) (p5 : Nat → Int32) (p6 : Nat → Int32) (st : Nat → XS) (hP : P k0) (step : ∀ (K6 : Int32 → Int32 → Int32 → Int32 → Int32 → Int32 → XS → Prop) (k : Nat), k0 ≤ k → k ≤ N → P k → (k < N → P (k + 1) → K6 (p1 (k + 1)) (p2 (k + 1)) (p3 (k + 1)) (Int32.ofNat (k + 1)) (p5 (k + 1)) (p6 (k + 1)) (st (k + 1))) → wbX0_best_6 b cs ad vs o K6 Q (p1 k) (p2 k) (p3 k) (Int32.ofNat k) (p5 k) (p6 k) (st k)) : ∃ n : Nat, wlX0_best_6 b cs ad vs o  Q n (p1 k0) (p2 k0) (p3 k0) (Int32.ofNat k0) (p5 k0) (p6 k0) (st k0) := by
  refine ilX0_best_6 (fun x1 x2 x3 x4 x5 x6 f => ∃ k, k0 ≤ k ∧ k ≤ N ∧ P k ∧ x1 = p1 k ∧ x2 = p2 k ∧ x3 = p3 k ∧ x4 = Int32.ofNat k ∧ x5 = p5 k ∧ x6 = p6 k ∧ f = st k) (fun x1 x2 x3 x4 x5 x6 _ => N - x4.toNatClampNeg) ?_ _ _ _ _ _ _ _ ⟨k0, Nat.le_refl _, h0, hP, rfl, rfl, rfl, rfl, rfl, rfl, rfl⟩
  intro K x1 x2 x3 x4 x5 x6 f hI hK
  obtain ⟨k, h1, h2, h3, rfl, rfl, rfl, rfl, rfl, rfl, rfl⟩ := hI
  refine step K k h1 h2 h3 (fun h4 h5 => hK _ _ _ _ _ _ _ ⟨k + 1, by omega, by omega, h5, rfl, rfl, rfl, rfl, rfl, rfl, rfl⟩ ?_)
  show N - (Int32.ofNat (k + 1)).toNatClampNeg < N - (Int32.ofNat k).toNatClampNeg
  rw [n_clamp (by omega), n_clamp (by omega)]
  omega
theorem icX0_best_6_5 {b : Nat} {cs : Nat → ClassId} {ad : Nat → Nat} {vs : Nat → Option Nat} {o : Nat}  {Q : Int32 → XS → Prop} (N k0 : Nat) (hN : N < 2147483648) (h0 : k0 ≤ N) (P : Nat → Prop) (p1 : Nat → Int32) (p2 : Nat → Int32) (p3 : Nat → Int32) (p4 : Nat → Int32) (p6 : Nat → Int32) (st : Nat → XS) (hP : P k0) (step : ∀ (K6 : Int32 → Int32 → Int32 → Int32 → Int32 → Int32 → XS → Prop) (k : Nat), k0 ≤ k → k ≤ N → P k → (k < N → P (k + 1) → K6 (p1 (k + 1)) (p2 (k + 1)) (p3 (k + 1)) (p4 (k + 1)) (Int32.ofNat (k + 1)) (p6 (k + 1)) (st (k + 1))) → wbX0_best_6 b cs ad vs o K6 Q (p1 k) (p2 k) (p3 k) (p4 k) (Int32.ofNat k) (p6 k) (st k)) : ∃ n : Nat, wlX0_best_6 b cs ad vs o  Q n (p1 k0) (p2 k0) (p3 k0) (p4 k0) (Int32.ofNat k0) (p6 k0) (st k0) := by
  refine ilX0_best_6 (fun x1 x2 x3 x4 x5 x6 f => ∃ k, k0 ≤ k ∧ k ≤ N ∧ P k ∧ x1 = p1 k ∧ x2 = p2 k ∧ x3 = p3 k ∧ x4 = p4 k ∧ x5 = Int32.ofNat k ∧ x6 = p6 k ∧ f = st k) (fun x1 x2 x3 x4 x5 x6 _ => N - x5.toNatClampNeg) ?_ _ _ _ _ _ _ _ ⟨k0, Nat.le_refl _, h0, hP, rfl, rfl, rfl, rfl, rfl, rfl, rfl⟩
  intro K x1 x2 x3 x4 x5 x6 f hI hK
  obtain ⟨k, h1, h2, h3, rfl, rfl, rfl, rfl, rfl, rfl, rfl⟩ := hI
  refine step K k h1 h2 h3 (fun h4 h5 => hK _ _ _ _ _ _ _ ⟨k + 1, by omega, by omega, h5, rfl, rfl, rfl, rfl, rfl, rfl, rfl⟩ ?_)
  show N - (Int32.ofNat (k + 1)).toNatClampNeg < N - (Int32.ofNat k).toNatClampNeg
  rw [n_clamp (by omega), n_clamp (by omega)]
  omega
theorem icX0_best_6_6 {b : Nat} {cs : Nat → ClassId} {ad : Nat → Nat} {vs : Nat → Option Nat} {o : Nat}  {Q : Int32 → XS → Prop} (N k0 : Nat) (hN : N < 2147483648) (h0 : k0 ≤ N) (P : Nat → Prop) (p1 : Nat → Int32) (p2 : Nat → Int32) (p3 : Nat → Int32) (p4 : Nat → Int32) (p5 : Nat → Int32) (st : Nat → XS) (hP : P k0) (step : ∀ (K6 : Int32 → Int32 → Int32 → Int32 → Int32 → Int32 → XS → Prop) (k : Nat), k0 ≤ k → k ≤ N → P k → (k < N → P (k + 1) → K6 (p1 (k + 1)) (p2 (k + 1)) (p3 (k + 1)) (p4 (k + 1)) (p5 (k + 1)) (Int32.ofNat (k + 1)) (st (k + 1))) → wbX0_best_6 b cs ad vs o K6 Q (p1 k) (p2 k) (p3 k) (p4 k) (p5 k) (Int32.ofNat k) (st k)) : ∃ n : Nat, wlX0_best_6 b cs ad vs o  Q n (p1 k0) (p2 k0) (p3 k0) (p4 k0) (p5 k0) (Int32.ofNat k0) (st k0) := by
  refine ilX0_best_6 (fun x1 x2 x3 x4 x5 x6 f => ∃ k, k0 ≤ k ∧ k ≤ N ∧ P k ∧ x1 = p1 k ∧ x2 = p2 k ∧ x3 = p3 k ∧ x4 = p4 k ∧ x5 = p5 k ∧ x6 = Int32.ofNat k ∧ f = st k) (fun x1 x2 x3 x4 x5 x6 _ => N - x6.toNatClampNeg) ?_ _ _ _ _ _ _ _ ⟨k0, Nat.le_refl _, h0, hP, rfl, rfl, rfl, rfl, rfl, rfl, rfl⟩
  intro K x1 x2 x3 x4 x5 x6 f hI hK
  obtain ⟨k, h1, h2, h3, rfl, rfl, rfl, rfl, rfl, rfl, rfl⟩ := hI
  refine step K k h1 h2 h3 (fun h4 h5 => hK _ _ _ _ _ _ _ ⟨k + 1, by omega, by omega, h5, rfl, rfl, rfl, rfl, rfl, rfl, rfl⟩ ?_)
  show N - (Int32.ofNat (k + 1)).toNatClampNeg < N - (Int32.ofNat k).toNatClampNeg
  rw [n_clamp (by omega), n_clamp (by omega)]
  omega
theorem ilX0_rounds_15 {b : Nat} {cs : Nat → ClassId} {ad : Nat → Nat} {vs : Nat → Option Nat} {o : Nat} {K59 : Int32 → Int32 → Int32 → Int32 → XS → Prop} {Q : XS → Prop} (Inv : Int32 → Int32 → Int32 → Int32 → Int32 → XS → Prop) (meas : Int32 → Int32 → Int32 → Int32 → Int32 → XS → Nat) (step : ∀ (K15 : Int32 → Int32 → Int32 → Int32 → Int32 → XS → Prop) (x1 : Int32) (x2 : Int32) (x3 : Int32) (x4 : Int32) (x5 : Int32) (f : XS), Inv x1 x2 x3 x4 x5 f → (∀ (y1 : Int32) (y2 : Int32) (y3 : Int32) (y4 : Int32) (y5 : Int32) (f' : XS), Inv y1 y2 y3 y4 y5 f' → meas y1 y2 y3 y4 y5 f' < meas x1 x2 x3 x4 x5 f → K15 y1 y2 y3 y4 y5 f') → wbX0_rounds_15 b cs ad vs o K15 K59 Q x1 x2 x3 x4 x5 f) (x1 : Int32) (x2 : Int32) (x3 : Int32) (x4 : Int32) (x5 : Int32) (f : XS) (h : Inv x1 x2 x3 x4 x5 f) : ∃ n : Nat, wlX0_rounds_15 b cs ad vs o K59 Q n x1 x2 x3 x4 x5 f := by
  have key : ∀ (n : Nat) (x1 : Int32) (x2 : Int32) (x3 : Int32) (x4 : Int32) (x5 : Int32) (f : XS), Inv x1 x2 x3 x4 x5 f → meas x1 x2 x3 x4 x5 f < n → wlX0_rounds_15 b cs ad vs o K59 Q n x1 x2 x3 x4 x5 f := by
    intro n
    induction n with
    | zero => intro x1 x2 x3 x4 x5 f hI hm; exact absurd hm (Nat.not_lt_zero _)
    | succ n ih => intro x1 x2 x3 x4 x5 f hI hm; exact step _ x1 x2 x3 x4 x5 f hI (fun y1 y2 y3 y4 y5 f' hI' hlt => ih y1 y2 y3 y4 y5 f' hI' (Nat.lt_of_lt_of_le hlt (Nat.le_of_lt_succ hm)))
  exact ⟨_, key _ x1 x2 x3 x4 x5 f h (Nat.lt_succ_self _)⟩
theorem icX0_rounds_15_1 {b : Nat} {cs : Nat → ClassId} {ad : Nat → Nat} {vs : Nat → Option Nat} {o : Nat} {K59 : Int32 → Int32 → Int32 → Int32 → XS → Prop} {Q : XS → Prop} (N k0 : Nat) (hN : N < 2147483648) (h0 : k0 ≤ N) (P : Nat → Prop) (p2 : Nat → Int32) (p3 : Nat → Int32) (p4 : Nat → Int32) (p5 : Nat → Int32) (st : Nat → XS) (hP : P k0) (step : ∀ (K15 : Int32 → Int32 → Int32 → Int32 → Int32 → XS → Prop) (k : Nat), k0 ≤ k → k ≤ N → P k → (k < N → P (k + 1) → K15 (Int32.ofNat (k + 1)) (p2 (k + 1)) (p3 (k + 1)) (p4 (k + 1)) (p5 (k + 1)) (st (k + 1))) → wbX0_rounds_15 b cs ad vs o K15 K59 Q (Int32.ofNat k) (p2 k) (p3 k) (p4 k) (p5 k) (st k)) : ∃ n : Nat, wlX0_rounds_15 b cs ad vs o K59 Q n (Int32.ofNat k0) (p2 k0) (p3 k0) (p4 k0) (p5 k0) (st k0) := by
  refine ilX0_rounds_15 (fun x1 x2 x3 x4 x5 f => ∃ k, k0 ≤ k ∧ k ≤ N ∧ P k ∧ x1 = Int32.ofNat k ∧ x2 = p2 k ∧ x3 = p3 k ∧ x4 = p4 k ∧ x5 = p5 k ∧ f = st k) (fun x1 x2 x3 x4 x5 _ => N - x1.toNatClampNeg) ?_ _ _ _ _ _ _ ⟨k0, Nat.le_refl _, h0, hP, rfl, rfl, rfl, rfl, rfl, rfl⟩
  intro K x1 x2 x3 x4 x5 f hI hK
  obtain ⟨k, h1, h2, h3, rfl, rfl, rfl, rfl, rfl, rfl⟩ := hI
  refine step K k h1 h2 h3 (fun h4 h5 => hK _ _ _ _ _ _ ⟨k + 1, by omega, by omega, h5, rfl, rfl, rfl, rfl, rfl, rfl⟩ ?_)
  show N - (Int32.ofNat (k + 1)).toNatClampNeg < N - (Int32.ofNat k).toNatClampNeg
  rw [n_clamp (by omega), n_clamp (by omega)]
  omega
theorem icX0_rounds_15_2 {b : Nat} {cs : Nat → ClassId} {ad : Nat → Nat} {vs : Nat → Option Nat} {o : Nat} {K59 : Int32 → Int32 → Int32 → Int32 → XS → Prop} {Q : XS → Prop} (N k0 : Nat) (hN : N < 2147483648) (h0 : k0 ≤ N) (P : Nat → Prop) (p1 : Nat → Int32) (p3 : Nat → Int32) (p4 : Nat → Int32) (p5 : Nat → Int32) (st : Nat → XS) (hP : P k0) (step : ∀ (K15 : Int32 → Int32 → Int32 → Int32 → Int32 → XS → Prop) (k : Nat), k0 ≤ k → k ≤ N → P k → (k < N → P (k + 1) → K15 (p1 (k + 1)) (Int32.ofNat (k + 1)) (p3 (k + 1)) (p4 (k + 1)) (p5 (k + 1)) (st (k + 1))) → wbX0_rounds_15 b cs ad vs o K15 K59 Q (p1 k) (Int32.ofNat k) (p3 k) (p4 k) (p5 k) (st k)) : ∃ n : Nat, wlX0_rounds_15 b cs ad vs o K59 Q n (p1 k0) (Int32.ofNat k0) (p3 k0) (p4 k0) (p5 k0) (st k0) := by
  refine ilX0_rounds_15 (fun x1 x2 x3 x4 x5 f => ∃ k, k0 ≤ k ∧ k ≤ N ∧ P k ∧ x1 = p1 k ∧ x2 = Int32.ofNat k ∧ x3 = p3 k ∧ x4 = p4 k ∧ x5 = p5 k ∧ f = st k) (fun x1 x2 x3 x4 x5 _ => N - x2.toNatClampNeg) ?_ _ _ _ _ _ _ ⟨k0, Nat.le_refl _, h0, hP, rfl, rfl, rfl, rfl, rfl, rfl⟩
  intro K x1 x2 x3 x4 x5 f hI hK
  obtain ⟨k, h1, h2, h3, rfl, rfl, rfl, rfl, rfl, rfl⟩ := hI
  refine step K k h1 h2 h3 (fun h4 h5 => hK _ _ _ _ _ _ ⟨k + 1, by omega, by omega, h5, rfl, rfl, rfl, rfl, rfl, rfl⟩ ?_)
  show N - (Int32.ofNat (k + 1)).toNatClampNeg < N - (Int32.ofNat k).toNatClampNeg
  rw [n_clamp (by omega), n_clamp (by omega)]
  omega
theorem icX0_rounds_15_3 {b : Nat} {cs : Nat → ClassId} {ad : Nat → Nat} {vs : Nat → Option Nat} {o : Nat} {K59 : Int32 → Int32 → Int32 → Int32 → XS → Prop} {Q : XS → Prop} (N k0 : Nat) (hN : N < 2147483648) (h0 : k0 ≤ N) (P : Nat → Prop) (p1 : Nat → Int32) (p2 : Nat → Int32) (p4 : Nat → Int32) (p5 : Nat → Int32) (st : Nat → XS) (hP : P k0) (step : ∀ (K15 : Int32 → Int32 → Int32 → Int32 → Int32 → XS → Prop) (k : Nat), k0 ≤ k → k ≤ N → P k → (k < N → P (k + 1) → K15 (p1 (k + 1)) (p2 (k + 1)) (Int32.ofNat (k + 1)) (p4 (k + 1)) (p5 (k + 1)) (st (k + 1))) → wbX0_rounds_15 b cs ad vs o K15 K59 Q (p1 k) (p2 k) (Int32.ofNat k) (p4 k) (p5 k) (st k)) : ∃ n : Nat, wlX0_rounds_15 b cs ad vs o K59 Q n (p1 k0) (p2 k0) (Int32.ofNat k0) (p4 k0) (p5 k0) (st k0) := by
  refine ilX0_rounds_15 (fun x1 x2 x3 x4 x5 f => ∃ k, k0 ≤ k ∧ k ≤ N ∧ P k ∧ x1 = p1 k ∧ x2 = p2 k ∧ x3 = Int32.ofNat k ∧ x4 = p4 k ∧ x5 = p5 k ∧ f = st k) (fun x1 x2 x3 x4 x5 _ => N - x3.toNatClampNeg) ?_ _ _ _ _ _ _ ⟨k0, Nat.le_refl _, h0, hP, rfl, rfl, rfl, rfl, rfl, rfl⟩
  intro K x1 x2 x3 x4 x5 f hI hK
  obtain ⟨k, h1, h2, h3, rfl, rfl, rfl, rfl, rfl, rfl⟩ := hI
  refine step K k h1 h2 h3 (fun h4 h5 => hK _ _ _ _ _ _ ⟨k + 1, by omega, by omega, h5, rfl, rfl, rfl, rfl, rfl, rfl⟩ ?_)
  show N - (Int32.ofNat (k + 1)).toNatClampNeg < N - (Int32.ofNat k).toNatClampNeg
  rw [n_clamp (by omega), n_clamp (by omega)]
  omega
theorem icX0_rounds_15_4 {b : Nat} {cs : Nat → ClassId} {ad : Nat → Nat} {vs : Nat → Option Nat} {o : Nat} {K59 : Int32 → Int32 → Int32 → Int32 → XS → Prop} {Q : XS → Prop} (N k0 : Nat) (hN : N < 2147483648) (h0 : k0 ≤ N) (P : Nat → Prop) (p1 : Nat → Int32) (p2 : Nat → Int32) (p3 : Nat → Int32) (p5 : Nat → Int32) (st : Nat → XS) (hP : P k0) (step : ∀ (K15 : Int32 → Int32 → Int32 → Int32 → Int32 → XS → Prop) (k : Nat), k0 ≤ k → k ≤ N → P k → (k < N → P (k + 1) → K15 (p1 (k + 1)) (p2 (k + 1)) (p3 (k + 1)) (Int32.ofNat (k + 1)) (p5 (k + 1)) (st (k + 1))) → wbX0_rounds_15 b cs ad vs o K15 K59 Q (p1 k) (p2 k) (p3 k) (Int32.ofNat k) (p5 k) (st k)) : ∃ n : Nat, wlX0_rounds_15 b cs ad vs o K59 Q n (p1 k0) (p2 k0) (p3 k0) (Int32.ofNat k0) (p5 k0) (st k0) := by
  refine ilX0_rounds_15 (fun x1 x2 x3 x4 x5 f => ∃ k, k0 ≤ k ∧ k ≤ N ∧ P k ∧ x1 = p1 k ∧ x2 = p2 k ∧ x3 = p3 k ∧ x4 = Int32.ofNat k ∧ x5 = p5 k ∧ f = st k) (fun x1 x2 x3 x4 x5 _ => N - x4.toNatClampNeg) ?_ _ _ _ _ _ _ ⟨k0, Nat.le_refl _, h0, hP, rfl, rfl, rfl, rfl, rfl, rfl⟩
  intro K x1 x2 x3 x4 x5 f hI hK
  obtain ⟨k, h1, h2, h3, rfl, rfl, rfl, rfl, rfl, rfl⟩ := hI
  refine step K k h1 h2 h3 (fun h4 h5 => hK _ _ _ _ _ _ ⟨k + 1, by omega, by omega, h5, rfl, rfl, rfl, rfl, rfl, rfl⟩ ?_)
  show N - (Int32.ofNat (k + 1)).toNatClampNeg < N - (Int32.ofNat k).toNatClampNeg
  rw [n_clamp (by omega), n_clamp (by omega)]
  omega
theorem icX0_rounds_15_5 {b : Nat} {cs : Nat → ClassId} {ad : Nat → Nat} {vs : Nat → Option Nat} {o : Nat} {K59 : Int32 → Int32 → Int32 → Int32 → XS → Prop} {Q : XS → Prop} (N k0 : Nat) (hN : N < 2147483648) (h0 : k0 ≤ N) (P : Nat → Prop) (p1 : Nat → Int32) (p2 : Nat → Int32) (p3 : Nat → Int32) (p4 : Nat → Int32) (st : Nat → XS) (hP : P k0) (step : ∀ (K15 : Int32 → Int32 → Int32 → Int32 → Int32 → XS → Prop) (k : Nat), k0 ≤ k → k ≤ N → P k → (k < N → P (k + 1) → K15 (p1 (k + 1)) (p2 (k + 1)) (p3 (k + 1)) (p4 (k + 1)) (Int32.ofNat (k + 1)) (st (k + 1))) → wbX0_rounds_15 b cs ad vs o K15 K59 Q (p1 k) (p2 k) (p3 k) (p4 k) (Int32.ofNat k) (st k)) : ∃ n : Nat, wlX0_rounds_15 b cs ad vs o K59 Q n (p1 k0) (p2 k0) (p3 k0) (p4 k0) (Int32.ofNat k0) (st k0) := by
  refine ilX0_rounds_15 (fun x1 x2 x3 x4 x5 f => ∃ k, k0 ≤ k ∧ k ≤ N ∧ P k ∧ x1 = p1 k ∧ x2 = p2 k ∧ x3 = p3 k ∧ x4 = p4 k ∧ x5 = Int32.ofNat k ∧ f = st k) (fun x1 x2 x3 x4 x5 _ => N - x5.toNatClampNeg) ?_ _ _ _ _ _ _ ⟨k0, Nat.le_refl _, h0, hP, rfl, rfl, rfl, rfl, rfl, rfl⟩
  intro K x1 x2 x3 x4 x5 f hI hK
  obtain ⟨k, h1, h2, h3, rfl, rfl, rfl, rfl, rfl, rfl⟩ := hI
  refine step K k h1 h2 h3 (fun h4 h5 => hK _ _ _ _ _ _ ⟨k + 1, by omega, by omega, h5, rfl, rfl, rfl, rfl, rfl, rfl⟩ ?_)
  show N - (Int32.ofNat (k + 1)).toNatClampNeg < N - (Int32.ofNat k).toNatClampNeg
  rw [n_clamp (by omega), n_clamp (by omega)]
  omega
theorem ilX0_rounds_3 {b : Nat} {cs : Nat → ClassId} {ad : Nat → Nat} {vs : Nat → Option Nat} {o : Nat} {K65 : Int32 → Int32 → XS → Prop} {Q : XS → Prop} (Inv : Int32 → Int32 → Int32 → Int32 → XS → Prop) (meas : Int32 → Int32 → Int32 → Int32 → XS → Nat) (step : ∀ (K3 : Int32 → Int32 → Int32 → Int32 → XS → Prop) (x1 : Int32) (x2 : Int32) (x3 : Int32) (x4 : Int32) (f : XS), Inv x1 x2 x3 x4 f → (∀ (y1 : Int32) (y2 : Int32) (y3 : Int32) (y4 : Int32) (f' : XS), Inv y1 y2 y3 y4 f' → meas y1 y2 y3 y4 f' < meas x1 x2 x3 x4 f → K3 y1 y2 y3 y4 f') → wbX0_rounds_3 b cs ad vs o K3 K65 Q x1 x2 x3 x4 f) (x1 : Int32) (x2 : Int32) (x3 : Int32) (x4 : Int32) (f : XS) (h : Inv x1 x2 x3 x4 f) : ∃ n : Nat, wlX0_rounds_3 b cs ad vs o K65 Q n x1 x2 x3 x4 f := by
  have key : ∀ (n : Nat) (x1 : Int32) (x2 : Int32) (x3 : Int32) (x4 : Int32) (f : XS), Inv x1 x2 x3 x4 f → meas x1 x2 x3 x4 f < n → wlX0_rounds_3 b cs ad vs o K65 Q n x1 x2 x3 x4 f := by
    intro n
    induction n with
    | zero => intro x1 x2 x3 x4 f hI hm; exact absurd hm (Nat.not_lt_zero _)
    | succ n ih => intro x1 x2 x3 x4 f hI hm; exact step _ x1 x2 x3 x4 f hI (fun y1 y2 y3 y4 f' hI' hlt => ih y1 y2 y3 y4 f' hI' (Nat.lt_of_lt_of_le hlt (Nat.le_of_lt_succ hm)))
  exact ⟨_, key _ x1 x2 x3 x4 f h (Nat.lt_succ_self _)⟩
theorem icX0_rounds_3_1 {b : Nat} {cs : Nat → ClassId} {ad : Nat → Nat} {vs : Nat → Option Nat} {o : Nat} {K65 : Int32 → Int32 → XS → Prop} {Q : XS → Prop} (N k0 : Nat) (hN : N < 2147483648) (h0 : k0 ≤ N) (P : Nat → Prop) (p2 : Nat → Int32) (p3 : Nat → Int32) (p4 : Nat → Int32) (st : Nat → XS) (hP : P k0) (step : ∀ (K3 : Int32 → Int32 → Int32 → Int32 → XS → Prop) (k : Nat), k0 ≤ k → k ≤ N → P k → (k < N → P (k + 1) → K3 (Int32.ofNat (k + 1)) (p2 (k + 1)) (p3 (k + 1)) (p4 (k + 1)) (st (k + 1))) → wbX0_rounds_3 b cs ad vs o K3 K65 Q (Int32.ofNat k) (p2 k) (p3 k) (p4 k) (st k)) : ∃ n : Nat, wlX0_rounds_3 b cs ad vs o K65 Q n (Int32.ofNat k0) (p2 k0) (p3 k0) (p4 k0) (st k0) := by
  refine ilX0_rounds_3 (fun x1 x2 x3 x4 f => ∃ k, k0 ≤ k ∧ k ≤ N ∧ P k ∧ x1 = Int32.ofNat k ∧ x2 = p2 k ∧ x3 = p3 k ∧ x4 = p4 k ∧ f = st k) (fun x1 x2 x3 x4 _ => N - x1.toNatClampNeg) ?_ _ _ _ _ _ ⟨k0, Nat.le_refl _, h0, hP, rfl, rfl, rfl, rfl, rfl⟩
  intro K x1 x2 x3 x4 f hI hK
  obtain ⟨k, h1, h2, h3, rfl, rfl, rfl, rfl, rfl⟩ := hI
  refine step K k h1 h2 h3 (fun h4 h5 => hK _ _ _ _ _ ⟨k + 1, by omega, by omega, h5, rfl, rfl, rfl, rfl, rfl⟩ ?_)
  show N - (Int32.ofNat (k + 1)).toNatClampNeg < N - (Int32.ofNat k).toNatClampNeg
  rw [n_clamp (by omega), n_clamp (by omega)]
  omega
theorem icX0_rounds_3_2 {b : Nat} {cs : Nat → ClassId} {ad : Nat → Nat} {vs : Nat → Option Nat} {o : Nat} {K65 : Int32 → Int32 → XS → Prop} {Q : XS → Prop} (N k0 : Nat) (hN : N < 2147483648) (h0 : k0 ≤ N) (P : Nat → Prop) (p1 : Nat → Int32) (p3 : Nat → Int32) (p4 : Nat → Int32) (st : Nat → XS) (hP : P k0) (step : ∀ (K3 : Int32 → Int32 → Int32 → Int32 → XS → Prop) (k : Nat), k0 ≤ k → k ≤ N → P k → (k < N → P (k + 1) → K3 (p1 (k + 1)) (Int32.ofNat (k + 1)) (p3 (k + 1)) (p4 (k + 1)) (st (k + 1))) → wbX0_rounds_3 b cs ad vs o K3 K65 Q (p1 k) (Int32.ofNat k) (p3 k) (p4 k) (st k)) : ∃ n : Nat, wlX0_rounds_3 b cs ad vs o K65 Q n (p1 k0) (Int32.ofNat k0) (p3 k0) (p4 k0) (st k0) := by
  refine ilX0_rounds_3 (fun x1 x2 x3 x4 f => ∃ k, k0 ≤ k ∧ k ≤ N ∧ P k ∧ x1 = p1 k ∧ x2 = Int32.ofNat k ∧ x3 = p3 k ∧ x4 = p4 k ∧ f = st k) (fun x1 x2 x3 x4 _ => N - x2.toNatClampNeg) ?_ _ _ _ _ _ ⟨k0, Nat.le_refl _, h0, hP, rfl, rfl, rfl, rfl, rfl⟩
  intro K x1 x2 x3 x4 f hI hK
  obtain ⟨k, h1, h2, h3, rfl, rfl, rfl, rfl, rfl⟩ := hI
  refine step K k h1 h2 h3 (fun h4 h5 => hK _ _ _ _ _ ⟨k + 1, by omega, by omega, h5, rfl, rfl, rfl, rfl, rfl⟩ ?_)
  show N - (Int32.ofNat (k + 1)).toNatClampNeg < N - (Int32.ofNat k).toNatClampNeg
  rw [n_clamp (by omega), n_clamp (by omega)]
  omega
theorem icX0_rounds_3_3 {b : Nat} {cs : Nat → ClassId} {ad : Nat → Nat} {vs : Nat → Option Nat} {o : Nat} {K65 : Int32 → Int32 → XS → Prop} {Q : XS → Prop} (N k0 : Nat) (hN : N < 2147483648) (h0 : k0 ≤ N) (P : Nat → Prop) (p1 : Nat → Int32) (p2 : Nat → Int32) (p4 : Nat → Int32) (st : Nat → XS) (hP : P k0) (step : ∀ (K3 : Int32 → Int32 → Int32 → Int32 → XS → Prop) (k : Nat), k0 ≤ k → k ≤ N → P k → (k < N → P (k + 1) → K3 (p1 (k + 1)) (p2 (k + 1)) (Int32.ofNat (k + 1)) (p4 (k + 1)) (st (k + 1))) → wbX0_rounds_3 b cs ad vs o K3 K65 Q (p1 k) (p2 k) (Int32.ofNat k) (p4 k) (st k)) : ∃ n : Nat, wlX0_rounds_3 b cs ad vs o K65 Q n (p1 k0) (p2 k0) (Int32.ofNat k0) (p4 k0) (st k0) := by
  refine ilX0_rounds_3 (fun x1 x2 x3 x4 f => ∃ k, k0 ≤ k ∧ k ≤ N ∧ P k ∧ x1 = p1 k ∧ x2 = p2 k ∧ x3 = Int32.ofNat k ∧ x4 = p4 k ∧ f = st k) (fun x1 x2 x3 x4 _ => N - x3.toNatClampNeg) ?_ _ _ _ _ _ ⟨k0, Nat.le_refl _, h0, hP, rfl, rfl, rfl, rfl, rfl⟩
  intro K x1 x2 x3 x4 f hI hK
  obtain ⟨k, h1, h2, h3, rfl, rfl, rfl, rfl, rfl⟩ := hI
  refine step K k h1 h2 h3 (fun h4 h5 => hK _ _ _ _ _ ⟨k + 1, by omega, by omega, h5, rfl, rfl, rfl, rfl, rfl⟩ ?_)
  show N - (Int32.ofNat (k + 1)).toNatClampNeg < N - (Int32.ofNat k).toNatClampNeg
  rw [n_clamp (by omega), n_clamp (by omega)]
  omega
theorem icX0_rounds_3_4 {b : Nat} {cs : Nat → ClassId} {ad : Nat → Nat} {vs : Nat → Option Nat} {o : Nat} {K65 : Int32 → Int32 → XS → Prop} {Q : XS → Prop} (N k0 : Nat) (hN : N < 2147483648) (h0 : k0 ≤ N) (P : Nat → Prop) (p1 : Nat → Int32) (p2 : Nat → Int32) (p3 : Nat → Int32) (st : Nat → XS) (hP : P k0) (step : ∀ (K3 : Int32 → Int32 → Int32 → Int32 → XS → Prop) (k : Nat), k0 ≤ k → k ≤ N → P k → (k < N → P (k + 1) → K3 (p1 (k + 1)) (p2 (k + 1)) (p3 (k + 1)) (Int32.ofNat (k + 1)) (st (k + 1))) → wbX0_rounds_3 b cs ad vs o K3 K65 Q (p1 k) (p2 k) (p3 k) (Int32.ofNat k) (st k)) : ∃ n : Nat, wlX0_rounds_3 b cs ad vs o K65 Q n (p1 k0) (p2 k0) (p3 k0) (Int32.ofNat k0) (st k0) := by
  refine ilX0_rounds_3 (fun x1 x2 x3 x4 f => ∃ k, k0 ≤ k ∧ k ≤ N ∧ P k ∧ x1 = p1 k ∧ x2 = p2 k ∧ x3 = p3 k ∧ x4 = Int32.ofNat k ∧ f = st k) (fun x1 x2 x3 x4 _ => N - x4.toNatClampNeg) ?_ _ _ _ _ _ ⟨k0, Nat.le_refl _, h0, hP, rfl, rfl, rfl, rfl, rfl⟩
  intro K x1 x2 x3 x4 f hI hK
  obtain ⟨k, h1, h2, h3, rfl, rfl, rfl, rfl, rfl⟩ := hI
  refine step K k h1 h2 h3 (fun h4 h5 => hK _ _ _ _ _ ⟨k + 1, by omega, by omega, h5, rfl, rfl, rfl, rfl, rfl⟩ ?_)
  show N - (Int32.ofNat (k + 1)).toNatClampNeg < N - (Int32.ofNat k).toNatClampNeg
  rw [n_clamp (by omega), n_clamp (by omega)]
  omega
theorem ilX0_rounds_93 {b : Nat} {cs : Nat → ClassId} {ad : Nat → Nat} {vs : Nat → Option Nat} {o : Nat} {K135 : Int32 → Int32 → Int32 → Int32 → XS → Prop} {Q : XS → Prop} (Inv : Int32 → Int32 → Int32 → Int32 → Int32 → XS → Prop) (meas : Int32 → Int32 → Int32 → Int32 → Int32 → XS → Nat) (step : ∀ (K93 : Int32 → Int32 → Int32 → Int32 → Int32 → XS → Prop) (x2 : Int32) (x3 : Int32) (x4 : Int32) (x5 : Int32) (x6 : Int32) (f : XS), Inv x2 x3 x4 x5 x6 f → (∀ (y2 : Int32) (y3 : Int32) (y4 : Int32) (y5 : Int32) (y6 : Int32) (f' : XS), Inv y2 y3 y4 y5 y6 f' → meas y2 y3 y4 y5 y6 f' < meas x2 x3 x4 x5 x6 f → K93 y2 y3 y4 y5 y6 f') → wbX0_rounds_93 b cs ad vs o K93 K135 Q x2 x3 x4 x5 x6 f) (x2 : Int32) (x3 : Int32) (x4 : Int32) (x5 : Int32) (x6 : Int32) (f : XS) (h : Inv x2 x3 x4 x5 x6 f) : ∃ n : Nat, wlX0_rounds_93 b cs ad vs o K135 Q n x2 x3 x4 x5 x6 f := by
  have key : ∀ (n : Nat) (x2 : Int32) (x3 : Int32) (x4 : Int32) (x5 : Int32) (x6 : Int32) (f : XS), Inv x2 x3 x4 x5 x6 f → meas x2 x3 x4 x5 x6 f < n → wlX0_rounds_93 b cs ad vs o K135 Q n x2 x3 x4 x5 x6 f := by
    intro n
    induction n with
    | zero => intro x2 x3 x4 x5 x6 f hI hm; exact absurd hm (Nat.not_lt_zero _)
    | succ n ih => intro x2 x3 x4 x5 x6 f hI hm; exact step _ x2 x3 x4 x5 x6 f hI (fun y2 y3 y4 y5 y6 f' hI' hlt => ih y2 y3 y4 y5 y6 f' hI' (Nat.lt_of_lt_of_le hlt (Nat.le_of_lt_succ hm)))
  exact ⟨_, key _ x2 x3 x4 x5 x6 f h (Nat.lt_succ_self _)⟩
theorem icX0_rounds_93_2 {b : Nat} {cs : Nat → ClassId} {ad : Nat → Nat} {vs : Nat → Option Nat} {o : Nat} {K135 : Int32 → Int32 → Int32 → Int32 → XS → Prop} {Q : XS → Prop} (N k0 : Nat) (hN : N < 2147483648) (h0 : k0 ≤ N) (P : Nat → Prop) (p3 : Nat → Int32) (p4 : Nat → Int32) (p5 : Nat → Int32) (p6 : Nat → Int32) (st : Nat → XS) (hP : P k0) (step : ∀ (K93 : Int32 → Int32 → Int32 → Int32 → Int32 → XS → Prop) (k : Nat), k0 ≤ k → k ≤ N → P k → (k < N → P (k + 1) → K93 (Int32.ofNat (k + 1)) (p3 (k + 1)) (p4 (k + 1)) (p5 (k + 1)) (p6 (k + 1)) (st (k + 1))) → wbX0_rounds_93 b cs ad vs o K93 K135 Q (Int32.ofNat k) (p3 k) (p4 k) (p5 k) (p6 k) (st k)) : ∃ n : Nat, wlX0_rounds_93 b cs ad vs o K135 Q n (Int32.ofNat k0) (p3 k0) (p4 k0) (p5 k0) (p6 k0) (st k0) := by
  refine ilX0_rounds_93 (fun x2 x3 x4 x5 x6 f => ∃ k, k0 ≤ k ∧ k ≤ N ∧ P k ∧ x2 = Int32.ofNat k ∧ x3 = p3 k ∧ x4 = p4 k ∧ x5 = p5 k ∧ x6 = p6 k ∧ f = st k) (fun x2 x3 x4 x5 x6 _ => N - x2.toNatClampNeg) ?_ _ _ _ _ _ _ ⟨k0, Nat.le_refl _, h0, hP, rfl, rfl, rfl, rfl, rfl, rfl⟩
  intro K x2 x3 x4 x5 x6 f hI hK
  obtain ⟨k, h1, h2, h3, rfl, rfl, rfl, rfl, rfl, rfl⟩ := hI
  refine step K k h1 h2 h3 (fun h4 h5 => hK _ _ _ _ _ _ ⟨k + 1, by omega, by omega, h5, rfl, rfl, rfl, rfl, rfl, rfl⟩ ?_)
  show N - (Int32.ofNat (k + 1)).toNatClampNeg < N - (Int32.ofNat k).toNatClampNeg
  rw [n_clamp (by omega), n_clamp (by omega)]
  omega
theorem icX0_rounds_93_3 {b : Nat} {cs : Nat → ClassId} {ad : Nat → Nat} {vs : Nat → Option Nat} {o : Nat} {K135 : Int32 → Int32 → Int32 → Int32 → XS → Prop} {Q : XS → Prop} (N k0 : Nat) (hN : N < 2147483648) (h0 : k0 ≤ N) (P : Nat → Prop) (p2 : Nat → Int32) (p4 : Nat → Int32) (p5 : Nat → Int32) (p6 : Nat → Int32) (st : Nat → XS) (hP : P k0) (step : ∀ (K93 : Int32 → Int32 → Int32 → Int32 → Int32 → XS → Prop) (k : Nat), k0 ≤ k → k ≤ N → P k → (k < N → P (k + 1) → K93 (p2 (k + 1)) (Int32.ofNat (k + 1)) (p4 (k + 1)) (p5 (k + 1)) (p6 (k + 1)) (st (k + 1))) → wbX0_rounds_93 b cs ad vs o K93 K135 Q (p2 k) (Int32.ofNat k) (p4 k) (p5 k) (p6 k) (st k)) : ∃ n : Nat, wlX0_rounds_93 b cs ad vs o K135 Q n (p2 k0) (Int32.ofNat k0) (p4 k0) (p5 k0) (p6 k0) (st k0) := by
  refine ilX0_rounds_93 (fun x2 x3 x4 x5 x6 f => ∃ k, k0 ≤ k ∧ k ≤ N ∧ P k ∧ x2 = p2 k ∧ x3 = Int32.ofNat k ∧ x4 = p4 k ∧ x5 = p5 k ∧ x6 = p6 k ∧ f = st k) (fun x2 x3 x4 x5 x6 _ => N - x3.toNatClampNeg) ?_ _ _ _ _ _ _ ⟨k0, Nat.le_refl _, h0, hP, rfl, rfl, rfl, rfl, rfl, rfl⟩
  intro K x2 x3 x4 x5 x6 f hI hK
  obtain ⟨k, h1, h2, h3, rfl, rfl, rfl, rfl, rfl, rfl⟩ := hI
  refine step K k h1 h2 h3 (fun h4 h5 => hK _ _ _ _ _ _ ⟨k + 1, by omega, by omega, h5, rfl, rfl, rfl, rfl, rfl, rfl⟩ ?_)
  show N - (Int32.ofNat (k + 1)).toNatClampNeg < N - (Int32.ofNat k).toNatClampNeg
  rw [n_clamp (by omega), n_clamp (by omega)]
  omega
theorem icX0_rounds_93_4 {b : Nat} {cs : Nat → ClassId} {ad : Nat → Nat} {vs : Nat → Option Nat} {o : Nat} {K135 : Int32 → Int32 → Int32 → Int32 → XS → Prop} {Q : XS → Prop} (N k0 : Nat) (hN : N < 2147483648) (h0 : k0 ≤ N) (P : Nat → Prop) (p2 : Nat → Int32) (p3 : Nat → Int32) (p5 : Nat → Int32) (p6 : Nat → Int32) (st : Nat → XS) (hP : P k0) (step : ∀ (K93 : Int32 → Int32 → Int32 → Int32 → Int32 → XS → Prop) (k : Nat), k0 ≤ k → k ≤ N → P k → (k < N → P (k + 1) → K93 (p2 (k + 1)) (p3 (k + 1)) (Int32.ofNat (k + 1)) (p5 (k + 1)) (p6 (k + 1)) (st (k + 1))) → wbX0_rounds_93 b cs ad vs o K93 K135 Q (p2 k) (p3 k) (Int32.ofNat k) (p5 k) (p6 k) (st k)) : ∃ n : Nat, wlX0_rounds_93 b cs ad vs o K135 Q n (p2 k0) (p3 k0) (Int32.ofNat k0) (p5 k0) (p6 k0) (st k0) := by
  refine ilX0_rounds_93 (fun x2 x3 x4 x5 x6 f => ∃ k, k0 ≤ k ∧ k ≤ N ∧ P k ∧ x2 = p2 k ∧ x3 = p3 k ∧ x4 = Int32.ofNat k ∧ x5 = p5 k ∧ x6 = p6 k ∧ f = st k) (fun x2 x3 x4 x5 x6 _ => N - x4.toNatClampNeg) ?_ _ _ _ _ _ _ ⟨k0, Nat.le_refl _, h0, hP, rfl, rfl, rfl, rfl, rfl, rfl⟩
  intro K x2 x3 x4 x5 x6 f hI hK
  obtain ⟨k, h1, h2, h3, rfl, rfl, rfl, rfl, rfl, rfl⟩ := hI
  refine step K k h1 h2 h3 (fun h4 h5 => hK _ _ _ _ _ _ ⟨k + 1, by omega, by omega, h5, rfl, rfl, rfl, rfl, rfl, rfl⟩ ?_)
  show N - (Int32.ofNat (k + 1)).toNatClampNeg < N - (Int32.ofNat k).toNatClampNeg
  rw [n_clamp (by omega), n_clamp (by omega)]
  omega
theorem icX0_rounds_93_5 {b : Nat} {cs : Nat → ClassId} {ad : Nat → Nat} {vs : Nat → Option Nat} {o : Nat} {K135 : Int32 → Int32 → Int32 → Int32 → XS → Prop} {Q : XS → Prop} (N k0 : Nat) (hN : N < 2147483648) (h0 : k0 ≤ N) (P : Nat → Prop) (p2 : Nat → Int32) (p3 : Nat → Int32) (p4 : Nat → Int32) (p6 : Nat → Int32) (st : Nat → XS) (hP : P k0) (step : ∀ (K93 : Int32 → Int32 → Int32 → Int32 → Int32 → XS → Prop) (k : Nat), k0 ≤ k → k ≤ N → P k → (k < N → P (k + 1) → K93 (p2 (k + 1)) (p3 (k + 1)) (p4 (k + 1)) (Int32.ofNat (k + 1)) (p6 (k + 1)) (st (k + 1))) → wbX0_rounds_93 b cs ad vs o K93 K135 Q (p2 k) (p3 k) (p4 k) (Int32.ofNat k) (p6 k) (st k)) : ∃ n : Nat, wlX0_rounds_93 b cs ad vs o K135 Q n (p2 k0) (p3 k0) (p4 k0) (Int32.ofNat k0) (p6 k0) (st k0) := by
  refine ilX0_rounds_93 (fun x2 x3 x4 x5 x6 f => ∃ k, k0 ≤ k ∧ k ≤ N ∧ P k ∧ x2 = p2 k ∧ x3 = p3 k ∧ x4 = p4 k ∧ x5 = Int32.ofNat k ∧ x6 = p6 k ∧ f = st k) (fun x2 x3 x4 x5 x6 _ => N - x5.toNatClampNeg) ?_ _ _ _ _ _ _ ⟨k0, Nat.le_refl _, h0, hP, rfl, rfl, rfl, rfl, rfl, rfl⟩
  intro K x2 x3 x4 x5 x6 f hI hK
  obtain ⟨k, h1, h2, h3, rfl, rfl, rfl, rfl, rfl, rfl⟩ := hI
  refine step K k h1 h2 h3 (fun h4 h5 => hK _ _ _ _ _ _ ⟨k + 1, by omega, by omega, h5, rfl, rfl, rfl, rfl, rfl, rfl⟩ ?_)
  show N - (Int32.ofNat (k + 1)).toNatClampNeg < N - (Int32.ofNat k).toNatClampNeg
  rw [n_clamp (by omega), n_clamp (by omega)]
  omega
theorem icX0_rounds_93_6 {b : Nat} {cs : Nat → ClassId} {ad : Nat → Nat} {vs : Nat → Option Nat} {o : Nat} {K135 : Int32 → Int32 → Int32 → Int32 → XS → Prop} {Q : XS → Prop} (N k0 : Nat) (hN : N < 2147483648) (h0 : k0 ≤ N) (P : Nat → Prop) (p2 : Nat → Int32) (p3 : Nat → Int32) (p4 : Nat → Int32) (p5 : Nat → Int32) (st : Nat → XS) (hP : P k0) (step : ∀ (K93 : Int32 → Int32 → Int32 → Int32 → Int32 → XS → Prop) (k : Nat), k0 ≤ k → k ≤ N → P k → (k < N → P (k + 1) → K93 (p2 (k + 1)) (p3 (k + 1)) (p4 (k + 1)) (p5 (k + 1)) (Int32.ofNat (k + 1)) (st (k + 1))) → wbX0_rounds_93 b cs ad vs o K93 K135 Q (p2 k) (p3 k) (p4 k) (p5 k) (Int32.ofNat k) (st k)) : ∃ n : Nat, wlX0_rounds_93 b cs ad vs o K135 Q n (p2 k0) (p3 k0) (p4 k0) (p5 k0) (Int32.ofNat k0) (st k0) := by
  refine ilX0_rounds_93 (fun x2 x3 x4 x5 x6 f => ∃ k, k0 ≤ k ∧ k ≤ N ∧ P k ∧ x2 = p2 k ∧ x3 = p3 k ∧ x4 = p4 k ∧ x5 = p5 k ∧ x6 = Int32.ofNat k ∧ f = st k) (fun x2 x3 x4 x5 x6 _ => N - x6.toNatClampNeg) ?_ _ _ _ _ _ _ ⟨k0, Nat.le_refl _, h0, hP, rfl, rfl, rfl, rfl, rfl, rfl⟩
  intro K x2 x3 x4 x5 x6 f hI hK
  obtain ⟨k, h1, h2, h3, rfl, rfl, rfl, rfl, rfl, rfl⟩ := hI
  refine step K k h1 h2 h3 (fun h4 h5 => hK _ _ _ _ _ _ ⟨k + 1, by omega, by omega, h5, rfl, rfl, rfl, rfl, rfl, rfl⟩ ?_)
  show N - (Int32.ofNat (k + 1)).toNatClampNeg < N - (Int32.ofNat k).toNatClampNeg
  rw [n_clamp (by omega), n_clamp (by omega)]
  omega
theorem ilX0_rounds_81 {b : Nat} {cs : Nat → ClassId} {ad : Nat → Nat} {vs : Nat → Option Nat} {o : Nat} {K141 : Int32 → Int32 → Int32 → XS → Prop} {Q : XS → Prop} (Inv : Int32 → Int32 → Int32 → Int32 → XS → Prop) (meas : Int32 → Int32 → Int32 → Int32 → XS → Nat) (step : ∀ (K81 : Int32 → Int32 → Int32 → Int32 → XS → Prop) (x2 : Int32) (x3 : Int32) (x4 : Int32) (x5 : Int32) (f : XS), Inv x2 x3 x4 x5 f → (∀ (y2 : Int32) (y3 : Int32) (y4 : Int32) (y5 : Int32) (f' : XS), Inv y2 y3 y4 y5 f' → meas y2 y3 y4 y5 f' < meas x2 x3 x4 x5 f → K81 y2 y3 y4 y5 f') → wbX0_rounds_81 b cs ad vs o K81 K141 Q x2 x3 x4 x5 f) (x2 : Int32) (x3 : Int32) (x4 : Int32) (x5 : Int32) (f : XS) (h : Inv x2 x3 x4 x5 f) : ∃ n : Nat, wlX0_rounds_81 b cs ad vs o K141 Q n x2 x3 x4 x5 f := by
  have key : ∀ (n : Nat) (x2 : Int32) (x3 : Int32) (x4 : Int32) (x5 : Int32) (f : XS), Inv x2 x3 x4 x5 f → meas x2 x3 x4 x5 f < n → wlX0_rounds_81 b cs ad vs o K141 Q n x2 x3 x4 x5 f := by
    intro n
    induction n with
    | zero => intro x2 x3 x4 x5 f hI hm; exact absurd hm (Nat.not_lt_zero _)
    | succ n ih => intro x2 x3 x4 x5 f hI hm; exact step _ x2 x3 x4 x5 f hI (fun y2 y3 y4 y5 f' hI' hlt => ih y2 y3 y4 y5 f' hI' (Nat.lt_of_lt_of_le hlt (Nat.le_of_lt_succ hm)))
  exact ⟨_, key _ x2 x3 x4 x5 f h (Nat.lt_succ_self _)⟩
theorem icX0_rounds_81_2 {b : Nat} {cs : Nat → ClassId} {ad : Nat → Nat} {vs : Nat → Option Nat} {o : Nat} {K141 : Int32 → Int32 → Int32 → XS → Prop} {Q : XS → Prop} (N k0 : Nat) (hN : N < 2147483648) (h0 : k0 ≤ N) (P : Nat → Prop) (p3 : Nat → Int32) (p4 : Nat → Int32) (p5 : Nat → Int32) (st : Nat → XS) (hP : P k0) (step : ∀ (K81 : Int32 → Int32 → Int32 → Int32 → XS → Prop) (k : Nat), k0 ≤ k → k ≤ N → P k → (k < N → P (k + 1) → K81 (Int32.ofNat (k + 1)) (p3 (k + 1)) (p4 (k + 1)) (p5 (k + 1)) (st (k + 1))) → wbX0_rounds_81 b cs ad vs o K81 K141 Q (Int32.ofNat k) (p3 k) (p4 k) (p5 k) (st k)) : ∃ n : Nat, wlX0_rounds_81 b cs ad vs o K141 Q n (Int32.ofNat k0) (p3 k0) (p4 k0) (p5 k0) (st k0) := by
  refine ilX0_rounds_81 (fun x2 x3 x4 x5 f => ∃ k, k0 ≤ k ∧ k ≤ N ∧ P k ∧ x2 = Int32.ofNat k ∧ x3 = p3 k ∧ x4 = p4 k ∧ x5 = p5 k ∧ f = st k) (fun x2 x3 x4 x5 _ => N - x2.toNatClampNeg) ?_ _ _ _ _ _ ⟨k0, Nat.le_refl _, h0, hP, rfl, rfl, rfl, rfl, rfl⟩
  intro K x2 x3 x4 x5 f hI hK
  obtain ⟨k, h1, h2, h3, rfl, rfl, rfl, rfl, rfl⟩ := hI
  refine step K k h1 h2 h3 (fun h4 h5 => hK _ _ _ _ _ ⟨k + 1, by omega, by omega, h5, rfl, rfl, rfl, rfl, rfl⟩ ?_)
  show N - (Int32.ofNat (k + 1)).toNatClampNeg < N - (Int32.ofNat k).toNatClampNeg
  rw [n_clamp (by omega), n_clamp (by omega)]
  omega
theorem icX0_rounds_81_3 {b : Nat} {cs : Nat → ClassId} {ad : Nat → Nat} {vs : Nat → Option Nat} {o : Nat} {K141 : Int32 → Int32 → Int32 → XS → Prop} {Q : XS → Prop} (N k0 : Nat) (hN : N < 2147483648) (h0 : k0 ≤ N) (P : Nat → Prop) (p2 : Nat → Int32) (p4 : Nat → Int32) (p5 : Nat → Int32) (st : Nat → XS) (hP : P k0) (step : ∀ (K81 : Int32 → Int32 → Int32 → Int32 → XS → Prop) (k : Nat), k0 ≤ k → k ≤ N → P k → (k < N → P (k + 1) → K81 (p2 (k + 1)) (Int32.ofNat (k + 1)) (p4 (k + 1)) (p5 (k + 1)) (st (k + 1))) → wbX0_rounds_81 b cs ad vs o K81 K141 Q (p2 k) (Int32.ofNat k) (p4 k) (p5 k) (st k)) : ∃ n : Nat, wlX0_rounds_81 b cs ad vs o K141 Q n (p2 k0) (Int32.ofNat k0) (p4 k0) (p5 k0) (st k0) := by
  refine ilX0_rounds_81 (fun x2 x3 x4 x5 f => ∃ k, k0 ≤ k ∧ k ≤ N ∧ P k ∧ x2 = p2 k ∧ x3 = Int32.ofNat k ∧ x4 = p4 k ∧ x5 = p5 k ∧ f = st k) (fun x2 x3 x4 x5 _ => N - x3.toNatClampNeg) ?_ _ _ _ _ _ ⟨k0, Nat.le_refl _, h0, hP, rfl, rfl, rfl, rfl, rfl⟩
  intro K x2 x3 x4 x5 f hI hK
  obtain ⟨k, h1, h2, h3, rfl, rfl, rfl, rfl, rfl⟩ := hI
  refine step K k h1 h2 h3 (fun h4 h5 => hK _ _ _ _ _ ⟨k + 1, by omega, by omega, h5, rfl, rfl, rfl, rfl, rfl⟩ ?_)
  show N - (Int32.ofNat (k + 1)).toNatClampNeg < N - (Int32.ofNat k).toNatClampNeg
  rw [n_clamp (by omega), n_clamp (by omega)]
  omega
theorem icX0_rounds_81_4 {b : Nat} {cs : Nat → ClassId} {ad : Nat → Nat} {vs : Nat → Option Nat} {o : Nat} {K141 : Int32 → Int32 → Int32 → XS → Prop} {Q : XS → Prop} (N k0 : Nat) (hN : N < 2147483648) (h0 : k0 ≤ N) (P : Nat → Prop) (p2 : Nat → Int32) (p3 : Nat → Int32) (p5 : Nat → Int32) (st : Nat → XS) (hP : P k0) (step : ∀ (K81 : Int32 → Int32 → Int32 → Int32 → XS → Prop) (k : Nat), k0 ≤ k → k ≤ N → P k → (k < N → P (k + 1) → K81 (p2 (k + 1)) (p3 (k + 1)) (Int32.ofNat (k + 1)) (p5 (k + 1)) (st (k + 1))) → wbX0_rounds_81 b cs ad vs o K81 K141 Q (p2 k) (p3 k) (Int32.ofNat k) (p5 k) (st k)) : ∃ n : Nat, wlX0_rounds_81 b cs ad vs o K141 Q n (p2 k0) (p3 k0) (Int32.ofNat k0) (p5 k0) (st k0) := by
  refine ilX0_rounds_81 (fun x2 x3 x4 x5 f => ∃ k, k0 ≤ k ∧ k ≤ N ∧ P k ∧ x2 = p2 k ∧ x3 = p3 k ∧ x4 = Int32.ofNat k ∧ x5 = p5 k ∧ f = st k) (fun x2 x3 x4 x5 _ => N - x4.toNatClampNeg) ?_ _ _ _ _ _ ⟨k0, Nat.le_refl _, h0, hP, rfl, rfl, rfl, rfl, rfl⟩
  intro K x2 x3 x4 x5 f hI hK
  obtain ⟨k, h1, h2, h3, rfl, rfl, rfl, rfl, rfl⟩ := hI
  refine step K k h1 h2 h3 (fun h4 h5 => hK _ _ _ _ _ ⟨k + 1, by omega, by omega, h5, rfl, rfl, rfl, rfl, rfl⟩ ?_)
  show N - (Int32.ofNat (k + 1)).toNatClampNeg < N - (Int32.ofNat k).toNatClampNeg
  rw [n_clamp (by omega), n_clamp (by omega)]
  omega
theorem icX0_rounds_81_5 {b : Nat} {cs : Nat → ClassId} {ad : Nat → Nat} {vs : Nat → Option Nat} {o : Nat} {K141 : Int32 → Int32 → Int32 → XS → Prop} {Q : XS → Prop} (N k0 : Nat) (hN : N < 2147483648) (h0 : k0 ≤ N) (P : Nat → Prop) (p2 : Nat → Int32) (p3 : Nat → Int32) (p4 : Nat → Int32) (st : Nat → XS) (hP : P k0) (step : ∀ (K81 : Int32 → Int32 → Int32 → Int32 → XS → Prop) (k : Nat), k0 ≤ k → k ≤ N → P k → (k < N → P (k + 1) → K81 (p2 (k + 1)) (p3 (k + 1)) (p4 (k + 1)) (Int32.ofNat (k + 1)) (st (k + 1))) → wbX0_rounds_81 b cs ad vs o K81 K141 Q (p2 k) (p3 k) (p4 k) (Int32.ofNat k) (st k)) : ∃ n : Nat, wlX0_rounds_81 b cs ad vs o K141 Q n (p2 k0) (p3 k0) (p4 k0) (Int32.ofNat k0) (st k0) := by
  refine ilX0_rounds_81 (fun x2 x3 x4 x5 f => ∃ k, k0 ≤ k ∧ k ≤ N ∧ P k ∧ x2 = p2 k ∧ x3 = p3 k ∧ x4 = p4 k ∧ x5 = Int32.ofNat k ∧ f = st k) (fun x2 x3 x4 x5 _ => N - x5.toNatClampNeg) ?_ _ _ _ _ _ ⟨k0, Nat.le_refl _, h0, hP, rfl, rfl, rfl, rfl, rfl⟩
  intro K x2 x3 x4 x5 f hI hK
  obtain ⟨k, h1, h2, h3, rfl, rfl, rfl, rfl, rfl⟩ := hI
  refine step K k h1 h2 h3 (fun h4 h5 => hK _ _ _ _ _ ⟨k + 1, by omega, by omega, h5, rfl, rfl, rfl, rfl, rfl⟩ ?_)
  show N - (Int32.ofNat (k + 1)).toNatClampNeg < N - (Int32.ofNat k).toNatClampNeg
  rw [n_clamp (by omega), n_clamp (by omega)]
  omega
theorem ilX0_rounds_73 {b : Nat} {cs : Nat → ClassId} {ad : Nat → Nat} {vs : Nat → Option Nat} {o : Nat}  {Q : XS → Prop} (Inv : Int32 → Int32 → Int32 → XS → Prop) (meas : Int32 → Int32 → Int32 → XS → Nat) (step : ∀ (K73 : Int32 → Int32 → Int32 → XS → Prop) (x2 : Int32) (x3 : Int32) (x4 : Int32) (f : XS), Inv x2 x3 x4 f → (∀ (y2 : Int32) (y3 : Int32) (y4 : Int32) (f' : XS), Inv y2 y3 y4 f' → meas y2 y3 y4 f' < meas x2 x3 x4 f → K73 y2 y3 y4 f') → wbX0_rounds_73 b cs ad vs o K73 Q x2 x3 x4 f) (x2 : Int32) (x3 : Int32) (x4 : Int32) (f : XS) (h : Inv x2 x3 x4 f) : ∃ n : Nat, wlX0_rounds_73 b cs ad vs o  Q n x2 x3 x4 f := by
  have key : ∀ (n : Nat) (x2 : Int32) (x3 : Int32) (x4 : Int32) (f : XS), Inv x2 x3 x4 f → meas x2 x3 x4 f < n → wlX0_rounds_73 b cs ad vs o  Q n x2 x3 x4 f := by
    intro n
    induction n with
    | zero => intro x2 x3 x4 f hI hm; exact absurd hm (Nat.not_lt_zero _)
    | succ n ih => intro x2 x3 x4 f hI hm; exact step _ x2 x3 x4 f hI (fun y2 y3 y4 f' hI' hlt => ih y2 y3 y4 f' hI' (Nat.lt_of_lt_of_le hlt (Nat.le_of_lt_succ hm)))
  exact ⟨_, key _ x2 x3 x4 f h (Nat.lt_succ_self _)⟩
theorem icX0_rounds_73_2 {b : Nat} {cs : Nat → ClassId} {ad : Nat → Nat} {vs : Nat → Option Nat} {o : Nat}  {Q : XS → Prop} (N k0 : Nat) (hN : N < 2147483648) (h0 : k0 ≤ N) (P : Nat → Prop) (p3 : Nat → Int32) (p4 : Nat → Int32) (st : Nat → XS) (hP : P k0) (step : ∀ (K73 : Int32 → Int32 → Int32 → XS → Prop) (k : Nat), k0 ≤ k → k ≤ N → P k → (k < N → P (k + 1) → K73 (Int32.ofNat (k + 1)) (p3 (k + 1)) (p4 (k + 1)) (st (k + 1))) → wbX0_rounds_73 b cs ad vs o K73 Q (Int32.ofNat k) (p3 k) (p4 k) (st k)) : ∃ n : Nat, wlX0_rounds_73 b cs ad vs o  Q n (Int32.ofNat k0) (p3 k0) (p4 k0) (st k0) := by
  refine ilX0_rounds_73 (fun x2 x3 x4 f => ∃ k, k0 ≤ k ∧ k ≤ N ∧ P k ∧ x2 = Int32.ofNat k ∧ x3 = p3 k ∧ x4 = p4 k ∧ f = st k) (fun x2 x3 x4 _ => N - x2.toNatClampNeg) ?_ _ _ _ _ ⟨k0, Nat.le_refl _, h0, hP, rfl, rfl, rfl, rfl⟩
  intro K x2 x3 x4 f hI hK
  obtain ⟨k, h1, h2, h3, rfl, rfl, rfl, rfl⟩ := hI
  refine step K k h1 h2 h3 (fun h4 h5 => hK _ _ _ _ ⟨k + 1, by omega, by omega, h5, rfl, rfl, rfl, rfl⟩ ?_)
  show N - (Int32.ofNat (k + 1)).toNatClampNeg < N - (Int32.ofNat k).toNatClampNeg
  rw [n_clamp (by omega), n_clamp (by omega)]
  omega
theorem icX0_rounds_73_3 {b : Nat} {cs : Nat → ClassId} {ad : Nat → Nat} {vs : Nat → Option Nat} {o : Nat}  {Q : XS → Prop} (N k0 : Nat) (hN : N < 2147483648) (h0 : k0 ≤ N) (P : Nat → Prop) (p2 : Nat → Int32) (p4 : Nat → Int32) (st : Nat → XS) (hP : P k0) (step : ∀ (K73 : Int32 → Int32 → Int32 → XS → Prop) (k : Nat), k0 ≤ k → k ≤ N → P k → (k < N → P (k + 1) → K73 (p2 (k + 1)) (Int32.ofNat (k + 1)) (p4 (k + 1)) (st (k + 1))) → wbX0_rounds_73 b cs ad vs o K73 Q (p2 k) (Int32.ofNat k) (p4 k) (st k)) : ∃ n : Nat, wlX0_rounds_73 b cs ad vs o  Q n (p2 k0) (Int32.ofNat k0) (p4 k0) (st k0) := by
  refine ilX0_rounds_73 (fun x2 x3 x4 f => ∃ k, k0 ≤ k ∧ k ≤ N ∧ P k ∧ x2 = p2 k ∧ x3 = Int32.ofNat k ∧ x4 = p4 k ∧ f = st k) (fun x2 x3 x4 _ => N - x3.toNatClampNeg) ?_ _ _ _ _ ⟨k0, Nat.le_refl _, h0, hP, rfl, rfl, rfl, rfl⟩
  intro K x2 x3 x4 f hI hK
  obtain ⟨k, h1, h2, h3, rfl, rfl, rfl, rfl⟩ := hI
  refine step K k h1 h2 h3 (fun h4 h5 => hK _ _ _ _ ⟨k + 1, by omega, by omega, h5, rfl, rfl, rfl, rfl⟩ ?_)
  show N - (Int32.ofNat (k + 1)).toNatClampNeg < N - (Int32.ofNat k).toNatClampNeg
  rw [n_clamp (by omega), n_clamp (by omega)]
  omega
theorem icX0_rounds_73_4 {b : Nat} {cs : Nat → ClassId} {ad : Nat → Nat} {vs : Nat → Option Nat} {o : Nat}  {Q : XS → Prop} (N k0 : Nat) (hN : N < 2147483648) (h0 : k0 ≤ N) (P : Nat → Prop) (p2 : Nat → Int32) (p3 : Nat → Int32) (st : Nat → XS) (hP : P k0) (step : ∀ (K73 : Int32 → Int32 → Int32 → XS → Prop) (k : Nat), k0 ≤ k → k ≤ N → P k → (k < N → P (k + 1) → K73 (p2 (k + 1)) (p3 (k + 1)) (Int32.ofNat (k + 1)) (st (k + 1))) → wbX0_rounds_73 b cs ad vs o K73 Q (p2 k) (p3 k) (Int32.ofNat k) (st k)) : ∃ n : Nat, wlX0_rounds_73 b cs ad vs o  Q n (p2 k0) (p3 k0) (Int32.ofNat k0) (st k0) := by
  refine ilX0_rounds_73 (fun x2 x3 x4 f => ∃ k, k0 ≤ k ∧ k ≤ N ∧ P k ∧ x2 = p2 k ∧ x3 = p3 k ∧ x4 = Int32.ofNat k ∧ f = st k) (fun x2 x3 x4 _ => N - x4.toNatClampNeg) ?_ _ _ _ _ ⟨k0, Nat.le_refl _, h0, hP, rfl, rfl, rfl, rfl⟩
  intro K x2 x3 x4 f hI hK
  obtain ⟨k, h1, h2, h3, rfl, rfl, rfl, rfl⟩ := hI
  refine step K k h1 h2 h3 (fun h4 h5 => hK _ _ _ _ ⟨k + 1, by omega, by omega, h5, rfl, rfl, rfl, rfl⟩ ?_)
  show N - (Int32.ofNat (k + 1)).toNatClampNeg < N - (Int32.ofNat k).toNatClampNeg
  rw [n_clamp (by omega), n_clamp (by omega)]
  omega
theorem ilX0_round_72 {b : Nat} {cs : Nat → ClassId} {ad : Nat → Nat} {vs : Nat → Option Nat} {o : Nat} {K170 : Int32 → Int32 → Int32 → Int32 → Int32 → XS → Prop} {Q : Int32 → XS → Prop} (Inv : Int32 → Int32 → Int32 → Int32 → Int32 → Int32 → XS → Prop) (meas : Int32 → Int32 → Int32 → Int32 → Int32 → Int32 → XS → Nat) (step : ∀ (K72 : Int32 → Int32 → Int32 → Int32 → Int32 → Int32 → XS → Prop) (x4 : Int32) (x5 : Int32) (x6 : Int32) (x7 : Int32) (x8 : Int32) (x9 : Int32) (f : XS), Inv x4 x5 x6 x7 x8 x9 f → (∀ (y4 : Int32) (y5 : Int32) (y6 : Int32) (y7 : Int32) (y8 : Int32) (y9 : Int32) (f' : XS), Inv y4 y5 y6 y7 y8 y9 f' → meas y4 y5 y6 y7 y8 y9 f' < meas x4 x5 x6 x7 x8 x9 f → K72 y4 y5 y6 y7 y8 y9 f') → wbX0_round_72 b cs ad vs o K72 K170 Q x4 x5 x6 x7 x8 x9 f) (x4 : Int32) (x5 : Int32) (x6 : Int32) (x7 : Int32) (x8 : Int32) (x9 : Int32) (f : XS) (h : Inv x4 x5 x6 x7 x8 x9 f) : ∃ n : Nat, wlX0_round_72 b cs ad vs o K170 Q n x4 x5 x6 x7 x8 x9 f := by
  have key : ∀ (n : Nat) (x4 : Int32) (x5 : Int32) (x6 : Int32) (x7 : Int32) (x8 : Int32) (x9 : Int32) (f : XS), Inv x4 x5 x6 x7 x8 x9 f → meas x4 x5 x6 x7 x8 x9 f < n → wlX0_round_72 b cs ad vs o K170 Q n x4 x5 x6 x7 x8 x9 f := by
    intro n
    induction n with
    | zero => intro x4 x5 x6 x7 x8 x9 f hI hm; exact absurd hm (Nat.not_lt_zero _)
    | succ n ih => intro x4 x5 x6 x7 x8 x9 f hI hm; exact step _ x4 x5 x6 x7 x8 x9 f hI (fun y4 y5 y6 y7 y8 y9 f' hI' hlt => ih y4 y5 y6 y7 y8 y9 f' hI' (Nat.lt_of_lt_of_le hlt (Nat.le_of_lt_succ hm)))
  exact ⟨_, key _ x4 x5 x6 x7 x8 x9 f h (Nat.lt_succ_self _)⟩
theorem icX0_round_72_4 {b : Nat} {cs : Nat → ClassId} {ad : Nat → Nat} {vs : Nat → Option Nat} {o : Nat} {K170 : Int32 → Int32 → Int32 → Int32 → Int32 → XS → Prop} {Q : Int32 → XS → Prop} (N k0 : Nat) (hN : N < 2147483648) (h0 : k0 ≤ N) (P : Nat → Prop) (p5 : Nat → Int32) (p6 : Nat → Int32) (p7 : Nat → Int32) (p8 : Nat → Int32) (p9 : Nat → Int32) (st : Nat → XS) (hP : P k0) (step : ∀ (K72 : Int32 → Int32 → Int32 → Int32 → Int32 → Int32 → XS → Prop) (k : Nat), k0 ≤ k → k ≤ N → P k → (k < N → P (k + 1) → K72 (Int32.ofNat (k + 1)) (p5 (k + 1)) (p6 (k + 1)) (p7 (k + 1)) (p8 (k + 1)) (p9 (k + 1)) (st (k + 1))) → wbX0_round_72 b cs ad vs o K72 K170 Q (Int32.ofNat k) (p5 k) (p6 k) (p7 k) (p8 k) (p9 k) (st k)) : ∃ n : Nat, wlX0_round_72 b cs ad vs o K170 Q n (Int32.ofNat k0) (p5 k0) (p6 k0) (p7 k0) (p8 k0) (p9 k0) (st k0) := by
  refine ilX0_round_72 (fun x4 x5 x6 x7 x8 x9 f => ∃ k, k0 ≤ k ∧ k ≤ N ∧ P k ∧ x4 = Int32.ofNat k ∧ x5 = p5 k ∧ x6 = p6 k ∧ x7 = p7 k ∧ x8 = p8 k ∧ x9 = p9 k ∧ f = st k) (fun x4 x5 x6 x7 x8 x9 _ => N - x4.toNatClampNeg) ?_ _ _ _ _ _ _ _ ⟨k0, Nat.le_refl _, h0, hP, rfl, rfl, rfl, rfl, rfl, rfl, rfl⟩
  intro K x4 x5 x6 x7 x8 x9 f hI hK
  obtain ⟨k, h1, h2, h3, rfl, rfl, rfl, rfl, rfl, rfl, rfl⟩ := hI
  refine step K k h1 h2 h3 (fun h4 h5 => hK _ _ _ _ _ _ _ ⟨k + 1, by omega, by omega, h5, rfl, rfl, rfl, rfl, rfl, rfl, rfl⟩ ?_)
  show N - (Int32.ofNat (k + 1)).toNatClampNeg < N - (Int32.ofNat k).toNatClampNeg
  rw [n_clamp (by omega), n_clamp (by omega)]
  omega
theorem icX0_round_72_5 {b : Nat} {cs : Nat → ClassId} {ad : Nat → Nat} {vs : Nat → Option Nat} {o : Nat} {K170 : Int32 → Int32 → Int32 → Int32 → Int32 → XS → Prop} {Q : Int32 → XS → Prop} (N k0 : Nat) (hN : N < 2147483648) (h0 : k0 ≤ N) (P : Nat → Prop) (p4 : Nat → Int32) (p6 : Nat → Int32) (p7 : Nat → Int32) (p8 : Nat → Int32) (p9 : Nat → Int32) (st : Nat → XS) (hP : P k0) (step : ∀ (K72 : Int32 → Int32 → Int32 → Int32 → Int32 → Int32 → XS → Prop) (k : Nat), k0 ≤ k → k ≤ N → P k → (k < N → P (k + 1) → K72 (p4 (k + 1)) (Int32.ofNat (k + 1)) (p6 (k + 1)) (p7 (k + 1)) (p8 (k + 1)) (p9 (k + 1)) (st (k + 1))) → wbX0_round_72 b cs ad vs o K72 K170 Q (p4 k) (Int32.ofNat k) (p6 k) (p7 k) (p8 k) (p9 k) (st k)) : ∃ n : Nat, wlX0_round_72 b cs ad vs o K170 Q n (p4 k0) (Int32.ofNat k0) (p6 k0) (p7 k0) (p8 k0) (p9 k0) (st k0) := by
  refine ilX0_round_72 (fun x4 x5 x6 x7 x8 x9 f => ∃ k, k0 ≤ k ∧ k ≤ N ∧ P k ∧ x4 = p4 k ∧ x5 = Int32.ofNat k ∧ x6 = p6 k ∧ x7 = p7 k ∧ x8 = p8 k ∧ x9 = p9 k ∧ f = st k) (fun x4 x5 x6 x7 x8 x9 _ => N - x5.toNatClampNeg) ?_ _ _ _ _ _ _ _ ⟨k0, Nat.le_refl _, h0, hP, rfl, rfl, rfl, rfl, rfl, rfl, rfl⟩
  intro K x4 x5 x6 x7 x8 x9 f hI hK
  obtain ⟨k, h1, h2, h3, rfl, rfl, rfl, rfl, rfl, rfl, rfl⟩ := hI
  refine step K k h1 h2 h3 (fun h4 h5 => hK _ _ _ _ _ _ _ ⟨k + 1, by omega, by omega, h5, rfl, rfl, rfl, rfl, rfl, rfl, rfl⟩ ?_)
  show N - (Int32.ofNat (k + 1)).toNatClampNeg < N - (Int32.ofNat k).toNatClampNeg
  rw [n_clamp (by omega), n_clamp (by omega)]
  omega
theorem icX0_round_72_6 {b : Nat} {cs : Nat → ClassId} {ad : Nat → Nat} {vs : Nat → Option Nat} {o : Nat} {K170 : Int32 → Int32 → Int32 → Int32 → Int32 → XS → Prop} {Q : Int32 → XS → Prop} (N k0 : Nat) (hN : N < 2147483648) (h0 : k0 ≤ N) (P : Nat → Prop) (p4 : Nat → Int32) (p5 : Nat → Int32) (p7 : Nat → Int32) (p8 : Nat → Int32) (p9 : Nat → Int32) (st : Nat → XS) (hP : P k0) (step : ∀ (K72 : Int32 → Int32 → Int32 → Int32 → Int32 → Int32 → XS → Prop) (k : Nat), k0 ≤ k → k ≤ N → P k → (k < N → P (k + 1) → K72 (p4 (k + 1)) (p5 (k + 1)) (Int32.ofNat (k + 1)) (p7 (k + 1)) (p8 (k + 1)) (p9 (k + 1)) (st (k + 1))) → wbX0_round_72 b cs ad vs o K72 K170 Q (p4 k) (p5 k) (Int32.ofNat k) (p7 k) (p8 k) (p9 k) (st k)) : ∃ n : Nat, wlX0_round_72 b cs ad vs o K170 Q n (p4 k0) (p5 k0) (Int32.ofNat k0) (p7 k0) (p8 k0) (p9 k0) (st k0) := by
  refine ilX0_round_72 (fun x4 x5 x6 x7 x8 x9 f => ∃ k, k0 ≤ k ∧ k ≤ N ∧ P k ∧ x4 = p4 k ∧ x5 = p5 k ∧ x6 = Int32.ofNat k ∧ x7 = p7 k ∧ x8 = p8 k ∧ x9 = p9 k ∧ f = st k) (fun x4 x5 x6 x7 x8 x9 _ => N - x6.toNatClampNeg) ?_ _ _ _ _ _ _ _ ⟨k0, Nat.le_refl _, h0, hP, rfl, rfl, rfl, rfl, rfl, rfl, rfl⟩
  intro K x4 x5 x6 x7 x8 x9 f hI hK
  obtain ⟨k, h1, h2, h3, rfl, rfl, rfl, rfl, rfl, rfl, rfl⟩ := hI
  refine step K k h1 h2 h3 (fun h4 h5 => hK _ _ _ _ _ _ _ ⟨k + 1, by omega, by omega, h5, rfl, rfl, rfl, rfl, rfl, rfl, rfl⟩ ?_)
  show N - (Int32.ofNat (k + 1)).toNatClampNeg < N - (Int32.ofNat k).toNatClampNeg
  rw [n_clamp (by omega), n_clamp (by omega)]
  omega
theorem icX0_round_72_7 {b : Nat} {cs : Nat → ClassId} {ad : Nat → Nat} {vs : Nat → Option Nat} {o : Nat} {K170 : Int32 → Int32 → Int32 → Int32 → Int32 → XS → Prop} {Q : Int32 → XS → Prop} (N k0 : Nat) (hN : N < 2147483648) (h0 : k0 ≤ N) (P : Nat → Prop) (p4 : Nat → Int32) (p5 : Nat → Int32) (p6 : Nat → Int32) (p8 : Nat → Int32) (p9 : Nat → Int32) (st : Nat → XS) (hP : P k0) (step : ∀ (K72 : Int32 → Int32 → Int32 → Int32 → Int32 → Int32 → XS → Prop) (k : Nat), k0 ≤ k → k ≤ N → P k → (k < N → P (k + 1) → K72 (p4 (k + 1)) (p5 (k + 1)) (p6 (k + 1)) (Int32.ofNat (k + 1)) (p8 (k + 1)) (p9 (k + 1)) (st (k + 1))) → wbX0_round_72 b cs ad vs o K72 K170 Q (p4 k) (p5 k) (p6 k) (Int32.ofNat k) (p8 k) (p9 k) (st k)) : ∃ n : Nat, wlX0_round_72 b cs ad vs o K170 Q n (p4 k0) (p5 k0) (p6 k0) (Int32.ofNat k0) (p8 k0) (p9 k0) (st k0) := by
  refine ilX0_round_72 (fun x4 x5 x6 x7 x8 x9 f => ∃ k, k0 ≤ k ∧ k ≤ N ∧ P k ∧ x4 = p4 k ∧ x5 = p5 k ∧ x6 = p6 k ∧ x7 = Int32.ofNat k ∧ x8 = p8 k ∧ x9 = p9 k ∧ f = st k) (fun x4 x5 x6 x7 x8 x9 _ => N - x7.toNatClampNeg) ?_ _ _ _ _ _ _ _ ⟨k0, Nat.le_refl _, h0, hP, rfl, rfl, rfl, rfl, rfl, rfl, rfl⟩
  intro K x4 x5 x6 x7 x8 x9 f hI hK
  obtain ⟨k, h1, h2, h3, rfl, rfl, rfl, rfl, rfl, rfl, rfl⟩ := hI
  refine step K k h1 h2 h3 (fun h4 h5 => hK _ _ _ _ _ _ _ ⟨k + 1, by omega, by omega, h5, rfl, rfl, rfl, rfl, rfl, rfl, rfl⟩ ?_)
  show N - (Int32.ofNat (k + 1)).toNatClampNeg < N - (Int32.ofNat k).toNatClampNeg
  rw [n_clamp (by omega), n_clamp (by omega)]
  omega
theorem icX0_round_72_8 {b : Nat} {cs : Nat → ClassId} {ad : Nat → Nat} {vs : Nat → Option Nat} {o : Nat} {K170 : Int32 → Int32 → Int32 → Int32 → Int32 → XS → Prop} {Q : Int32 → XS → Prop} (N k0 : Nat) (hN : N < 2147483648) (h0 : k0 ≤ N) (P : Nat → Prop) (p4 : Nat → Int32) (p5 : Nat → Int32) (p6 : Nat → Int32) (p7 : Nat → Int32) (p9 : Nat → Int32) (st : Nat → XS) (hP : P k0) (step : ∀ (K72 : Int32 → Int32 → Int32 → Int32 → Int32 → Int32 → XS → Prop) (k : Nat), k0 ≤ k → k ≤ N → P k → (k < N → P (k + 1) → K72 (p4 (k + 1)) (p5 (k + 1)) (p6 (k + 1)) (p7 (k + 1)) (Int32.ofNat (k + 1)) (p9 (k + 1)) (st (k + 1))) → wbX0_round_72 b cs ad vs o K72 K170 Q (p4 k) (p5 k) (p6 k) (p7 k) (Int32.ofNat k) (p9 k) (st k)) : ∃ n : Nat, wlX0_round_72 b cs ad vs o K170 Q n (p4 k0) (p5 k0) (p6 k0) (p7 k0) (Int32.ofNat k0) (p9 k0) (st k0) := by
  refine ilX0_round_72 (fun x4 x5 x6 x7 x8 x9 f => ∃ k, k0 ≤ k ∧ k ≤ N ∧ P k ∧ x4 = p4 k ∧ x5 = p5 k ∧ x6 = p6 k ∧ x7 = p7 k ∧ x8 = Int32.ofNat k ∧ x9 = p9 k ∧ f = st k) (fun x4 x5 x6 x7 x8 x9 _ => N - x8.toNatClampNeg) ?_ _ _ _ _ _ _ _ ⟨k0, Nat.le_refl _, h0, hP, rfl, rfl, rfl, rfl, rfl, rfl, rfl⟩
  intro K x4 x5 x6 x7 x8 x9 f hI hK
  obtain ⟨k, h1, h2, h3, rfl, rfl, rfl, rfl, rfl, rfl, rfl⟩ := hI
  refine step K k h1 h2 h3 (fun h4 h5 => hK _ _ _ _ _ _ _ ⟨k + 1, by omega, by omega, h5, rfl, rfl, rfl, rfl, rfl, rfl, rfl⟩ ?_)
  show N - (Int32.ofNat (k + 1)).toNatClampNeg < N - (Int32.ofNat k).toNatClampNeg
  rw [n_clamp (by omega), n_clamp (by omega)]
  omega
theorem icX0_round_72_9 {b : Nat} {cs : Nat → ClassId} {ad : Nat → Nat} {vs : Nat → Option Nat} {o : Nat} {K170 : Int32 → Int32 → Int32 → Int32 → Int32 → XS → Prop} {Q : Int32 → XS → Prop} (N k0 : Nat) (hN : N < 2147483648) (h0 : k0 ≤ N) (P : Nat → Prop) (p4 : Nat → Int32) (p5 : Nat → Int32) (p6 : Nat → Int32) (p7 : Nat → Int32) (p8 : Nat → Int32) (st : Nat → XS) (hP : P k0) (step : ∀ (K72 : Int32 → Int32 → Int32 → Int32 → Int32 → Int32 → XS → Prop) (k : Nat), k0 ≤ k → k ≤ N → P k → (k < N → P (k + 1) → K72 (p4 (k + 1)) (p5 (k + 1)) (p6 (k + 1)) (p7 (k + 1)) (p8 (k + 1)) (Int32.ofNat (k + 1)) (st (k + 1))) → wbX0_round_72 b cs ad vs o K72 K170 Q (p4 k) (p5 k) (p6 k) (p7 k) (p8 k) (Int32.ofNat k) (st k)) : ∃ n : Nat, wlX0_round_72 b cs ad vs o K170 Q n (p4 k0) (p5 k0) (p6 k0) (p7 k0) (p8 k0) (Int32.ofNat k0) (st k0) := by
  refine ilX0_round_72 (fun x4 x5 x6 x7 x8 x9 f => ∃ k, k0 ≤ k ∧ k ≤ N ∧ P k ∧ x4 = p4 k ∧ x5 = p5 k ∧ x6 = p6 k ∧ x7 = p7 k ∧ x8 = p8 k ∧ x9 = Int32.ofNat k ∧ f = st k) (fun x4 x5 x6 x7 x8 x9 _ => N - x9.toNatClampNeg) ?_ _ _ _ _ _ _ _ ⟨k0, Nat.le_refl _, h0, hP, rfl, rfl, rfl, rfl, rfl, rfl, rfl⟩
  intro K x4 x5 x6 x7 x8 x9 f hI hK
  obtain ⟨k, h1, h2, h3, rfl, rfl, rfl, rfl, rfl, rfl, rfl⟩ := hI
  refine step K k h1 h2 h3 (fun h4 h5 => hK _ _ _ _ _ _ _ ⟨k + 1, by omega, by omega, h5, rfl, rfl, rfl, rfl, rfl, rfl, rfl⟩ ?_)
  show N - (Int32.ofNat (k + 1)).toNatClampNeg < N - (Int32.ofNat k).toNatClampNeg
  rw [n_clamp (by omega), n_clamp (by omega)]
  omega
theorem ilX0_round_60 {b : Nat} {cs : Nat → ClassId} {ad : Nat → Nat} {vs : Nat → Option Nat} {o : Nat}  {Q : Int32 → XS → Prop} (Inv : Int32 → Int32 → Int32 → Int32 → Int32 → XS → Prop) (meas : Int32 → Int32 → Int32 → Int32 → Int32 → XS → Nat) (step : ∀ (K60 : Int32 → Int32 → Int32 → Int32 → Int32 → XS → Prop) (x4 : Int32) (x5 : Int32) (x6 : Int32) (x7 : Int32) (x8 : Int32) (f : XS), Inv x4 x5 x6 x7 x8 f → (∀ (y4 : Int32) (y5 : Int32) (y6 : Int32) (y7 : Int32) (y8 : Int32) (f' : XS), Inv y4 y5 y6 y7 y8 f' → meas y4 y5 y6 y7 y8 f' < meas x4 x5 x6 x7 x8 f → K60 y4 y5 y6 y7 y8 f') → wbX0_round_60 b cs ad vs o K60 Q x4 x5 x6 x7 x8 f) (x4 : Int32) (x5 : Int32) (x6 : Int32) (x7 : Int32) (x8 : Int32) (f : XS) (h : Inv x4 x5 x6 x7 x8 f) : ∃ n : Nat, wlX0_round_60 b cs ad vs o  Q n x4 x5 x6 x7 x8 f := by
  have key : ∀ (n : Nat) (x4 : Int32) (x5 : Int32) (x6 : Int32) (x7 : Int32) (x8 : Int32) (f : XS), Inv x4 x5 x6 x7 x8 f → meas x4 x5 x6 x7 x8 f < n → wlX0_round_60 b cs ad vs o  Q n x4 x5 x6 x7 x8 f := by
    intro n
    induction n with
    | zero => intro x4 x5 x6 x7 x8 f hI hm; exact absurd hm (Nat.not_lt_zero _)
    | succ n ih => intro x4 x5 x6 x7 x8 f hI hm; exact step _ x4 x5 x6 x7 x8 f hI (fun y4 y5 y6 y7 y8 f' hI' hlt => ih y4 y5 y6 y7 y8 f' hI' (Nat.lt_of_lt_of_le hlt (Nat.le_of_lt_succ hm)))
  exact ⟨_, key _ x4 x5 x6 x7 x8 f h (Nat.lt_succ_self _)⟩
theorem icX0_round_60_4 {b : Nat} {cs : Nat → ClassId} {ad : Nat → Nat} {vs : Nat → Option Nat} {o : Nat}  {Q : Int32 → XS → Prop} (N k0 : Nat) (hN : N < 2147483648) (h0 : k0 ≤ N) (P : Nat → Prop) (p5 : Nat → Int32) (p6 : Nat → Int32) (p7 : Nat → Int32) (p8 : Nat → Int32) (st : Nat → XS) (hP : P k0) (step : ∀ (K60 : Int32 → Int32 → Int32 → Int32 → Int32 → XS → Prop) (k : Nat), k0 ≤ k → k ≤ N → P k → (k < N → P (k + 1) → K60 (Int32.ofNat (k + 1)) (p5 (k + 1)) (p6 (k + 1)) (p7 (k + 1)) (p8 (k + 1)) (st (k + 1))) → wbX0_round_60 b cs ad vs o K60 Q (Int32.ofNat k) (p5 k) (p6 k) (p7 k) (p8 k) (st k)) : ∃ n : Nat, wlX0_round_60 b cs ad vs o  Q n (Int32.ofNat k0) (p5 k0) (p6 k0) (p7 k0) (p8 k0) (st k0) := by
  refine ilX0_round_60 (fun x4 x5 x6 x7 x8 f => ∃ k, k0 ≤ k ∧ k ≤ N ∧ P k ∧ x4 = Int32.ofNat k ∧ x5 = p5 k ∧ x6 = p6 k ∧ x7 = p7 k ∧ x8 = p8 k ∧ f = st k) (fun x4 x5 x6 x7 x8 _ => N - x4.toNatClampNeg) ?_ _ _ _ _ _ _ ⟨k0, Nat.le_refl _, h0, hP, rfl, rfl, rfl, rfl, rfl, rfl⟩
  intro K x4 x5 x6 x7 x8 f hI hK
  obtain ⟨k, h1, h2, h3, rfl, rfl, rfl, rfl, rfl, rfl⟩ := hI
  refine step K k h1 h2 h3 (fun h4 h5 => hK _ _ _ _ _ _ ⟨k + 1, by omega, by omega, h5, rfl, rfl, rfl, rfl, rfl, rfl⟩ ?_)
  show N - (Int32.ofNat (k + 1)).toNatClampNeg < N - (Int32.ofNat k).toNatClampNeg
  rw [n_clamp (by omega), n_clamp (by omega)]
  omega
theorem icX0_round_60_5 {b : Nat} {cs : Nat → ClassId} {ad : Nat → Nat} {vs : Nat → Option Nat} {o : Nat}  {Q : Int32 → XS → Prop} (N k0 : Nat) (hN : N < 2147483648) (h0 : k0 ≤ N) (P : Nat → Prop) (p4 : Nat → Int32) (p6 : Nat → Int32) (p7 : Nat → Int32) (p8 : Nat → Int32) (st : Nat → XS) (hP : P k0) (step : ∀ (K60 : Int32 → Int32 → Int32 → Int32 → Int32 → XS → Prop) (k : Nat), k0 ≤ k → k ≤ N → P k → (k < N → P (k + 1) → K60 (p4 (k + 1)) (Int32.ofNat (k + 1)) (p6 (k + 1)) (p7 (k + 1)) (p8 (k + 1)) (st (k + 1))) → wbX0_round_60 b cs ad vs o K60 Q (p4 k) (Int32.ofNat k) (p6 k) (p7 k) (p8 k) (st k)) : ∃ n : Nat, wlX0_round_60 b cs ad vs o  Q n (p4 k0) (Int32.ofNat k0) (p6 k0) (p7 k0) (p8 k0) (st k0) := by
  refine ilX0_round_60 (fun x4 x5 x6 x7 x8 f => ∃ k, k0 ≤ k ∧ k ≤ N ∧ P k ∧ x4 = p4 k ∧ x5 = Int32.ofNat k ∧ x6 = p6 k ∧ x7 = p7 k ∧ x8 = p8 k ∧ f = st k) (fun x4 x5 x6 x7 x8 _ => N - x5.toNatClampNeg) ?_ _ _ _ _ _ _ ⟨k0, Nat.le_refl _, h0, hP, rfl, rfl, rfl, rfl, rfl, rfl⟩
  intro K x4 x5 x6 x7 x8 f hI hK
  obtain ⟨k, h1, h2, h3, rfl, rfl, rfl, rfl, rfl, rfl⟩ := hI
  refine step K k h1 h2 h3 (fun h4 h5 => hK _ _ _ _ _ _ ⟨k + 1, by omega, by omega, h5, rfl, rfl, rfl, rfl, rfl, rfl⟩ ?_)
  show N - (Int32.ofNat (k + 1)).toNatClampNeg < N - (Int32.ofNat k).toNatClampNeg
  rw [n_clamp (by omega), n_clamp (by omega)]
  omega
theorem icX0_round_60_6 {b : Nat} {cs : Nat → ClassId} {ad : Nat → Nat} {vs : Nat → Option Nat} {o : Nat}  {Q : Int32 → XS → Prop} (N k0 : Nat) (hN : N < 2147483648) (h0 : k0 ≤ N) (P : Nat → Prop) (p4 : Nat → Int32) (p5 : Nat → Int32) (p7 : Nat → Int32) (p8 : Nat → Int32) (st : Nat → XS) (hP : P k0) (step : ∀ (K60 : Int32 → Int32 → Int32 → Int32 → Int32 → XS → Prop) (k : Nat), k0 ≤ k → k ≤ N → P k → (k < N → P (k + 1) → K60 (p4 (k + 1)) (p5 (k + 1)) (Int32.ofNat (k + 1)) (p7 (k + 1)) (p8 (k + 1)) (st (k + 1))) → wbX0_round_60 b cs ad vs o K60 Q (p4 k) (p5 k) (Int32.ofNat k) (p7 k) (p8 k) (st k)) : ∃ n : Nat, wlX0_round_60 b cs ad vs o  Q n (p4 k0) (p5 k0) (Int32.ofNat k0) (p7 k0) (p8 k0) (st k0) := by
  refine ilX0_round_60 (fun x4 x5 x6 x7 x8 f => ∃ k, k0 ≤ k ∧ k ≤ N ∧ P k ∧ x4 = p4 k ∧ x5 = p5 k ∧ x6 = Int32.ofNat k ∧ x7 = p7 k ∧ x8 = p8 k ∧ f = st k) (fun x4 x5 x6 x7 x8 _ => N - x6.toNatClampNeg) ?_ _ _ _ _ _ _ ⟨k0, Nat.le_refl _, h0, hP, rfl, rfl, rfl, rfl, rfl, rfl⟩
  intro K x4 x5 x6 x7 x8 f hI hK
  obtain ⟨k, h1, h2, h3, rfl, rfl, rfl, rfl, rfl, rfl⟩ := hI
  refine step K k h1 h2 h3 (fun h4 h5 => hK _ _ _ _ _ _ ⟨k + 1, by omega, by omega, h5, rfl, rfl, rfl, rfl, rfl, rfl⟩ ?_)
  show N - (Int32.ofNat (k + 1)).toNatClampNeg < N - (Int32.ofNat k).toNatClampNeg
  rw [n_clamp (by omega), n_clamp (by omega)]
  omega
theorem icX0_round_60_7 {b : Nat} {cs : Nat → ClassId} {ad : Nat → Nat} {vs : Nat → Option Nat} {o : Nat}  {Q : Int32 → XS → Prop} (N k0 : Nat) (hN : N < 2147483648) (h0 : k0 ≤ N) (P : Nat → Prop) (p4 : Nat → Int32) (p5 : Nat → Int32) (p6 : Nat → Int32) (p8 : Nat → Int32) (st : Nat → XS) (hP : P k0) (step : ∀ (K60 : Int32 → Int32 → Int32 → Int32 → Int32 → XS → Prop) (k : Nat), k0 ≤ k → k ≤ N → P k → (k < N → P (k + 1) → K60 (p4 (k + 1)) (p5 (k + 1)) (p6 (k + 1)) (Int32.ofNat (k + 1)) (p8 (k + 1)) (st (k + 1))) → wbX0_round_60 b cs ad vs o K60 Q (p4 k) (p5 k) (p6 k) (Int32.ofNat k) (p8 k) (st k)) : ∃ n : Nat, wlX0_round_60 b cs ad vs o  Q n (p4 k0) (p5 k0) (p6 k0) (Int32.ofNat k0) (p8 k0) (st k0) := by
  refine ilX0_round_60 (fun x4 x5 x6 x7 x8 f => ∃ k, k0 ≤ k ∧ k ≤ N ∧ P k ∧ x4 = p4 k ∧ x5 = p5 k ∧ x6 = p6 k ∧ x7 = Int32.ofNat k ∧ x8 = p8 k ∧ f = st k) (fun x4 x5 x6 x7 x8 _ => N - x7.toNatClampNeg) ?_ _ _ _ _ _ _ ⟨k0, Nat.le_refl _, h0, hP, rfl, rfl, rfl, rfl, rfl, rfl⟩
  intro K x4 x5 x6 x7 x8 f hI hK
  obtain ⟨k, h1, h2, h3, rfl, rfl, rfl, rfl, rfl, rfl⟩ := hI
  refine step K k h1 h2 h3 (fun h4 h5 => hK _ _ _ _ _ _ ⟨k + 1, by omega, by omega, h5, rfl, rfl, rfl, rfl, rfl, rfl⟩ ?_)
  show N - (Int32.ofNat (k + 1)).toNatClampNeg < N - (Int32.ofNat k).toNatClampNeg
  rw [n_clamp (by omega), n_clamp (by omega)]
  omega
theorem icX0_round_60_8 {b : Nat} {cs : Nat → ClassId} {ad : Nat → Nat} {vs : Nat → Option Nat} {o : Nat}  {Q : Int32 → XS → Prop} (N k0 : Nat) (hN : N < 2147483648) (h0 : k0 ≤ N) (P : Nat → Prop) (p4 : Nat → Int32) (p5 : Nat → Int32) (p6 : Nat → Int32) (p7 : Nat → Int32) (st : Nat → XS) (hP : P k0) (step : ∀ (K60 : Int32 → Int32 → Int32 → Int32 → Int32 → XS → Prop) (k : Nat), k0 ≤ k → k ≤ N → P k → (k < N → P (k + 1) → K60 (p4 (k + 1)) (p5 (k + 1)) (p6 (k + 1)) (p7 (k + 1)) (Int32.ofNat (k + 1)) (st (k + 1))) → wbX0_round_60 b cs ad vs o K60 Q (p4 k) (p5 k) (p6 k) (p7 k) (Int32.ofNat k) (st k)) : ∃ n : Nat, wlX0_round_60 b cs ad vs o  Q n (p4 k0) (p5 k0) (p6 k0) (p7 k0) (Int32.ofNat k0) (st k0) := by
  refine ilX0_round_60 (fun x4 x5 x6 x7 x8 f => ∃ k, k0 ≤ k ∧ k ≤ N ∧ P k ∧ x4 = p4 k ∧ x5 = p5 k ∧ x6 = p6 k ∧ x7 = p7 k ∧ x8 = Int32.ofNat k ∧ f = st k) (fun x4 x5 x6 x7 x8 _ => N - x8.toNatClampNeg) ?_ _ _ _ _ _ _ ⟨k0, Nat.le_refl _, h0, hP, rfl, rfl, rfl, rfl, rfl, rfl⟩
  intro K x4 x5 x6 x7 x8 f hI hK
  obtain ⟨k, h1, h2, h3, rfl, rfl, rfl, rfl, rfl, rfl⟩ := hI
  refine step K k h1 h2 h3 (fun h4 h5 => hK _ _ _ _ _ _ ⟨k + 1, by omega, by omega, h5, rfl, rfl, rfl, rfl, rfl, rfl⟩ ?_)
  show N - (Int32.ofNat (k + 1)).toNatClampNeg < N - (Int32.ofNat k).toNatClampNeg
  rw [n_clamp (by omega), n_clamp (by omega)]
  omega
theorem ilX0_walk_62 {b : Nat} {cs : Nat → ClassId} {ad : Nat → Nat} {vs : Nat → Option Nat} {o : Nat} {K95 : Int32 → Int32 → Int32 → Int32 → Nat → XS → Prop} {Q : Int32 → XS → Prop} (Inv : Int32 → Int32 → Int32 → Int32 → Nat → Int32 → XS → Prop) (meas : Int32 → Int32 → Int32 → Int32 → Nat → Int32 → XS → Nat) (step : ∀ (K62 : Int32 → Int32 → Int32 → Int32 → Nat → Int32 → XS → Prop) (x1 : Int32) (x2 : Int32) (x3 : Int32) (x4 : Int32) (x6 : Nat) (x7 : Int32) (f : XS), Inv x1 x2 x3 x4 x6 x7 f → (∀ (y1 : Int32) (y2 : Int32) (y3 : Int32) (y4 : Int32) (y6 : Nat) (y7 : Int32) (f' : XS), Inv y1 y2 y3 y4 y6 y7 f' → meas y1 y2 y3 y4 y6 y7 f' < meas x1 x2 x3 x4 x6 x7 f → K62 y1 y2 y3 y4 y6 y7 f') → wbX0_walk_62 b cs ad vs o K62 K95 Q x1 x2 x3 x4 x6 x7 f) (x1 : Int32) (x2 : Int32) (x3 : Int32) (x4 : Int32) (x6 : Nat) (x7 : Int32) (f : XS) (h : Inv x1 x2 x3 x4 x6 x7 f) : ∃ n : Nat, wlX0_walk_62 b cs ad vs o K95 Q n x1 x2 x3 x4 x6 x7 f := by
  have key : ∀ (n : Nat) (x1 : Int32) (x2 : Int32) (x3 : Int32) (x4 : Int32) (x6 : Nat) (x7 : Int32) (f : XS), Inv x1 x2 x3 x4 x6 x7 f → meas x1 x2 x3 x4 x6 x7 f < n → wlX0_walk_62 b cs ad vs o K95 Q n x1 x2 x3 x4 x6 x7 f := by
    intro n
    induction n with
    | zero => intro x1 x2 x3 x4 x6 x7 f hI hm; exact absurd hm (Nat.not_lt_zero _)
    | succ n ih => intro x1 x2 x3 x4 x6 x7 f hI hm; exact step _ x1 x2 x3 x4 x6 x7 f hI (fun y1 y2 y3 y4 y6 y7 f' hI' hlt => ih y1 y2 y3 y4 y6 y7 f' hI' (Nat.lt_of_lt_of_le hlt (Nat.le_of_lt_succ hm)))
  exact ⟨_, key _ x1 x2 x3 x4 x6 x7 f h (Nat.lt_succ_self _)⟩
theorem icX0_walk_62_1 {b : Nat} {cs : Nat → ClassId} {ad : Nat → Nat} {vs : Nat → Option Nat} {o : Nat} {K95 : Int32 → Int32 → Int32 → Int32 → Nat → XS → Prop} {Q : Int32 → XS → Prop} (N k0 : Nat) (hN : N < 2147483648) (h0 : k0 ≤ N) (P : Nat → Prop) (p2 : Nat → Int32) (p3 : Nat → Int32) (p4 : Nat → Int32) (p6 : Nat → Nat) (p7 : Nat → Int32) (st : Nat → XS) (hP : P k0) (step : ∀ (K62 : Int32 → Int32 → Int32 → Int32 → Nat → Int32 → XS → Prop) (k : Nat), k0 ≤ k → k ≤ N → P k → (k < N → P (k + 1) → K62 (Int32.ofNat (k + 1)) (p2 (k + 1)) (p3 (k + 1)) (p4 (k + 1)) (p6 (k + 1)) (p7 (k + 1)) (st (k + 1))) → wbX0_walk_62 b cs ad vs o K62 K95 Q (Int32.ofNat k) (p2 k) (p3 k) (p4 k) (p6 k) (p7 k) (st k)) : ∃ n : Nat, wlX0_walk_62 b cs ad vs o K95 Q n (Int32.ofNat k0) (p2 k0) (p3 k0) (p4 k0) (p6 k0) (p7 k0) (st k0) := by
  refine ilX0_walk_62 (fun x1 x2 x3 x4 x6 x7 f => ∃ k, k0 ≤ k ∧ k ≤ N ∧ P k ∧ x1 = Int32.ofNat k ∧ x2 = p2 k ∧ x3 = p3 k ∧ x4 = p4 k ∧ x6 = p6 k ∧ x7 = p7 k ∧ f = st k) (fun x1 x2 x3 x4 x6 x7 _ => N - x1.toNatClampNeg) ?_ _ _ _ _ _ _ _ ⟨k0, Nat.le_refl _, h0, hP, rfl, rfl, rfl, rfl, rfl, rfl, rfl⟩
  intro K x1 x2 x3 x4 x6 x7 f hI hK
  obtain ⟨k, h1, h2, h3, rfl, rfl, rfl, rfl, rfl, rfl, rfl⟩ := hI
  refine step K k h1 h2 h3 (fun h4 h5 => hK _ _ _ _ _ _ _ ⟨k + 1, by omega, by omega, h5, rfl, rfl, rfl, rfl, rfl, rfl, rfl⟩ ?_)
  show N - (Int32.ofNat (k + 1)).toNatClampNeg < N - (Int32.ofNat k).toNatClampNeg
  rw [n_clamp (by omega), n_clamp (by omega)]
  omega
theorem icX0_walk_62_2 {b : Nat} {cs : Nat → ClassId} {ad : Nat → Nat} {vs : Nat → Option Nat} {o : Nat} {K95 : Int32 → Int32 → Int32 → Int32 → Nat → XS → Prop} {Q : Int32 → XS → Prop} (N k0 : Nat) (hN : N < 2147483648) (h0 : k0 ≤ N) (P : Nat → Prop) (p1 : Nat → Int32) (p3 : Nat → Int32) (p4 : Nat → Int32) (p6 : Nat → Nat) (p7 : Nat → Int32) (st : Nat → XS) (hP : P k0) (step : ∀ (K62 : Int32 → Int32 → Int32 → Int32 → Nat → Int32 → XS → Prop) (k : Nat), k0 ≤ k → k ≤ N → P k → (k < N → P (k + 1) → K62 (p1 (k + 1)) (Int32.ofNat (k + 1)) (p3 (k + 1)) (p4 (k + 1)) (p6 (k + 1)) (p7 (k + 1)) (st (k + 1))) → wbX0_walk_62 b cs ad vs o K62 K95 Q (p1 k) (Int32.ofNat k) (p3 k) (p4 k) (p6 k) (p7 k) (st k)) : ∃ n : Nat, wlX0_walk_62 b cs ad vs o K95 Q n (p1 k0) (Int32.ofNat k0) (p3 k0) (p4 k0) (p6 k0) (p7 k0) (st k0) := by
  refine ilX0_walk_62 (fun x1 x2 x3 x4 x6 x7 f => ∃ k, k0 ≤ k ∧ k ≤ N ∧ P k ∧ x1 = p1 k ∧ x2 = Int32.ofNat k ∧ x3 = p3 k ∧ x4 = p4 k ∧ x6 = p6 k ∧ x7 = p7 k ∧ f = st k) (fun x1 x2 x3 x4 x6 x7 _ => N - x2.toNatClampNeg) ?_ _ _ _ _ _ _ _ ⟨k0, Nat.le_refl _, h0, hP, rfl, rfl, rfl, rfl, rfl, rfl, rfl⟩
  intro K x1 x2 x3 x4 x6 x7 f hI hK
  obtain ⟨k, h1, h2, h3, rfl, rfl, rfl, rfl, rfl, rfl, rfl⟩ := hI
  refine step K k h1 h2 h3 (fun h4 h5 => hK _ _ _ _ _ _ _ ⟨k + 1, by omega, by omega, h5, rfl, rfl, rfl, rfl, rfl, rfl, rfl⟩ ?_)
  show N - (Int32.ofNat (k + 1)).toNatClampNeg < N - (Int32.ofNat k).toNatClampNeg
  rw [n_clamp (by omega), n_clamp (by omega)]
  omega
theorem icX0_walk_62_3 {b : Nat} {cs : Nat → ClassId} {ad : Nat → Nat} {vs : Nat → Option Nat} {o : Nat} {K95 : Int32 → Int32 → Int32 → Int32 → Nat → XS → Prop} {Q : Int32 → XS → Prop} (N k0 : Nat) (hN : N < 2147483648) (h0 : k0 ≤ N) (P : Nat → Prop) (p1 : Nat → Int32) (p2 : Nat → Int32) (p4 : Nat → Int32) (p6 : Nat → Nat) (p7 : Nat → Int32) (st : Nat → XS) (hP : P k0) (step : ∀ (K62 : Int32 → Int32 → Int32 → Int32 → Nat → Int32 → XS → Prop) (k : Nat), k0 ≤ k → k ≤ N → P k → (k < N → P (k + 1) → K62 (p1 (k + 1)) (p2 (k + 1)) (Int32.ofNat (k + 1)) (p4 (k + 1)) (p6 (k + 1)) (p7 (k + 1)) (st (k + 1))) → wbX0_walk_62 b cs ad vs o K62 K95 Q (p1 k) (p2 k) (Int32.ofNat k) (p4 k) (p6 k) (p7 k) (st k)) : ∃ n : Nat, wlX0_walk_62 b cs ad vs o K95 Q n (p1 k0) (p2 k0) (Int32.ofNat k0) (p4 k0) (p6 k0) (p7 k0) (st k0) := by
  refine ilX0_walk_62 (fun x1 x2 x3 x4 x6 x7 f => ∃ k, k0 ≤ k ∧ k ≤ N ∧ P k ∧ x1 = p1 k ∧ x2 = p2 k ∧ x3 = Int32.ofNat k ∧ x4 = p4 k ∧ x6 = p6 k ∧ x7 = p7 k ∧ f = st k) (fun x1 x2 x3 x4 x6 x7 _ => N - x3.toNatClampNeg) ?_ _ _ _ _ _ _ _ ⟨k0, Nat.le_refl _, h0, hP, rfl, rfl, rfl, rfl, rfl, rfl, rfl⟩
  intro K x1 x2 x3 x4 x6 x7 f hI hK
  obtain ⟨k, h1, h2, h3, rfl, rfl, rfl, rfl, rfl, rfl, rfl⟩ := hI
  refine step K k h1 h2 h3 (fun h4 h5 => hK _ _ _ _ _ _ _ ⟨k + 1, by omega, by omega, h5, rfl, rfl, rfl, rfl, rfl, rfl, rfl⟩ ?_)
  show N - (Int32.ofNat (k + 1)).toNatClampNeg < N - (Int32.ofNat k).toNatClampNeg
  rw [n_clamp (by omega), n_clamp (by omega)]
  omega
theorem icX0_walk_62_4 {b : Nat} {cs : Nat → ClassId} {ad : Nat → Nat} {vs : Nat → Option Nat} {o : Nat} {K95 : Int32 → Int32 → Int32 → Int32 → Nat → XS → Prop} {Q : Int32 → XS → Prop} (N k0 : Nat) (hN : N < 2147483648) (h0 : k0 ≤ N) (P : Nat → Prop) (p1 : Nat → Int32) (p2 : Nat → Int32) (p3 : Nat → Int32) (p6 : Nat → Nat) (p7 : Nat → Int32) (st : Nat → XS) (hP : P k0) (step : ∀ (K62 : Int32 → Int32 → Int32 → Int32 → Nat → Int32 → XS → Prop) (k : Nat), k0 ≤ k → k ≤ N → P k → (k < N → P (k + 1) → K62 (p1 (k + 1)) (p2 (k + 1)) (p3 (k + 1)) (Int32.ofNat (k + 1)) (p6 (k + 1)) (p7 (k + 1)) (st (k + 1))) → wbX0_walk_62 b cs ad vs o K62 K95 Q (p1 k) (p2 k) (p3 k) (Int32.ofNat k) (p6 k) (p7 k) (st k)) : ∃ n : Nat, wlX0_walk_62 b cs ad vs o K95 Q n (p1 k0) (p2 k0) (p3 k0) (Int32.ofNat k0) (p6 k0) (p7 k0) (st k0) := by
  refine ilX0_walk_62 (fun x1 x2 x3 x4 x6 x7 f => ∃ k, k0 ≤ k ∧ k ≤ N ∧ P k ∧ x1 = p1 k ∧ x2 = p2 k ∧ x3 = p3 k ∧ x4 = Int32.ofNat k ∧ x6 = p6 k ∧ x7 = p7 k ∧ f = st k) (fun x1 x2 x3 x4 x6 x7 _ => N - x4.toNatClampNeg) ?_ _ _ _ _ _ _ _ ⟨k0, Nat.le_refl _, h0, hP, rfl, rfl, rfl, rfl, rfl, rfl, rfl⟩
  intro K x1 x2 x3 x4 x6 x7 f hI hK
  obtain ⟨k, h1, h2, h3, rfl, rfl, rfl, rfl, rfl, rfl, rfl⟩ := hI
  refine step K k h1 h2 h3 (fun h4 h5 => hK _ _ _ _ _ _ _ ⟨k + 1, by omega, by omega, h5, rfl, rfl, rfl, rfl, rfl, rfl, rfl⟩ ?_)
  show N - (Int32.ofNat (k + 1)).toNatClampNeg < N - (Int32.ofNat k).toNatClampNeg
  rw [n_clamp (by omega), n_clamp (by omega)]
  omega
theorem icX0_walk_62_7 {b : Nat} {cs : Nat → ClassId} {ad : Nat → Nat} {vs : Nat → Option Nat} {o : Nat} {K95 : Int32 → Int32 → Int32 → Int32 → Nat → XS → Prop} {Q : Int32 → XS → Prop} (N k0 : Nat) (hN : N < 2147483648) (h0 : k0 ≤ N) (P : Nat → Prop) (p1 : Nat → Int32) (p2 : Nat → Int32) (p3 : Nat → Int32) (p4 : Nat → Int32) (p6 : Nat → Nat) (st : Nat → XS) (hP : P k0) (step : ∀ (K62 : Int32 → Int32 → Int32 → Int32 → Nat → Int32 → XS → Prop) (k : Nat), k0 ≤ k → k ≤ N → P k → (k < N → P (k + 1) → K62 (p1 (k + 1)) (p2 (k + 1)) (p3 (k + 1)) (p4 (k + 1)) (p6 (k + 1)) (Int32.ofNat (k + 1)) (st (k + 1))) → wbX0_walk_62 b cs ad vs o K62 K95 Q (p1 k) (p2 k) (p3 k) (p4 k) (p6 k) (Int32.ofNat k) (st k)) : ∃ n : Nat, wlX0_walk_62 b cs ad vs o K95 Q n (p1 k0) (p2 k0) (p3 k0) (p4 k0) (p6 k0) (Int32.ofNat k0) (st k0) := by
  refine ilX0_walk_62 (fun x1 x2 x3 x4 x6 x7 f => ∃ k, k0 ≤ k ∧ k ≤ N ∧ P k ∧ x1 = p1 k ∧ x2 = p2 k ∧ x3 = p3 k ∧ x4 = p4 k ∧ x6 = p6 k ∧ x7 = Int32.ofNat k ∧ f = st k) (fun x1 x2 x3 x4 x6 x7 _ => N - x7.toNatClampNeg) ?_ _ _ _ _ _ _ _ ⟨k0, Nat.le_refl _, h0, hP, rfl, rfl, rfl, rfl, rfl, rfl, rfl⟩
  intro K x1 x2 x3 x4 x6 x7 f hI hK
  obtain ⟨k, h1, h2, h3, rfl, rfl, rfl, rfl, rfl, rfl, rfl⟩ := hI
  refine step K k h1 h2 h3 (fun h4 h5 => hK _ _ _ _ _ _ _ ⟨k + 1, by omega, by omega, h5, rfl, rfl, rfl, rfl, rfl, rfl, rfl⟩ ?_)
  show N - (Int32.ofNat (k + 1)).toNatClampNeg < N - (Int32.ofNat k).toNatClampNeg
  rw [n_clamp (by omega), n_clamp (by omega)]
  omega
theorem ilX0_walk_121 {b : Nat} {cs : Nat → ClassId} {ad : Nat → Nat} {vs : Nat → Option Nat} {o : Nat} {K189 : Int32 → Int32 → Int32 → XS → Prop} {Q : Int32 → XS → Prop} (Inv : Int32 → Int32 → Nat → Int32 → Int32 → Int32 → XS → Prop) (meas : Int32 → Int32 → Nat → Int32 → Int32 → Int32 → XS → Nat) (step : ∀ (K121 : Int32 → Int32 → Nat → Int32 → Int32 → Int32 → XS → Prop) (x3 : Int32) (x4 : Int32) (x6 : Nat) (x7 : Int32) (x8 : Int32) (x9 : Int32) (f : XS), Inv x3 x4 x6 x7 x8 x9 f → (∀ (y3 : Int32) (y4 : Int32) (y6 : Nat) (y7 : Int32) (y8 : Int32) (y9 : Int32) (f' : XS), Inv y3 y4 y6 y7 y8 y9 f' → meas y3 y4 y6 y7 y8 y9 f' < meas x3 x4 x6 x7 x8 x9 f → K121 y3 y4 y6 y7 y8 y9 f') → wbX0_walk_121 b cs ad vs o K121 K189 Q x3 x4 x6 x7 x8 x9 f) (x3 : Int32) (x4 : Int32) (x6 : Nat) (x7 : Int32) (x8 : Int32) (x9 : Int32) (f : XS) (h : Inv x3 x4 x6 x7 x8 x9 f) : ∃ n : Nat, wlX0_walk_121 b cs ad vs o K189 Q n x3 x4 x6 x7 x8 x9 f := by
  have key : ∀ (n : Nat) (x3 : Int32) (x4 : Int32) (x6 : Nat) (x7 : Int32) (x8 : Int32) (x9 : Int32) (f : XS), Inv x3 x4 x6 x7 x8 x9 f → meas x3 x4 x6 x7 x8 x9 f < n → wlX0_walk_121 b cs ad vs o K189 Q n x3 x4 x6 x7 x8 x9 f := by
    intro n
    induction n with
    | zero => intro x3 x4 x6 x7 x8 x9 f hI hm; exact absurd hm (Nat.not_lt_zero _)
    | succ n ih => intro x3 x4 x6 x7 x8 x9 f hI hm; exact step _ x3 x4 x6 x7 x8 x9 f hI (fun y3 y4 y6 y7 y8 y9 f' hI' hlt => ih y3 y4 y6 y7 y8 y9 f' hI' (Nat.lt_of_lt_of_le hlt (Nat.le_of_lt_succ hm)))
  exact ⟨_, key _ x3 x4 x6 x7 x8 x9 f h (Nat.lt_succ_self _)⟩
theorem icX0_walk_121_3 {b : Nat} {cs : Nat → ClassId} {ad : Nat → Nat} {vs : Nat → Option Nat} {o : Nat} {K189 : Int32 → Int32 → Int32 → XS → Prop} {Q : Int32 → XS → Prop} (N k0 : Nat) (hN : N < 2147483648) (h0 : k0 ≤ N) (P : Nat → Prop) (p4 : Nat → Int32) (p6 : Nat → Nat) (p7 : Nat → Int32) (p8 : Nat → Int32) (p9 : Nat → Int32) (st : Nat → XS) (hP : P k0) (step : ∀ (K121 : Int32 → Int32 → Nat → Int32 → Int32 → Int32 → XS → Prop) (k : Nat), k0 ≤ k → k ≤ N → P k → (k < N → P (k + 1) → K121 (Int32.ofNat (k + 1)) (p4 (k + 1)) (p6 (k + 1)) (p7 (k + 1)) (p8 (k + 1)) (p9 (k + 1)) (st (k + 1))) → wbX0_walk_121 b cs ad vs o K121 K189 Q (Int32.ofNat k) (p4 k) (p6 k) (p7 k) (p8 k) (p9 k) (st k)) : ∃ n : Nat, wlX0_walk_121 b cs ad vs o K189 Q n (Int32.ofNat k0) (p4 k0) (p6 k0) (p7 k0) (p8 k0) (p9 k0) (st k0) := by
  refine ilX0_walk_121 (fun x3 x4 x6 x7 x8 x9 f => ∃ k, k0 ≤ k ∧ k ≤ N ∧ P k ∧ x3 = Int32.ofNat k ∧ x4 = p4 k ∧ x6 = p6 k ∧ x7 = p7 k ∧ x8 = p8 k ∧ x9 = p9 k ∧ f = st k) (fun x3 x4 x6 x7 x8 x9 _ => N - x3.toNatClampNeg) ?_ _ _ _ _ _ _ _ ⟨k0, Nat.le_refl _, h0, hP, rfl, rfl, rfl, rfl, rfl, rfl, rfl⟩
  intro K x3 x4 x6 x7 x8 x9 f hI hK
  obtain ⟨k, h1, h2, h3, rfl, rfl, rfl, rfl, rfl, rfl, rfl⟩ := hI
  refine step K k h1 h2 h3 (fun h4 h5 => hK _ _ _ _ _ _ _ ⟨k + 1, by omega, by omega, h5, rfl, rfl, rfl, rfl, rfl, rfl, rfl⟩ ?_)
  show N - (Int32.ofNat (k + 1)).toNatClampNeg < N - (Int32.ofNat k).toNatClampNeg
  rw [n_clamp (by omega), n_clamp (by omega)]
  omega
theorem icX0_walk_121_4 {b : Nat} {cs : Nat → ClassId} {ad : Nat → Nat} {vs : Nat → Option Nat} {o : Nat} {K189 : Int32 → Int32 → Int32 → XS → Prop} {Q : Int32 → XS → Prop} (N k0 : Nat) (hN : N < 2147483648) (h0 : k0 ≤ N) (P : Nat → Prop) (p3 : Nat → Int32) (p6 : Nat → Nat) (p7 : Nat → Int32) (p8 : Nat → Int32) (p9 : Nat → Int32) (st : Nat → XS) (hP : P k0) (step : ∀ (K121 : Int32 → Int32 → Nat → Int32 → Int32 → Int32 → XS → Prop) (k : Nat), k0 ≤ k → k ≤ N → P k → (k < N → P (k + 1) → K121 (p3 (k + 1)) (Int32.ofNat (k + 1)) (p6 (k + 1)) (p7 (k + 1)) (p8 (k + 1)) (p9 (k + 1)) (st (k + 1))) → wbX0_walk_121 b cs ad vs o K121 K189 Q (p3 k) (Int32.ofNat k) (p6 k) (p7 k) (p8 k) (p9 k) (st k)) : ∃ n : Nat, wlX0_walk_121 b cs ad vs o K189 Q n (p3 k0) (Int32.ofNat k0) (p6 k0) (p7 k0) (p8 k0) (p9 k0) (st k0) := by
  refine ilX0_walk_121 (fun x3 x4 x6 x7 x8 x9 f => ∃ k, k0 ≤ k ∧ k ≤ N ∧ P k ∧ x3 = p3 k ∧ x4 = Int32.ofNat k ∧ x6 = p6 k ∧ x7 = p7 k ∧ x8 = p8 k ∧ x9 = p9 k ∧ f = st k) (fun x3 x4 x6 x7 x8 x9 _ => N - x4.toNatClampNeg) ?_ _ _ _ _ _ _ _ ⟨k0, Nat.le_refl _, h0, hP, rfl, rfl, rfl, rfl, rfl, rfl, rfl⟩
  intro K x3 x4 x6 x7 x8 x9 f hI hK
  obtain ⟨k, h1, h2, h3, rfl, rfl, rfl, rfl, rfl, rfl, rfl⟩ := hI
  refine step K k h1 h2 h3 (fun h4 h5 => hK _ _ _ _ _ _ _ ⟨k + 1, by omega, by omega, h5, rfl, rfl, rfl, rfl, rfl, rfl, rfl⟩ ?_)
  show N - (Int32.ofNat (k + 1)).toNatClampNeg < N - (Int32.ofNat k).toNatClampNeg
  rw [n_clamp (by omega), n_clamp (by omega)]
  omega
theorem icX0_walk_121_7 {b : Nat} {cs : Nat → ClassId} {ad : Nat → Nat} {vs : Nat → Option Nat} {o : Nat} {K189 : Int32 → Int32 → Int32 → XS → Prop} {Q : Int32 → XS → Prop} (N k0 : Nat) (hN : N < 2147483648) (h0 : k0 ≤ N) (P : Nat → Prop) (p3 : Nat → Int32) (p4 : Nat → Int32) (p6 : Nat → Nat) (p8 : Nat → Int32) (p9 : Nat → Int32) (st : Nat → XS) (hP : P k0) (step : ∀ (K121 : Int32 → Int32 → Nat → Int32 → Int32 → Int32 → XS → Prop) (k : Nat), k0 ≤ k → k ≤ N → P k → (k < N → P (k + 1) → K121 (p3 (k + 1)) (p4 (k + 1)) (p6 (k + 1)) (Int32.ofNat (k + 1)) (p8 (k + 1)) (p9 (k + 1)) (st (k + 1))) → wbX0_walk_121 b cs ad vs o K121 K189 Q (p3 k) (p4 k) (p6 k) (Int32.ofNat k) (p8 k) (p9 k) (st k)) : ∃ n : Nat, wlX0_walk_121 b cs ad vs o K189 Q n (p3 k0) (p4 k0) (p6 k0) (Int32.ofNat k0) (p8 k0) (p9 k0) (st k0) := by
  refine ilX0_walk_121 (fun x3 x4 x6 x7 x8 x9 f => ∃ k, k0 ≤ k ∧ k ≤ N ∧ P k ∧ x3 = p3 k ∧ x4 = p4 k ∧ x6 = p6 k ∧ x7 = Int32.ofNat k ∧ x8 = p8 k ∧ x9 = p9 k ∧ f = st k) (fun x3 x4 x6 x7 x8 x9 _ => N - x7.toNatClampNeg) ?_ _ _ _ _ _ _ _ ⟨k0, Nat.le_refl _, h0, hP, rfl, rfl, rfl, rfl, rfl, rfl, rfl⟩
  intro K x3 x4 x6 x7 x8 x9 f hI hK
  obtain ⟨k, h1, h2, h3, rfl, rfl, rfl, rfl, rfl, rfl, rfl⟩ := hI
  refine step K k h1 h2 h3 (fun h4 h5 => hK _ _ _ _ _ _ _ ⟨k + 1, by omega, by omega, h5, rfl, rfl, rfl, rfl, rfl, rfl, rfl⟩ ?_)
  show N - (Int32.ofNat (k + 1)).toNatClampNeg < N - (Int32.ofNat k).toNatClampNeg
  rw [n_clamp (by omega), n_clamp (by omega)]
  omega
theorem icX0_walk_121_8 {b : Nat} {cs : Nat → ClassId} {ad : Nat → Nat} {vs : Nat → Option Nat} {o : Nat} {K189 : Int32 → Int32 → Int32 → XS → Prop} {Q : Int32 → XS → Prop} (N k0 : Nat) (hN : N < 2147483648) (h0 : k0 ≤ N) (P : Nat → Prop) (p3 : Nat → Int32) (p4 : Nat → Int32) (p6 : Nat → Nat) (p7 : Nat → Int32) (p9 : Nat → Int32) (st : Nat → XS) (hP : P k0) (step : ∀ (K121 : Int32 → Int32 → Nat → Int32 → Int32 → Int32 → XS → Prop) (k : Nat), k0 ≤ k → k ≤ N → P k → (k < N → P (k + 1) → K121 (p3 (k + 1)) (p4 (k + 1)) (p6 (k + 1)) (p7 (k + 1)) (Int32.ofNat (k + 1)) (p9 (k + 1)) (st (k + 1))) → wbX0_walk_121 b cs ad vs o K121 K189 Q (p3 k) (p4 k) (p6 k) (p7 k) (Int32.ofNat k) (p9 k) (st k)) : ∃ n : Nat, wlX0_walk_121 b cs ad vs o K189 Q n (p3 k0) (p4 k0) (p6 k0) (p7 k0) (Int32.ofNat k0) (p9 k0) (st k0) := by
  refine ilX0_walk_121 (fun x3 x4 x6 x7 x8 x9 f => ∃ k, k0 ≤ k ∧ k ≤ N ∧ P k ∧ x3 = p3 k ∧ x4 = p4 k ∧ x6 = p6 k ∧ x7 = p7 k ∧ x8 = Int32.ofNat k ∧ x9 = p9 k ∧ f = st k) (fun x3 x4 x6 x7 x8 x9 _ => N - x8.toNatClampNeg) ?_ _ _ _ _ _ _ _ ⟨k0, Nat.le_refl _, h0, hP, rfl, rfl, rfl, rfl, rfl, rfl, rfl⟩
  intro K x3 x4 x6 x7 x8 x9 f hI hK
  obtain ⟨k, h1, h2, h3, rfl, rfl, rfl, rfl, rfl, rfl, rfl⟩ := hI
  refine step K k h1 h2 h3 (fun h4 h5 => hK _ _ _ _ _ _ _ ⟨k + 1, by omega, by omega, h5, rfl, rfl, rfl, rfl, rfl, rfl, rfl⟩ ?_)
  show N - (Int32.ofNat (k + 1)).toNatClampNeg < N - (Int32.ofNat k).toNatClampNeg
  rw [n_clamp (by omega), n_clamp (by omega)]
  omega
theorem icX0_walk_121_9 {b : Nat} {cs : Nat → ClassId} {ad : Nat → Nat} {vs : Nat → Option Nat} {o : Nat} {K189 : Int32 → Int32 → Int32 → XS → Prop} {Q : Int32 → XS → Prop} (N k0 : Nat) (hN : N < 2147483648) (h0 : k0 ≤ N) (P : Nat → Prop) (p3 : Nat → Int32) (p4 : Nat → Int32) (p6 : Nat → Nat) (p7 : Nat → Int32) (p8 : Nat → Int32) (st : Nat → XS) (hP : P k0) (step : ∀ (K121 : Int32 → Int32 → Nat → Int32 → Int32 → Int32 → XS → Prop) (k : Nat), k0 ≤ k → k ≤ N → P k → (k < N → P (k + 1) → K121 (p3 (k + 1)) (p4 (k + 1)) (p6 (k + 1)) (p7 (k + 1)) (p8 (k + 1)) (Int32.ofNat (k + 1)) (st (k + 1))) → wbX0_walk_121 b cs ad vs o K121 K189 Q (p3 k) (p4 k) (p6 k) (p7 k) (p8 k) (Int32.ofNat k) (st k)) : ∃ n : Nat, wlX0_walk_121 b cs ad vs o K189 Q n (p3 k0) (p4 k0) (p6 k0) (p7 k0) (p8 k0) (Int32.ofNat k0) (st k0) := by
  refine ilX0_walk_121 (fun x3 x4 x6 x7 x8 x9 f => ∃ k, k0 ≤ k ∧ k ≤ N ∧ P k ∧ x3 = p3 k ∧ x4 = p4 k ∧ x6 = p6 k ∧ x7 = p7 k ∧ x8 = p8 k ∧ x9 = Int32.ofNat k ∧ f = st k) (fun x3 x4 x6 x7 x8 x9 _ => N - x9.toNatClampNeg) ?_ _ _ _ _ _ _ _ ⟨k0, Nat.le_refl _, h0, hP, rfl, rfl, rfl, rfl, rfl, rfl, rfl⟩
  intro K x3 x4 x6 x7 x8 x9 f hI hK
  obtain ⟨k, h1, h2, h3, rfl, rfl, rfl, rfl, rfl, rfl, rfl⟩ := hI
  refine step K k h1 h2 h3 (fun h4 h5 => hK _ _ _ _ _ _ _ ⟨k + 1, by omega, by omega, h5, rfl, rfl, rfl, rfl, rfl, rfl, rfl⟩ ?_)
  show N - (Int32.ofNat (k + 1)).toNatClampNeg < N - (Int32.ofNat k).toNatClampNeg
  rw [n_clamp (by omega), n_clamp (by omega)]
  omega
theorem ilX0_back_74 {b : Nat} {cs : Nat → ClassId} {ad : Nat → Nat} {vs : Nat → Option Nat} {o : Nat} {K126 : Int32 → XS → Prop} {Q : Int32 → XS → Prop} (Inv : Int32 → Int32 → XS → Prop) (meas : Int32 → Int32 → XS → Nat) (step : ∀ (K74 : Int32 → Int32 → XS → Prop) (x1 : Int32) (x2 : Int32) (f : XS), Inv x1 x2 f → (∀ (y1 : Int32) (y2 : Int32) (f' : XS), Inv y1 y2 f' → meas y1 y2 f' < meas x1 x2 f → K74 y1 y2 f') → wbX0_back_74 b cs ad vs o K74 K126 Q x1 x2 f) (x1 : Int32) (x2 : Int32) (f : XS) (h : Inv x1 x2 f) : ∃ n : Nat, wlX0_back_74 b cs ad vs o K126 Q n x1 x2 f := by
  have key : ∀ (n : Nat) (x1 : Int32) (x2 : Int32) (f : XS), Inv x1 x2 f → meas x1 x2 f < n → wlX0_back_74 b cs ad vs o K126 Q n x1 x2 f := by
    intro n
    induction n with
    | zero => intro x1 x2 f hI hm; exact absurd hm (Nat.not_lt_zero _)
    | succ n ih => intro x1 x2 f hI hm; exact step _ x1 x2 f hI (fun y1 y2 f' hI' hlt => ih y1 y2 f' hI' (Nat.lt_of_lt_of_le hlt (Nat.le_of_lt_succ hm)))
  exact ⟨_, key _ x1 x2 f h (Nat.lt_succ_self _)⟩
theorem icX0_back_74_1 {b : Nat} {cs : Nat → ClassId} {ad : Nat → Nat} {vs : Nat → Option Nat} {o : Nat} {K126 : Int32 → XS → Prop} {Q : Int32 → XS → Prop} (N k0 : Nat) (hN : N < 2147483648) (h0 : k0 ≤ N) (P : Nat → Prop) (p2 : Nat → Int32) (st : Nat → XS) (hP : P k0) (step : ∀ (K74 : Int32 → Int32 → XS → Prop) (k : Nat), k0 ≤ k → k ≤ N → P k → (k < N → P (k + 1) → K74 (Int32.ofNat (k + 1)) (p2 (k + 1)) (st (k + 1))) → wbX0_back_74 b cs ad vs o K74 K126 Q (Int32.ofNat k) (p2 k) (st k)) : ∃ n : Nat, wlX0_back_74 b cs ad vs o K126 Q n (Int32.ofNat k0) (p2 k0) (st k0) := by
  refine ilX0_back_74 (fun x1 x2 f => ∃ k, k0 ≤ k ∧ k ≤ N ∧ P k ∧ x1 = Int32.ofNat k ∧ x2 = p2 k ∧ f = st k) (fun x1 x2 _ => N - x1.toNatClampNeg) ?_ _ _ _ ⟨k0, Nat.le_refl _, h0, hP, rfl, rfl, rfl⟩
  intro K x1 x2 f hI hK
  obtain ⟨k, h1, h2, h3, rfl, rfl, rfl⟩ := hI
  refine step K k h1 h2 h3 (fun h4 h5 => hK _ _ _ ⟨k + 1, by omega, by omega, h5, rfl, rfl, rfl⟩ ?_)
  show N - (Int32.ofNat (k + 1)).toNatClampNeg < N - (Int32.ofNat k).toNatClampNeg
  rw [n_clamp (by omega), n_clamp (by omega)]
  omega
theorem icX0_back_74_2 {b : Nat} {cs : Nat → ClassId} {ad : Nat → Nat} {vs : Nat → Option Nat} {o : Nat} {K126 : Int32 → XS → Prop} {Q : Int32 → XS → Prop} (N k0 : Nat) (hN : N < 2147483648) (h0 : k0 ≤ N) (P : Nat → Prop) (p1 : Nat → Int32) (st : Nat → XS) (hP : P k0) (step : ∀ (K74 : Int32 → Int32 → XS → Prop) (k : Nat), k0 ≤ k → k ≤ N → P k → (k < N → P (k + 1) → K74 (p1 (k + 1)) (Int32.ofNat (k + 1)) (st (k + 1))) → wbX0_back_74 b cs ad vs o K74 K126 Q (p1 k) (Int32.ofNat k) (st k)) : ∃ n : Nat, wlX0_back_74 b cs ad vs o K126 Q n (p1 k0) (Int32.ofNat k0) (st k0) := by
  refine ilX0_back_74 (fun x1 x2 f => ∃ k, k0 ≤ k ∧ k ≤ N ∧ P k ∧ x1 = p1 k ∧ x2 = Int32.ofNat k ∧ f = st k) (fun x1 x2 _ => N - x2.toNatClampNeg) ?_ _ _ _ ⟨k0, Nat.le_refl _, h0, hP, rfl, rfl, rfl⟩
  intro K x1 x2 f hI hK
  obtain ⟨k, h1, h2, h3, rfl, rfl, rfl⟩ := hI
  refine step K k h1 h2 h3 (fun h4 h5 => hK _ _ _ ⟨k + 1, by omega, by omega, h5, rfl, rfl, rfl⟩ ?_)
  show N - (Int32.ofNat (k + 1)).toNatClampNeg < N - (Int32.ofNat k).toNatClampNeg
  rw [n_clamp (by omega), n_clamp (by omega)]
  omega
theorem ilX0_back_64 {b : Nat} {cs : Nat → ClassId} {ad : Nat → Nat} {vs : Nat → Option Nat} {o : Nat} {K132 : XS → Prop} {Q : Int32 → XS → Prop} (Inv : Int32 → XS → Prop) (meas : Int32 → XS → Nat) (step : ∀ (K64 : Int32 → XS → Prop) (x1 : Int32) (f : XS), Inv x1 f → (∀ (y1 : Int32) (f' : XS), Inv y1 f' → meas y1 f' < meas x1 f → K64 y1 f') → wbX0_back_64 b cs ad vs o K64 K132 Q x1 f) (x1 : Int32) (f : XS) (h : Inv x1 f) : ∃ n : Nat, wlX0_back_64 b cs ad vs o K132 Q n x1 f := by
  have key : ∀ (n : Nat) (x1 : Int32) (f : XS), Inv x1 f → meas x1 f < n → wlX0_back_64 b cs ad vs o K132 Q n x1 f := by
    intro n
    induction n with
    | zero => intro x1 f hI hm; exact absurd hm (Nat.not_lt_zero _)
    | succ n ih => intro x1 f hI hm; exact step _ x1 f hI (fun y1 f' hI' hlt => ih y1 f' hI' (Nat.lt_of_lt_of_le hlt (Nat.le_of_lt_succ hm)))
  exact ⟨_, key _ x1 f h (Nat.lt_succ_self _)⟩
theorem icX0_back_64_1 {b : Nat} {cs : Nat → ClassId} {ad : Nat → Nat} {vs : Nat → Option Nat} {o : Nat} {K132 : XS → Prop} {Q : Int32 → XS → Prop} (N k0 : Nat) (hN : N < 2147483648) (h0 : k0 ≤ N) (P : Nat → Prop)  (st : Nat → XS) (hP : P k0) (step : ∀ (K64 : Int32 → XS → Prop) (k : Nat), k0 ≤ k → k ≤ N → P k → (k < N → P (k + 1) → K64 (Int32.ofNat (k + 1)) (st (k + 1))) → wbX0_back_64 b cs ad vs o K64 K132 Q (Int32.ofNat k) (st k)) : ∃ n : Nat, wlX0_back_64 b cs ad vs o K132 Q n (Int32.ofNat k0) (st k0) := by
  refine ilX0_back_64 (fun x1 f => ∃ k, k0 ≤ k ∧ k ≤ N ∧ P k ∧ x1 = Int32.ofNat k ∧ f = st k) (fun x1 _ => N - x1.toNatClampNeg) ?_ _ _ ⟨k0, Nat.le_refl _, h0, hP, rfl, rfl⟩
  intro K x1 f hI hK
  obtain ⟨k, h1, h2, h3, rfl, rfl⟩ := hI
  refine step K k h1 h2 h3 (fun h4 h5 => hK _ _ ⟨k + 1, by omega, by omega, h5, rfl, rfl⟩ ?_)
  show N - (Int32.ofNat (k + 1)).toNatClampNeg < N - (Int32.ofNat k).toNatClampNeg
  rw [n_clamp (by omega), n_clamp (by omega)]
  omega
theorem ilX0_feed_35 {b : Nat} {cs : Nat → ClassId} {ad : Nat → Nat} {vs : Nat → Option Nat} {o : Nat}  {Q : Int32 → XS → Prop} (Inv : Int64 → Int32 → XS → Prop) (meas : Int64 → Int32 → XS → Nat) (step : ∀ (K35 : Int64 → Int32 → XS → Prop) (x1 : Int64) (x4 : Int32) (f : XS), Inv x1 x4 f → (∀ (y1 : Int64) (y4 : Int32) (f' : XS), Inv y1 y4 f' → meas y1 y4 f' < meas x1 x4 f → K35 y1 y4 f') → wbX0_feed_35 b cs ad vs o K35 Q x1 x4 f) (x1 : Int64) (x4 : Int32) (f : XS) (h : Inv x1 x4 f) : ∃ n : Nat, wlX0_feed_35 b cs ad vs o  Q n x1 x4 f := by
  have key : ∀ (n : Nat) (x1 : Int64) (x4 : Int32) (f : XS), Inv x1 x4 f → meas x1 x4 f < n → wlX0_feed_35 b cs ad vs o  Q n x1 x4 f := by
    intro n
    induction n with
    | zero => intro x1 x4 f hI hm; exact absurd hm (Nat.not_lt_zero _)
    | succ n ih => intro x1 x4 f hI hm; exact step _ x1 x4 f hI (fun y1 y4 f' hI' hlt => ih y1 y4 f' hI' (Nat.lt_of_lt_of_le hlt (Nat.le_of_lt_succ hm)))
  exact ⟨_, key _ x1 x4 f h (Nat.lt_succ_self _)⟩
theorem icX0_feed_35_4 {b : Nat} {cs : Nat → ClassId} {ad : Nat → Nat} {vs : Nat → Option Nat} {o : Nat}  {Q : Int32 → XS → Prop} (N k0 : Nat) (hN : N < 2147483648) (h0 : k0 ≤ N) (P : Nat → Prop) (p1 : Nat → Int64) (st : Nat → XS) (hP : P k0) (step : ∀ (K35 : Int64 → Int32 → XS → Prop) (k : Nat), k0 ≤ k → k ≤ N → P k → (k < N → P (k + 1) → K35 (p1 (k + 1)) (Int32.ofNat (k + 1)) (st (k + 1))) → wbX0_feed_35 b cs ad vs o K35 Q (p1 k) (Int32.ofNat k) (st k)) : ∃ n : Nat, wlX0_feed_35 b cs ad vs o  Q n (p1 k0) (Int32.ofNat k0) (st k0) := by
  refine ilX0_feed_35 (fun x1 x4 f => ∃ k, k0 ≤ k ∧ k ≤ N ∧ P k ∧ x1 = p1 k ∧ x4 = Int32.ofNat k ∧ f = st k) (fun x1 x4 _ => N - x4.toNatClampNeg) ?_ _ _ _ ⟨k0, Nat.le_refl _, h0, hP, rfl, rfl, rfl⟩
  intro K x1 x4 f hI hK
  obtain ⟨k, h1, h2, h3, rfl, rfl, rfl⟩ := hI
  refine step K k h1 h2 h3 (fun h4 h5 => hK _ _ _ ⟨k + 1, by omega, by omega, h5, rfl, rfl, rfl⟩ ?_)
  show N - (Int32.ofNat (k + 1)).toNatClampNeg < N - (Int32.ofNat k).toNatClampNeg
  rw [n_clamp (by omega), n_clamp (by omega)]
  omega
theorem ilX0_roads_67 {b : Nat} {cs : Nat → ClassId} {ad : Nat → Nat} {vs : Nat → Option Nat} {o : Nat}  {Q : Int32 → XS → Prop} (Inv : Int32 → Int32 → Int32 → Nat → Int32 → XS → Prop) (meas : Int32 → Int32 → Int32 → Nat → Int32 → XS → Nat) (step : ∀ (K67 : Int32 → Int32 → Int32 → Nat → Int32 → XS → Prop) (x3 : Int32) (x4 : Int32) (x5 : Int32) (x6 : Nat) (x7 : Int32) (f : XS), Inv x3 x4 x5 x6 x7 f → (∀ (y3 : Int32) (y4 : Int32) (y5 : Int32) (y6 : Nat) (y7 : Int32) (f' : XS), Inv y3 y4 y5 y6 y7 f' → meas y3 y4 y5 y6 y7 f' < meas x3 x4 x5 x6 x7 f → K67 y3 y4 y5 y6 y7 f') → wbX0_roads_67 b cs ad vs o K67 Q x3 x4 x5 x6 x7 f) (x3 : Int32) (x4 : Int32) (x5 : Int32) (x6 : Nat) (x7 : Int32) (f : XS) (h : Inv x3 x4 x5 x6 x7 f) : ∃ n : Nat, wlX0_roads_67 b cs ad vs o  Q n x3 x4 x5 x6 x7 f := by
  have key : ∀ (n : Nat) (x3 : Int32) (x4 : Int32) (x5 : Int32) (x6 : Nat) (x7 : Int32) (f : XS), Inv x3 x4 x5 x6 x7 f → meas x3 x4 x5 x6 x7 f < n → wlX0_roads_67 b cs ad vs o  Q n x3 x4 x5 x6 x7 f := by
    intro n
    induction n with
    | zero => intro x3 x4 x5 x6 x7 f hI hm; exact absurd hm (Nat.not_lt_zero _)
    | succ n ih => intro x3 x4 x5 x6 x7 f hI hm; exact step _ x3 x4 x5 x6 x7 f hI (fun y3 y4 y5 y6 y7 f' hI' hlt => ih y3 y4 y5 y6 y7 f' hI' (Nat.lt_of_lt_of_le hlt (Nat.le_of_lt_succ hm)))
  exact ⟨_, key _ x3 x4 x5 x6 x7 f h (Nat.lt_succ_self _)⟩
theorem icX0_roads_67_3 {b : Nat} {cs : Nat → ClassId} {ad : Nat → Nat} {vs : Nat → Option Nat} {o : Nat}  {Q : Int32 → XS → Prop} (N k0 : Nat) (hN : N < 2147483648) (h0 : k0 ≤ N) (P : Nat → Prop) (p4 : Nat → Int32) (p5 : Nat → Int32) (p6 : Nat → Nat) (p7 : Nat → Int32) (st : Nat → XS) (hP : P k0) (step : ∀ (K67 : Int32 → Int32 → Int32 → Nat → Int32 → XS → Prop) (k : Nat), k0 ≤ k → k ≤ N → P k → (k < N → P (k + 1) → K67 (Int32.ofNat (k + 1)) (p4 (k + 1)) (p5 (k + 1)) (p6 (k + 1)) (p7 (k + 1)) (st (k + 1))) → wbX0_roads_67 b cs ad vs o K67 Q (Int32.ofNat k) (p4 k) (p5 k) (p6 k) (p7 k) (st k)) : ∃ n : Nat, wlX0_roads_67 b cs ad vs o  Q n (Int32.ofNat k0) (p4 k0) (p5 k0) (p6 k0) (p7 k0) (st k0) := by
  refine ilX0_roads_67 (fun x3 x4 x5 x6 x7 f => ∃ k, k0 ≤ k ∧ k ≤ N ∧ P k ∧ x3 = Int32.ofNat k ∧ x4 = p4 k ∧ x5 = p5 k ∧ x6 = p6 k ∧ x7 = p7 k ∧ f = st k) (fun x3 x4 x5 x6 x7 _ => N - x3.toNatClampNeg) ?_ _ _ _ _ _ _ ⟨k0, Nat.le_refl _, h0, hP, rfl, rfl, rfl, rfl, rfl, rfl⟩
  intro K x3 x4 x5 x6 x7 f hI hK
  obtain ⟨k, h1, h2, h3, rfl, rfl, rfl, rfl, rfl, rfl⟩ := hI
  refine step K k h1 h2 h3 (fun h4 h5 => hK _ _ _ _ _ _ ⟨k + 1, by omega, by omega, h5, rfl, rfl, rfl, rfl, rfl, rfl⟩ ?_)
  show N - (Int32.ofNat (k + 1)).toNatClampNeg < N - (Int32.ofNat k).toNatClampNeg
  rw [n_clamp (by omega), n_clamp (by omega)]
  omega
theorem icX0_roads_67_4 {b : Nat} {cs : Nat → ClassId} {ad : Nat → Nat} {vs : Nat → Option Nat} {o : Nat}  {Q : Int32 → XS → Prop} (N k0 : Nat) (hN : N < 2147483648) (h0 : k0 ≤ N) (P : Nat → Prop) (p3 : Nat → Int32) (p5 : Nat → Int32) (p6 : Nat → Nat) (p7 : Nat → Int32) (st : Nat → XS) (hP : P k0) (step : ∀ (K67 : Int32 → Int32 → Int32 → Nat → Int32 → XS → Prop) (k : Nat), k0 ≤ k → k ≤ N → P k → (k < N → P (k + 1) → K67 (p3 (k + 1)) (Int32.ofNat (k + 1)) (p5 (k + 1)) (p6 (k + 1)) (p7 (k + 1)) (st (k + 1))) → wbX0_roads_67 b cs ad vs o K67 Q (p3 k) (Int32.ofNat k) (p5 k) (p6 k) (p7 k) (st k)) : ∃ n : Nat, wlX0_roads_67 b cs ad vs o  Q n (p3 k0) (Int32.ofNat k0) (p5 k0) (p6 k0) (p7 k0) (st k0) := by
  refine ilX0_roads_67 (fun x3 x4 x5 x6 x7 f => ∃ k, k0 ≤ k ∧ k ≤ N ∧ P k ∧ x3 = p3 k ∧ x4 = Int32.ofNat k ∧ x5 = p5 k ∧ x6 = p6 k ∧ x7 = p7 k ∧ f = st k) (fun x3 x4 x5 x6 x7 _ => N - x4.toNatClampNeg) ?_ _ _ _ _ _ _ ⟨k0, Nat.le_refl _, h0, hP, rfl, rfl, rfl, rfl, rfl, rfl⟩
  intro K x3 x4 x5 x6 x7 f hI hK
  obtain ⟨k, h1, h2, h3, rfl, rfl, rfl, rfl, rfl, rfl⟩ := hI
  refine step K k h1 h2 h3 (fun h4 h5 => hK _ _ _ _ _ _ ⟨k + 1, by omega, by omega, h5, rfl, rfl, rfl, rfl, rfl, rfl⟩ ?_)
  show N - (Int32.ofNat (k + 1)).toNatClampNeg < N - (Int32.ofNat k).toNatClampNeg
  rw [n_clamp (by omega), n_clamp (by omega)]
  omega
theorem icX0_roads_67_5 {b : Nat} {cs : Nat → ClassId} {ad : Nat → Nat} {vs : Nat → Option Nat} {o : Nat}  {Q : Int32 → XS → Prop} (N k0 : Nat) (hN : N < 2147483648) (h0 : k0 ≤ N) (P : Nat → Prop) (p3 : Nat → Int32) (p4 : Nat → Int32) (p6 : Nat → Nat) (p7 : Nat → Int32) (st : Nat → XS) (hP : P k0) (step : ∀ (K67 : Int32 → Int32 → Int32 → Nat → Int32 → XS → Prop) (k : Nat), k0 ≤ k → k ≤ N → P k → (k < N → P (k + 1) → K67 (p3 (k + 1)) (p4 (k + 1)) (Int32.ofNat (k + 1)) (p6 (k + 1)) (p7 (k + 1)) (st (k + 1))) → wbX0_roads_67 b cs ad vs o K67 Q (p3 k) (p4 k) (Int32.ofNat k) (p6 k) (p7 k) (st k)) : ∃ n : Nat, wlX0_roads_67 b cs ad vs o  Q n (p3 k0) (p4 k0) (Int32.ofNat k0) (p6 k0) (p7 k0) (st k0) := by
  refine ilX0_roads_67 (fun x3 x4 x5 x6 x7 f => ∃ k, k0 ≤ k ∧ k ≤ N ∧ P k ∧ x3 = p3 k ∧ x4 = p4 k ∧ x5 = Int32.ofNat k ∧ x6 = p6 k ∧ x7 = p7 k ∧ f = st k) (fun x3 x4 x5 x6 x7 _ => N - x5.toNatClampNeg) ?_ _ _ _ _ _ _ ⟨k0, Nat.le_refl _, h0, hP, rfl, rfl, rfl, rfl, rfl, rfl⟩
  intro K x3 x4 x5 x6 x7 f hI hK
  obtain ⟨k, h1, h2, h3, rfl, rfl, rfl, rfl, rfl, rfl⟩ := hI
  refine step K k h1 h2 h3 (fun h4 h5 => hK _ _ _ _ _ _ ⟨k + 1, by omega, by omega, h5, rfl, rfl, rfl, rfl, rfl, rfl⟩ ?_)
  show N - (Int32.ofNat (k + 1)).toNatClampNeg < N - (Int32.ofNat k).toNatClampNeg
  rw [n_clamp (by omega), n_clamp (by omega)]
  omega
theorem icX0_roads_67_7 {b : Nat} {cs : Nat → ClassId} {ad : Nat → Nat} {vs : Nat → Option Nat} {o : Nat}  {Q : Int32 → XS → Prop} (N k0 : Nat) (hN : N < 2147483648) (h0 : k0 ≤ N) (P : Nat → Prop) (p3 : Nat → Int32) (p4 : Nat → Int32) (p5 : Nat → Int32) (p6 : Nat → Nat) (st : Nat → XS) (hP : P k0) (step : ∀ (K67 : Int32 → Int32 → Int32 → Nat → Int32 → XS → Prop) (k : Nat), k0 ≤ k → k ≤ N → P k → (k < N → P (k + 1) → K67 (p3 (k + 1)) (p4 (k + 1)) (p5 (k + 1)) (p6 (k + 1)) (Int32.ofNat (k + 1)) (st (k + 1))) → wbX0_roads_67 b cs ad vs o K67 Q (p3 k) (p4 k) (p5 k) (p6 k) (Int32.ofNat k) (st k)) : ∃ n : Nat, wlX0_roads_67 b cs ad vs o  Q n (p3 k0) (p4 k0) (p5 k0) (p6 k0) (Int32.ofNat k0) (st k0) := by
  refine ilX0_roads_67 (fun x3 x4 x5 x6 x7 f => ∃ k, k0 ≤ k ∧ k ≤ N ∧ P k ∧ x3 = p3 k ∧ x4 = p4 k ∧ x5 = p5 k ∧ x6 = p6 k ∧ x7 = Int32.ofNat k ∧ f = st k) (fun x3 x4 x5 x6 x7 _ => N - x7.toNatClampNeg) ?_ _ _ _ _ _ _ ⟨k0, Nat.le_refl _, h0, hP, rfl, rfl, rfl, rfl, rfl, rfl⟩
  intro K x3 x4 x5 x6 x7 f hI hK
  obtain ⟨k, h1, h2, h3, rfl, rfl, rfl, rfl, rfl, rfl⟩ := hI
  refine step K k h1 h2 h3 (fun h4 h5 => hK _ _ _ _ _ _ ⟨k + 1, by omega, by omega, h5, rfl, rfl, rfl, rfl, rfl, rfl⟩ ?_)
  show N - (Int32.ofNat (k + 1)).toNatClampNeg < N - (Int32.ofNat k).toNatClampNeg
  rw [n_clamp (by omega), n_clamp (by omega)]
  omega
