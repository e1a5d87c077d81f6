/-! rules of the loops (by program) -/
set_option maxRecDepth 100000
theorem ilJ11_fill_5 {b : Nat} {cs : Nat → ClassId} {ad : Nat → Nat} {vs : Nat → Option Nat}  {Q : cW → Prop} (Inv : Nat → Int32 → Int32 → Int32 → cW → Prop) (meas : Nat → Int32 → Int32 → Int32 → cW → Nat) (step : ∀ (K5 : Nat → Int32 → Int32 → Int32 → cW → Prop) (x0 : Nat) (x1 : Int32) (x2 : Int32) (x3 : Int32) (f : cW), Inv x0 x1 x2 x3 f → (∀ (y0 : Nat) (y1 : Int32) (y2 : Int32) (y3 : Int32) (f' : cW), Inv y0 y1 y2 y3 f' → meas y0 y1 y2 y3 f' < meas x0 x1 x2 x3 f → K5 y0 y1 y2 y3 f') → wbJ11_fill_5 b cs ad vs K5 Q x0 x1 x2 x3 f) (x0 : Nat) (x1 : Int32) (x2 : Int32) (x3 : Int32) (f : cW) (h : Inv x0 x1 x2 x3 f) : ∃ n : Nat, wlJ11_fill_5 b cs ad vs  Q n x0 x1 x2 x3 f := by
  have key : ∀ (n : Nat) (x0 : Nat) (x1 : Int32) (x2 : Int32) (x3 : Int32) (f : cW), Inv x0 x1 x2 x3 f → meas x0 x1 x2 x3 f < n → wlJ11_fill_5 b cs ad vs  Q n x0 x1 x2 x3 f := by
    intro n
    induction n with
    | zero => intro x0 x1 x2 x3 f hI hm; exact absurd hm (Nat.not_lt_zero _)
    | succ n ih => intro x0 x1 x2 x3 f hI hm; exact step _ x0 x1 x2 x3 f hI (fun y0 y1 y2 y3 f' hI' hlt => ih y0 y1 y2 y3 f' hI' (Nat.lt_of_lt_of_le hlt (Nat.le_of_lt_succ hm)))
  exact ⟨_, key _ x0 x1 x2 x3 f h (Nat.lt_succ_self _)⟩
theorem icJ11_fill_5_1 {b : Nat} {cs : Nat → ClassId} {ad : Nat → Nat} {vs : Nat → Option Nat}  {Q : cW → Prop} (N k0 : Nat) (hN : N < 2147483648) (h0 : k0 ≤ N) (P : Nat → Prop) (p0 : Nat → Nat) (p2 : Nat → Int32) (p3 : Nat → Int32) (st : Nat → cW) (hP : P k0) (step : ∀ (K5 : Nat → Int32 → Int32 → Int32 → cW → Prop) (k : Nat), k0 ≤ k → k ≤ N → P k → (k < N → P (k + 1) → K5 (p0 (k + 1)) (Int32.ofNat (k + 1)) (p2 (k + 1)) (p3 (k + 1)) (st (k + 1))) → wbJ11_fill_5 b cs ad vs K5 Q (p0 k) (Int32.ofNat k) (p2 k) (p3 k) (st k)) : ∃ n : Nat, wlJ11_fill_5 b cs ad vs  Q n (p0 k0) (Int32.ofNat k0) (p2 k0) (p3 k0) (st k0) := by
  refine ilJ11_fill_5 (fun x0 x1 x2 x3 f => ∃ k, k0 ≤ k ∧ k ≤ N ∧ P k ∧ x0 = p0 k ∧ x1 = Int32.ofNat k ∧ x2 = p2 k ∧ x3 = p3 k ∧ f = st k) (fun x0 x1 x2 x3 _ => N - x1.toNatClampNeg) ?_ _ _ _ _ _ ⟨k0, Nat.le_refl _, h0, hP, rfl, rfl, rfl, rfl, rfl⟩
  intro K x0 x1 x2 x3 f hI hK
  obtain ⟨k, h1, h2, h3, rfl, rfl, rfl, rfl, rfl⟩ := hI
  refine step K k h1 h2 h3 (fun h4 h5 => hK _ _ _ _ _ ⟨k + 1, by omega, by omega, h5, rfl, rfl, rfl, rfl, rfl⟩ ?_)
  show N - (Int32.ofNat (k + 1)).toNatClampNeg < N - (Int32.ofNat k).toNatClampNeg
  rw [n_clamp (by omega), n_clamp (by omega)]
  omega
theorem icJ11_fill_5_2 {b : Nat} {cs : Nat → ClassId} {ad : Nat → Nat} {vs : Nat → Option Nat}  {Q : cW → Prop} (N k0 : Nat) (hN : N < 2147483648) (h0 : k0 ≤ N) (P : Nat → Prop) (p0 : Nat → Nat) (p1 : Nat → Int32) (p3 : Nat → Int32) (st : Nat → cW) (hP : P k0) (step : ∀ (K5 : Nat → Int32 → Int32 → Int32 → cW → Prop) (k : Nat), k0 ≤ k → k ≤ N → P k → (k < N → P (k + 1) → K5 (p0 (k + 1)) (p1 (k + 1)) (Int32.ofNat (k + 1)) (p3 (k + 1)) (st (k + 1))) → wbJ11_fill_5 b cs ad vs K5 Q (p0 k) (p1 k) (Int32.ofNat k) (p3 k) (st k)) : ∃ n : Nat, wlJ11_fill_5 b cs ad vs  Q n (p0 k0) (p1 k0) (Int32.ofNat k0) (p3 k0) (st k0) := by
  refine ilJ11_fill_5 (fun x0 x1 x2 x3 f => ∃ k, k0 ≤ k ∧ k ≤ N ∧ P k ∧ x0 = p0 k ∧ x1 = p1 k ∧ x2 = Int32.ofNat k ∧ x3 = p3 k ∧ f = st k) (fun x0 x1 x2 x3 _ => N - x2.toNatClampNeg) ?_ _ _ _ _ _ ⟨k0, Nat.le_refl _, h0, hP, rfl, rfl, rfl, rfl, rfl⟩
  intro K x0 x1 x2 x3 f hI hK
  obtain ⟨k, h1, h2, h3, rfl, rfl, rfl, rfl, rfl⟩ := hI
  refine step K k h1 h2 h3 (fun h4 h5 => hK _ _ _ _ _ ⟨k + 1, by omega, by omega, h5, rfl, rfl, rfl, rfl, rfl⟩ ?_)
  show N - (Int32.ofNat (k + 1)).toNatClampNeg < N - (Int32.ofNat k).toNatClampNeg
  rw [n_clamp (by omega), n_clamp (by omega)]
  omega
theorem icJ11_fill_5_3 {b : Nat} {cs : Nat → ClassId} {ad : Nat → Nat} {vs : Nat → Option Nat}  {Q : cW → Prop} (N k0 : Nat) (hN : N < 2147483648) (h0 : k0 ≤ N) (P : Nat → Prop) (p0 : Nat → Nat) (p1 : Nat → Int32) (p2 : Nat → Int32) (st : Nat → cW) (hP : P k0) (step : ∀ (K5 : Nat → Int32 → Int32 → Int32 → cW → Prop) (k : Nat), k0 ≤ k → k ≤ N → P k → (k < N → P (k + 1) → K5 (p0 (k + 1)) (p1 (k + 1)) (p2 (k + 1)) (Int32.ofNat (k + 1)) (st (k + 1))) → wbJ11_fill_5 b cs ad vs K5 Q (p0 k) (p1 k) (p2 k) (Int32.ofNat k) (st k)) : ∃ n : Nat, wlJ11_fill_5 b cs ad vs  Q n (p0 k0) (p1 k0) (p2 k0) (Int32.ofNat k0) (st k0) := by
  refine ilJ11_fill_5 (fun x0 x1 x2 x3 f => ∃ k, k0 ≤ k ∧ k ≤ N ∧ P k ∧ x0 = p0 k ∧ x1 = p1 k ∧ x2 = p2 k ∧ x3 = Int32.ofNat k ∧ f = st k) (fun x0 x1 x2 x3 _ => N - x3.toNatClampNeg) ?_ _ _ _ _ _ ⟨k0, Nat.le_refl _, h0, hP, rfl, rfl, rfl, rfl, rfl⟩
  intro K x0 x1 x2 x3 f hI hK
  obtain ⟨k, h1, h2, h3, rfl, rfl, rfl, rfl, rfl⟩ := hI
  refine step K k h1 h2 h3 (fun h4 h5 => hK _ _ _ _ _ ⟨k + 1, by omega, by omega, h5, rfl, rfl, rfl, rfl, rfl⟩ ?_)
  show N - (Int32.ofNat (k + 1)).toNatClampNeg < N - (Int32.ofNat k).toNatClampNeg
  rw [n_clamp (by omega), n_clamp (by omega)]
  omega
theorem ilJ11_fill_2_5 {b : Nat} {cs : Nat → ClassId} {ad : Nat → Nat} {vs : Nat → Option Nat}  {Q : cW → Prop} (Inv : Nat → Int32 → Int32 → Int32 → cW → Prop) (meas : Nat → Int32 → Int32 → Int32 → cW → Nat) (step : ∀ (K5 : Nat → Int32 → Int32 → Int32 → cW → Prop) (x0 : Nat) (x1 : Int32) (x2 : Int32) (x3 : Int32) (f : cW), Inv x0 x1 x2 x3 f → (∀ (y0 : Nat) (y1 : Int32) (y2 : Int32) (y3 : Int32) (f' : cW), Inv y0 y1 y2 y3 f' → meas y0 y1 y2 y3 f' < meas x0 x1 x2 x3 f → K5 y0 y1 y2 y3 f') → wbJ11_fill_2_5 b cs ad vs K5 Q x0 x1 x2 x3 f) (x0 : Nat) (x1 : Int32) (x2 : Int32) (x3 : Int32) (f : cW) (h : Inv x0 x1 x2 x3 f) : ∃ n : Nat, wlJ11_fill_2_5 b cs ad vs  Q n x0 x1 x2 x3 f := by
  have key : ∀ (n : Nat) (x0 : Nat) (x1 : Int32) (x2 : Int32) (x3 : Int32) (f : cW), Inv x0 x1 x2 x3 f → meas x0 x1 x2 x3 f < n → wlJ11_fill_2_5 b cs ad vs  Q n x0 x1 x2 x3 f := by
    intro n
    induction n with
    | zero => intro x0 x1 x2 x3 f hI hm; exact absurd hm (Nat.not_lt_zero _)
    | succ n ih => intro x0 x1 x2 x3 f hI hm; exact step _ x0 x1 x2 x3 f hI (fun y0 y1 y2 y3 f' hI' hlt => ih y0 y1 y2 y3 f' hI' (Nat.lt_of_lt_of_le hlt (Nat.le_of_lt_succ hm)))
  exact ⟨_, key _ x0 x1 x2 x3 f h (Nat.lt_succ_self _)⟩
theorem icJ11_fill_2_5_1 {b : Nat} {cs : Nat → ClassId} {ad : Nat → Nat} {vs : Nat → Option Nat}  {Q : cW → Prop} (N k0 : Nat) (hN : N < 2147483648) (h0 : k0 ≤ N) (P : Nat → Prop) (p0 : Nat → Nat) (p2 : Nat → Int32) (p3 : Nat → Int32) (st : Nat → cW) (hP : P k0) (step : ∀ (K5 : Nat → Int32 → Int32 → Int32 → cW → Prop) (k : Nat), k0 ≤ k → k ≤ N → P k → (k < N → P (k + 1) → K5 (p0 (k + 1)) (Int32.ofNat (k + 1)) (p2 (k + 1)) (p3 (k + 1)) (st (k + 1))) → wbJ11_fill_2_5 b cs ad vs K5 Q (p0 k) (Int32.ofNat k) (p2 k) (p3 k) (st k)) : ∃ n : Nat, wlJ11_fill_2_5 b cs ad vs  Q n (p0 k0) (Int32.ofNat k0) (p2 k0) (p3 k0) (st k0) := by
  refine ilJ11_fill_2_5 (fun x0 x1 x2 x3 f => ∃ k, k0 ≤ k ∧ k ≤ N ∧ P k ∧ x0 = p0 k ∧ x1 = Int32.ofNat k ∧ x2 = p2 k ∧ x3 = p3 k ∧ f = st k) (fun x0 x1 x2 x3 _ => N - x1.toNatClampNeg) ?_ _ _ _ _ _ ⟨k0, Nat.le_refl _, h0, hP, rfl, rfl, rfl, rfl, rfl⟩
  intro K x0 x1 x2 x3 f hI hK
  obtain ⟨k, h1, h2, h3, rfl, rfl, rfl, rfl, rfl⟩ := hI
  refine step K k h1 h2 h3 (fun h4 h5 => hK _ _ _ _ _ ⟨k + 1, by omega, by omega, h5, rfl, rfl, rfl, rfl, rfl⟩ ?_)
  show N - (Int32.ofNat (k + 1)).toNatClampNeg < N - (Int32.ofNat k).toNatClampNeg
  rw [n_clamp (by omega), n_clamp (by omega)]
  omega
theorem icJ11_fill_2_5_2 {b : Nat} {cs : Nat → ClassId} {ad : Nat → Nat} {vs : Nat → Option Nat}  {Q : cW → Prop} (N k0 : Nat) (hN : N < 2147483648) (h0 : k0 ≤ N) (P : Nat → Prop) (p0 : Nat → Nat) (p1 : Nat → Int32) (p3 : Nat → Int32) (st : Nat → cW) (hP : P k0) (step : ∀ (K5 : Nat → Int32 → Int32 → Int32 → cW → Prop) (k : Nat), k0 ≤ k → k ≤ N → P k → (k < N → P (k + 1) → K5 (p0 (k + 1)) (p1 (k + 1)) (Int32.ofNat (k + 1)) (p3 (k + 1)) (st (k + 1))) → wbJ11_fill_2_5 b cs ad vs K5 Q (p0 k) (p1 k) (Int32.ofNat k) (p3 k) (st k)) : ∃ n : Nat, wlJ11_fill_2_5 b cs ad vs  Q n (p0 k0) (p1 k0) (Int32.ofNat k0) (p3 k0) (st k0) := by
  refine ilJ11_fill_2_5 (fun x0 x1 x2 x3 f => ∃ k, k0 ≤ k ∧ k ≤ N ∧ P k ∧ x0 = p0 k ∧ x1 = p1 k ∧ x2 = Int32.ofNat k ∧ x3 = p3 k ∧ f = st k) (fun x0 x1 x2 x3 _ => N - x2.toNatClampNeg) ?_ _ _ _ _ _ ⟨k0, Nat.le_refl _, h0, hP, rfl, rfl, rfl, rfl, rfl⟩
  intro K x0 x1 x2 x3 f hI hK
  obtain ⟨k, h1, h2, h3, rfl, rfl, rfl, rfl, rfl⟩ := hI
  refine step K k h1 h2 h3 (fun h4 h5 => hK _ _ _ _ _ ⟨k + 1, by omega, by omega, h5, rfl, rfl, rfl, rfl, rfl⟩ ?_)
  show N - (Int32.ofNat (k + 1)).toNatClampNeg < N - (Int32.ofNat k).toNatClampNeg
  rw [n_clamp (by omega), n_clamp (by omega)]
  omega
theorem icJ11_fill_2_5_3 {b : Nat} {cs : Nat → ClassId} {ad : Nat → Nat} {vs : Nat → Option Nat}  {Q : cW → Prop} (N k0 : Nat) (hN : N < 2147483648) (h0 : k0 ≤ N) (P : Nat → Prop) (p0 : Nat → Nat) (p1 : Nat → Int32) (p2 : Nat → Int32) (st : Nat → cW) (hP : P k0) (step : ∀ (K5 : Nat → Int32 → Int32 → Int32 → cW → Prop) (k : Nat), k0 ≤ k → k ≤ N → P k → (k < N → P (k + 1) → K5 (p0 (k + 1)) (p1 (k + 1)) (p2 (k + 1)) (Int32.ofNat (k + 1)) (st (k + 1))) → wbJ11_fill_2_5 b cs ad vs K5 Q (p0 k) (p1 k) (p2 k) (Int32.ofNat k) (st k)) : ∃ n : Nat, wlJ11_fill_2_5 b cs ad vs  Q n (p0 k0) (p1 k0) (p2 k0) (Int32.ofNat k0) (st k0) := by
  refine ilJ11_fill_2_5 (fun x0 x1 x2 x3 f => ∃ k, k0 ≤ k ∧ k ≤ N ∧ P k ∧ x0 = p0 k ∧ x1 = p1 k ∧ x2 = p2 k ∧ x3 = Int32.ofNat k ∧ f = st k) (fun x0 x1 x2 x3 _ => N - x3.toNatClampNeg) ?_ _ _ _ _ _ ⟨k0, Nat.le_refl _, h0, hP, rfl, rfl, rfl, rfl, rfl⟩
  intro K x0 x1 x2 x3 f hI hK
  obtain ⟨k, h1, h2, h3, rfl, rfl, rfl, rfl, rfl⟩ := hI
  refine step K k h1 h2 h3 (fun h4 h5 => hK _ _ _ _ _ ⟨k + 1, by omega, by omega, h5, rfl, rfl, rfl, rfl, rfl⟩ ?_)
  show N - (Int32.ofNat (k + 1)).toNatClampNeg < N - (Int32.ofNat k).toNatClampNeg
  rw [n_clamp (by omega), n_clamp (by omega)]
  omega
theorem ilJ4_indexOfChar_s_7 {b : Nat} {cs : Nat → ClassId} {ad : Nat → Nat} {vs : Nat → Option Nat}  {Q : Int32 → cW → Prop} (Inv : Nat → Int32 → Int32 → Int32 → cW → Prop) (meas : Nat → Int32 → Int32 → Int32 → cW → Nat) (step : ∀ (K7 : Nat → Int32 → Int32 → Int32 → cW → Prop) (x0 : Nat) (x3 : Int32) (x4 : Int32) (x5 : Int32) (f : cW), Inv x0 x3 x4 x5 f → (∀ (y0 : Nat) (y3 : Int32) (y4 : Int32) (y5 : Int32) (f' : cW), Inv y0 y3 y4 y5 f' → meas y0 y3 y4 y5 f' < meas x0 x3 x4 x5 f → K7 y0 y3 y4 y5 f') → wbJ4_indexOfChar_s_7 b cs ad vs K7 Q x0 x3 x4 x5 f) (x0 : Nat) (x3 : Int32) (x4 : Int32) (x5 : Int32) (f : cW) (h : Inv x0 x3 x4 x5 f) : ∃ n : Nat, wlJ4_indexOfChar_s_7 b cs ad vs  Q n x0 x3 x4 x5 f := by
  have key : ∀ (n : Nat) (x0 : Nat) (x3 : Int32) (x4 : Int32) (x5 : Int32) (f : cW), Inv x0 x3 x4 x5 f → meas x0 x3 x4 x5 f < n → wlJ4_indexOfChar_s_7 b cs ad vs  Q n x0 x3 x4 x5 f := by
    intro n
    induction n with
    | zero => intro x0 x3 x4 x5 f hI hm; exact absurd hm (Nat.not_lt_zero _)
    | succ n ih => intro x0 x3 x4 x5 f hI hm; exact step _ x0 x3 x4 x5 f hI (fun y0 y3 y4 y5 f' hI' hlt => ih y0 y3 y4 y5 f' hI' (Nat.lt_of_lt_of_le hlt (Nat.le_of_lt_succ hm)))
  exact ⟨_, key _ x0 x3 x4 x5 f h (Nat.lt_succ_self _)⟩
theorem icJ4_indexOfChar_s_7_3 {b : Nat} {cs : Nat → ClassId} {ad : Nat → Nat} {vs : Nat → Option Nat}  {Q : Int32 → cW → Prop} (N k0 : Nat) (hN : N < 2147483648) (h0 : k0 ≤ N) (P : Nat → Prop) (p0 : Nat → Nat) (p4 : Nat → Int32) (p5 : Nat → Int32) (st : Nat → cW) (hP : P k0) (step : ∀ (K7 : Nat → Int32 → Int32 → Int32 → cW → Prop) (k : Nat), k0 ≤ k → k ≤ N → P k → (k < N → P (k + 1) → K7 (p0 (k + 1)) (Int32.ofNat (k + 1)) (p4 (k + 1)) (p5 (k + 1)) (st (k + 1))) → wbJ4_indexOfChar_s_7 b cs ad vs K7 Q (p0 k) (Int32.ofNat k) (p4 k) (p5 k) (st k)) : ∃ n : Nat, wlJ4_indexOfChar_s_7 b cs ad vs  Q n (p0 k0) (Int32.ofNat k0) (p4 k0) (p5 k0) (st k0) := by
  refine ilJ4_indexOfChar_s_7 (fun x0 x3 x4 x5 f => ∃ k, k0 ≤ k ∧ k ≤ N ∧ P k ∧ x0 = p0 k ∧ x3 = Int32.ofNat k ∧ x4 = p4 k ∧ x5 = p5 k ∧ f = st k) (fun x0 x3 x4 x5 _ => N - x3.toNatClampNeg) ?_ _ _ _ _ _ ⟨k0, Nat.le_refl _, h0, hP, rfl, rfl, rfl, rfl, rfl⟩
  intro K x0 x3 x4 x5 f hI hK
  obtain ⟨k, h1, h2, h3, rfl, rfl, rfl, rfl, rfl⟩ := hI
  refine step K k h1 h2 h3 (fun h4 h5 => hK _ _ _ _ _ ⟨k + 1, by omega, by omega, h5, rfl, rfl, rfl, rfl, rfl⟩ ?_)
  show N - (Int32.ofNat (k + 1)).toNatClampNeg < N - (Int32.ofNat k).toNatClampNeg
  rw [n_clamp (by omega), n_clamp (by omega)]
  omega
theorem icJ4_indexOfChar_s_7_4 {b : Nat} {cs : Nat → ClassId} {ad : Nat → Nat} {vs : Nat → Option Nat}  {Q : Int32 → cW → Prop} (N k0 : Nat) (hN : N < 2147483648) (h0 : k0 ≤ N) (P : Nat → Prop) (p0 : Nat → Nat) (p3 : Nat → Int32) (p5 : Nat → Int32) (st : Nat → cW) (hP : P k0) (step : ∀ (K7 : Nat → Int32 → Int32 → Int32 → cW → Prop) (k : Nat), k0 ≤ k → k ≤ N → P k → (k < N → P (k + 1) → K7 (p0 (k + 1)) (p3 (k + 1)) (Int32.ofNat (k + 1)) (p5 (k + 1)) (st (k + 1))) → wbJ4_indexOfChar_s_7 b cs ad vs K7 Q (p0 k) (p3 k) (Int32.ofNat k) (p5 k) (st k)) : ∃ n : Nat, wlJ4_indexOfChar_s_7 b cs ad vs  Q n (p0 k0) (p3 k0) (Int32.ofNat k0) (p5 k0) (st k0) := by
  refine ilJ4_indexOfChar_s_7 (fun x0 x3 x4 x5 f => ∃ k, k0 ≤ k ∧ k ≤ N ∧ P k ∧ x0 = p0 k ∧ x3 = p3 k ∧ x4 = Int32.ofNat k ∧ x5 = p5 k ∧ f = st k) (fun x0 x3 x4 x5 _ => N - x4.toNatClampNeg) ?_ _ _ _ _ _ ⟨k0, Nat.le_refl _, h0, hP, rfl, rfl, rfl, rfl, rfl⟩
  intro K x0 x3 x4 x5 f hI hK
  obtain ⟨k, h1, h2, h3, rfl, rfl, rfl, rfl, rfl⟩ := hI
  refine step K k h1 h2 h3 (fun h4 h5 => hK _ _ _ _ _ ⟨k + 1, by omega, by omega, h5, rfl, rfl, rfl, rfl, rfl⟩ ?_)
  show N - (Int32.ofNat (k + 1)).toNatClampNeg < N - (Int32.ofNat k).toNatClampNeg
  rw [n_clamp (by omega), n_clamp (by omega)]
  omega
theorem icJ4_indexOfChar_s_7_5 {b : Nat} {cs : Nat → ClassId} {ad : Nat → Nat} {vs : Nat → Option Nat}  {Q : Int32 → cW → Prop} (N k0 : Nat) (hN : N < 2147483648) (h0 : k0 ≤ N) (P : Nat → Prop) (p0 : Nat → Nat) (p3 : Nat → Int32) (p4 : Nat → Int32) (st : Nat → cW) (hP : P k0) (step : ∀ (K7 : Nat → Int32 → Int32 → Int32 → cW → Prop) (k : Nat), k0 ≤ k → k ≤ N → P k → (k < N → P (k + 1) → K7 (p0 (k + 1)) (p3 (k + 1)) (p4 (k + 1)) (Int32.ofNat (k + 1)) (st (k + 1))) → wbJ4_indexOfChar_s_7 b cs ad vs K7 Q (p0 k) (p3 k) (p4 k) (Int32.ofNat k) (st k)) : ∃ n : Nat, wlJ4_indexOfChar_s_7 b cs ad vs  Q n (p0 k0) (p3 k0) (p4 k0) (Int32.ofNat k0) (st k0) := by
  refine ilJ4_indexOfChar_s_7 (fun x0 x3 x4 x5 f => ∃ k, k0 ≤ k ∧ k ≤ N ∧ P k ∧ x0 = p0 k ∧ x3 = p3 k ∧ x4 = p4 k ∧ x5 = Int32.ofNat k ∧ f = st k) (fun x0 x3 x4 x5 _ => N - x5.toNatClampNeg) ?_ _ _ _ _ _ ⟨k0, Nat.le_refl _, h0, hP, rfl, rfl, rfl, rfl, rfl⟩
  intro K x0 x3 x4 x5 f hI hK
  obtain ⟨k, h1, h2, h3, rfl, rfl, rfl, rfl, rfl⟩ := hI
  refine step K k h1 h2 h3 (fun h4 h5 => hK _ _ _ _ _ ⟨k + 1, by omega, by omega, h5, rfl, rfl, rfl, rfl, rfl⟩ ?_)
  show N - (Int32.ofNat (k + 1)).toNatClampNeg < N - (Int32.ofNat k).toNatClampNeg
  rw [n_clamp (by omega), n_clamp (by omega)]
  omega
theorem ilJ4_equals_s_9 {b : Nat} {cs : Nat → ClassId} {ad : Nat → Nat} {vs : Nat → Option Nat}  {Q : Int32 → cW → Prop} (Inv : Nat → Nat → Int32 → cW → Prop) (meas : Nat → Nat → Int32 → cW → Nat) (step : ∀ (K9 : Nat → Nat → Int32 → cW → Prop) (x0 : Nat) (x1 : Nat) (x2 : Int32) (f : cW), Inv x0 x1 x2 f → (∀ (y0 : Nat) (y1 : Nat) (y2 : Int32) (f' : cW), Inv y0 y1 y2 f' → meas y0 y1 y2 f' < meas x0 x1 x2 f → K9 y0 y1 y2 f') → wbJ4_equals_s_9 b cs ad vs K9 Q x0 x1 x2 f) (x0 : Nat) (x1 : Nat) (x2 : Int32) (f : cW) (h : Inv x0 x1 x2 f) : ∃ n : Nat, wlJ4_equals_s_9 b cs ad vs  Q n x0 x1 x2 f := by
  have key : ∀ (n : Nat) (x0 : Nat) (x1 : Nat) (x2 : Int32) (f : cW), Inv x0 x1 x2 f → meas x0 x1 x2 f < n → wlJ4_equals_s_9 b cs ad vs  Q n x0 x1 x2 f := by
    intro n
    induction n with
    | zero => intro x0 x1 x2 f hI hm; exact absurd hm (Nat.not_lt_zero _)
    | succ n ih => intro x0 x1 x2 f hI hm; exact step _ x0 x1 x2 f hI (fun y0 y1 y2 f' hI' hlt => ih y0 y1 y2 f' hI' (Nat.lt_of_lt_of_le hlt (Nat.le_of_lt_succ hm)))
  exact ⟨_, key _ x0 x1 x2 f h (Nat.lt_succ_self _)⟩
theorem icJ4_equals_s_9_2 {b : Nat} {cs : Nat → ClassId} {ad : Nat → Nat} {vs : Nat → Option Nat}  {Q : Int32 → cW → Prop} (N k0 : Nat) (hN : N < 2147483648) (h0 : k0 ≤ N) (P : Nat → Prop) (p0 : Nat → Nat) (p1 : Nat → Nat) (st : Nat → cW) (hP : P k0) (step : ∀ (K9 : Nat → Nat → Int32 → cW → Prop) (k : Nat), k0 ≤ k → k ≤ N → P k → (k < N → P (k + 1) → K9 (p0 (k + 1)) (p1 (k + 1)) (Int32.ofNat (k + 1)) (st (k + 1))) → wbJ4_equals_s_9 b cs ad vs K9 Q (p0 k) (p1 k) (Int32.ofNat k) (st k)) : ∃ n : Nat, wlJ4_equals_s_9 b cs ad vs  Q n (p0 k0) (p1 k0) (Int32.ofNat k0) (st k0) := by
  refine ilJ4_equals_s_9 (fun x0 x1 x2 f => ∃ k, k0 ≤ k ∧ k ≤ N ∧ P k ∧ x0 = p0 k ∧ x1 = p1 k ∧ x2 = Int32.ofNat k ∧ f = st k) (fun x0 x1 x2 _ => N - x2.toNatClampNeg) ?_ _ _ _ _ ⟨k0, Nat.le_refl _, h0, hP, rfl, rfl, rfl, rfl⟩
  intro K x0 x1 x2 f hI hK
  obtain ⟨k, h1, h2, h3, rfl, rfl, rfl, rfl⟩ := hI
  refine step K k h1 h2 h3 (fun h4 h5 => hK _ _ _ _ ⟨k + 1, by omega, by omega, h5, rfl, rfl, rfl, rfl⟩ ?_)
  show N - (Int32.ofNat (k + 1)).toNatClampNeg < N - (Int32.ofNat k).toNatClampNeg
  rw [n_clamp (by omega), n_clamp (by omega)]
  omega
theorem ilX2_next_0 {b : Nat} {cs : Nat → ClassId} {ad : Nat → Nat} {vs : Nat → Option Nat} {K31 : Nat → cW → Prop} {X : Nat → cW → Prop} {Q : cW → Prop} (Inv : Nat → cW → Prop) (meas : Nat → cW → Nat) (step : ∀ (K0 : Nat → cW → Prop) (x0 : Nat) (f : cW), Inv x0 f → (∀ (y0 : Nat) (f' : cW), Inv y0 f' → meas y0 f' < meas x0 f → K0 y0 f') → wbX2_next_0 b cs ad vs K0 K31 X Q x0 f) (x0 : Nat) (f : cW) (h : Inv x0 f) : ∃ n : Nat, wlX2_next_0 b cs ad vs K31 X Q n x0 f := by
  have key : ∀ (n : Nat) (x0 : Nat) (f : cW), Inv x0 f → meas x0 f < n → wlX2_next_0 b cs ad vs K31 X Q n x0 f := by
    intro n
    induction n with
    | zero => intro x0 f hI hm; exact absurd hm (Nat.not_lt_zero _)
    | succ n ih => intro x0 f hI hm; exact step _ x0 f hI (fun y0 f' hI' hlt => ih y0 f' hI' (Nat.lt_of_lt_of_le hlt (Nat.le_of_lt_succ hm)))
  exact ⟨_, key _ x0 f h (Nat.lt_succ_self _)⟩

theorem ilX2_next_163 {b : Nat} {cs : Nat → ClassId} {ad : Nat → Nat} {vs : Nat → Option Nat} {K220 : Nat → Int32 → cW → Prop} {X : Nat → cW → Prop} {Q : cW → Prop} (Inv : Nat → Int32 → cW → Prop) (meas : Nat → Int32 → cW → Nat) (step : ∀ (K163 : Nat → Int32 → cW → Prop) (x0 : Nat) (x1 : Int32) (f : cW), Inv x0 x1 f → (∀ (y0 : Nat) (y1 : Int32) (f' : cW), Inv y0 y1 f' → meas y0 y1 f' < meas x0 x1 f → K163 y0 y1 f') → wbX2_next_163 b cs ad vs K163 K220 X Q x0 x1 f) (x0 : Nat) (x1 : Int32) (f : cW) (h : Inv x0 x1 f) : ∃ n : Nat, wlX2_next_163 b cs ad vs K220 X Q n x0 x1 f := by
  have key : ∀ (n : Nat) (x0 : Nat) (x1 : Int32) (f : cW), Inv x0 x1 f → meas x0 x1 f < n → wlX2_next_163 b cs ad vs K220 X Q n x0 x1 f := by
    intro n
    induction n with
    | zero => intro x0 x1 f hI hm; exact absurd hm (Nat.not_lt_zero _)
    | succ n ih => intro x0 x1 f hI hm; exact step _ x0 x1 f hI (fun y0 y1 f' hI' hlt => ih y0 y1 f' hI' (Nat.lt_of_lt_of_le hlt (Nat.le_of_lt_succ hm)))
  exact ⟨_, key _ x0 x1 f h (Nat.lt_succ_self _)⟩
theorem icX2_next_163_1 {b : Nat} {cs : Nat → ClassId} {ad : Nat → Nat} {vs : Nat → Option Nat} {K220 : Nat → Int32 → cW → Prop} {X : Nat → cW → Prop} {Q : cW → Prop} (N k0 : Nat) (hN : N < 2147483648) (h0 : k0 ≤ N) (P : Nat → Prop) (p0 : Nat → Nat) (st : Nat → cW) (hP : P k0) (step : ∀ (K163 : Nat → Int32 → cW → Prop) (k : Nat), k0 ≤ k → k ≤ N → P k → (k < N → P (k + 1) → K163 (p0 (k + 1)) (Int32.ofNat (k + 1)) (st (k + 1))) → wbX2_next_163 b cs ad vs K163 K220 X Q (p0 k) (Int32.ofNat k) (st k)) : ∃ n : Nat, wlX2_next_163 b cs ad vs K220 X Q n (p0 k0) (Int32.ofNat k0) (st k0) := by
  refine ilX2_next_163 (fun x0 x1 f => ∃ k, k0 ≤ k ∧ k ≤ N ∧ P k ∧ x0 = p0 k ∧ x1 = Int32.ofNat k ∧ f = st k) (fun x0 x1 _ => N - x1.toNatClampNeg) ?_ _ _ _ ⟨k0, Nat.le_refl _, h0, hP, rfl, rfl, rfl⟩
  intro K x0 x1 f hI hK
  obtain ⟨k, h1, h2, h3, rfl, rfl, rfl⟩ := hI
  refine step K k h1 h2 h3 (fun h4 h5 => hK _ _ _ ⟨k + 1, by omega, by omega, h5, rfl, rfl, rfl⟩ ?_)
  show N - (Int32.ofNat (k + 1)).toNatClampNeg < N - (Int32.ofNat k).toNatClampNeg
  rw [n_clamp (by omega), n_clamp (by omega)]
  omega
theorem ilX2_next_79 {b : Nat} {cs : Nat → ClassId} {ad : Nat → Nat} {vs : Nat → Option Nat} {K128 : Nat → Nat → cW → Prop} {X : Nat → cW → Prop} {Q : cW → Prop} (Inv : Nat → Nat → cW → Prop) (meas : Nat → Nat → cW → Nat) (step : ∀ (K79 : Nat → Nat → cW → Prop) (x0 : Nat) (x1 : Nat) (f : cW), Inv x0 x1 f → (∀ (y0 : Nat) (y1 : Nat) (f' : cW), Inv y0 y1 f' → meas y0 y1 f' < meas x0 x1 f → K79 y0 y1 f') → wbX2_next_79 b cs ad vs K79 K128 X Q x0 x1 f) (x0 : Nat) (x1 : Nat) (f : cW) (h : Inv x0 x1 f) : ∃ n : Nat, wlX2_next_79 b cs ad vs K128 X Q n x0 x1 f := by
  have key : ∀ (n : Nat) (x0 : Nat) (x1 : Nat) (f : cW), Inv x0 x1 f → meas x0 x1 f < n → wlX2_next_79 b cs ad vs K128 X Q n x0 x1 f := by
    intro n
    induction n with
    | zero => intro x0 x1 f hI hm; exact absurd hm (Nat.not_lt_zero _)
    | succ n ih => intro x0 x1 f hI hm; exact step _ x0 x1 f hI (fun y0 y1 f' hI' hlt => ih y0 y1 f' hI' (Nat.lt_of_lt_of_le hlt (Nat.le_of_lt_succ hm)))
  exact ⟨_, key _ x0 x1 f h (Nat.lt_succ_self _)⟩

theorem ilX2_one_115 {b : Nat} {cs : Nat → ClassId} {ad : Nat → Nat} {vs : Nat → Option Nat} {NW : Nat → cW → Nat → (Nat → cW → Prop) → (Nat → cW → Prop) → Prop} {K138 : Nat → Int32 → cW → Prop} {K158 : Nat → cW → Prop} {X : Nat → cW → Prop} {Q : Nat → cW → Prop} (Inv : Nat → Int32 → cW → Prop) (meas : Nat → Int32 → cW → Nat) (step : ∀ (K115 : Nat → Int32 → cW → Prop) (x0 : Nat) (x1 : Int32) (f : cW), Inv x0 x1 f → (∀ (y0 : Nat) (y1 : Int32) (f' : cW), Inv y0 y1 f' → meas y0 y1 f' < meas x0 x1 f → K115 y0 y1 f') → wbX2_one_115 b cs ad vs NW K115 K138 K158 X Q x0 x1 f) (x0 : Nat) (x1 : Int32) (f : cW) (h : Inv x0 x1 f) : ∃ n : Nat, wlX2_one_115 b cs ad vs NW K138 K158 X Q n x0 x1 f := by
  have key : ∀ (n : Nat) (x0 : Nat) (x1 : Int32) (f : cW), Inv x0 x1 f → meas x0 x1 f < n → wlX2_one_115 b cs ad vs NW K138 K158 X Q n x0 x1 f := by
    intro n
    induction n with
    | zero => intro x0 x1 f hI hm; exact absurd hm (Nat.not_lt_zero _)
    | succ n ih => intro x0 x1 f hI hm; exact step _ x0 x1 f hI (fun y0 y1 f' hI' hlt => ih y0 y1 f' hI' (Nat.lt_of_lt_of_le hlt (Nat.le_of_lt_succ hm)))
  exact ⟨_, key _ x0 x1 f h (Nat.lt_succ_self _)⟩
theorem icX2_one_115_1 {b : Nat} {cs : Nat → ClassId} {ad : Nat → Nat} {vs : Nat → Option Nat} {NW : Nat → cW → Nat → (Nat → cW → Prop) → (Nat → cW → Prop) → Prop} {K138 : Nat → Int32 → cW → Prop} {K158 : Nat → cW → Prop} {X : Nat → cW → Prop} {Q : Nat → cW → Prop} (N k0 : Nat) (hN : N < 2147483648) (h0 : k0 ≤ N) (P : Nat → Prop) (p0 : Nat → Nat) (st : Nat → cW) (hP : P k0) (step : ∀ (K115 : Nat → Int32 → cW → Prop) (k : Nat), k0 ≤ k → k ≤ N → P k → (k < N → P (k + 1) → K115 (p0 (k + 1)) (Int32.ofNat (k + 1)) (st (k + 1))) → wbX2_one_115 b cs ad vs NW K115 K138 K158 X Q (p0 k) (Int32.ofNat k) (st k)) : ∃ n : Nat, wlX2_one_115 b cs ad vs NW K138 K158 X Q n (p0 k0) (Int32.ofNat k0) (st k0) := by
  refine ilX2_one_115 (fun x0 x1 f => ∃ k, k0 ≤ k ∧ k ≤ N ∧ P k ∧ x0 = p0 k ∧ x1 = Int32.ofNat k ∧ f = st k) (fun x0 x1 _ => N - x1.toNatClampNeg) ?_ _ _ _ ⟨k0, Nat.le_refl _, h0, hP, rfl, rfl, rfl⟩
  intro K x0 x1 f hI hK
  obtain ⟨k, h1, h2, h3, rfl, rfl, rfl⟩ := hI
  refine step K k h1 h2 h3 (fun h4 h5 => hK _ _ _ ⟨k + 1, by omega, by omega, h5, rfl, rfl, rfl⟩ ?_)
  show N - (Int32.ofNat (k + 1)).toNatClampNeg < N - (Int32.ofNat k).toNatClampNeg
  rw [n_clamp (by omega), n_clamp (by omega)]
  omega
theorem ilX2_term_5 {b : Nat} {cs : Nat → ClassId} {ad : Nat → Nat} {vs : Nat → Option Nat} {NW : Nat → cW → Nat → (Nat → cW → Prop) → (Nat → cW → Prop) → Prop}  {X : Nat → cW → Prop} {Q : Nat → cW → Prop} (Inv : Nat → Nat → cW → Prop) (meas : Nat → Nat → cW → Nat) (step : ∀ (K5 : Nat → Nat → cW → Prop) (x0 : Nat) (x1 : Nat) (f : cW), Inv x0 x1 f → (∀ (y0 : Nat) (y1 : Nat) (f' : cW), Inv y0 y1 f' → meas y0 y1 f' < meas x0 x1 f → K5 y0 y1 f') → wbX2_term_5 b cs ad vs NW K5 X Q x0 x1 f) (x0 : Nat) (x1 : Nat) (f : cW) (h : Inv x0 x1 f) : ∃ n : Nat, wlX2_term_5 b cs ad vs NW  X Q n x0 x1 f := by
  have key : ∀ (n : Nat) (x0 : Nat) (x1 : Nat) (f : cW), Inv x0 x1 f → meas x0 x1 f < n → wlX2_term_5 b cs ad vs NW  X Q n x0 x1 f := by
    intro n
    induction n with
    | zero => intro x0 x1 f hI hm; exact absurd hm (Nat.not_lt_zero _)
    | succ n ih => intro x0 x1 f hI hm; exact step _ x0 x1 f hI (fun y0 y1 f' hI' hlt => ih y0 y1 f' hI' (Nat.lt_of_lt_of_le hlt (Nat.le_of_lt_succ hm)))
  exact ⟨_, key _ x0 x1 f h (Nat.lt_succ_self _)⟩

theorem ilX2_sum_5 {b : Nat} {cs : Nat → ClassId} {ad : Nat → Nat} {vs : Nat → Option Nat} {NW : Nat → cW → Nat → (Nat → cW → Prop) → (Nat → cW → Prop) → Prop}  {X : Nat → cW → Prop} {Q : Nat → cW → Prop} (Inv : Nat → Nat → cW → Prop) (meas : Nat → Nat → cW → Nat) (step : ∀ (K5 : Nat → Nat → cW → Prop) (x0 : Nat) (x1 : Nat) (f : cW), Inv x0 x1 f → (∀ (y0 : Nat) (y1 : Nat) (f' : cW), Inv y0 y1 f' → meas y0 y1 f' < meas x0 x1 f → K5 y0 y1 f') → wbX2_sum_5 b cs ad vs NW K5 X Q x0 x1 f) (x0 : Nat) (x1 : Nat) (f : cW) (h : Inv x0 x1 f) : ∃ n : Nat, wlX2_sum_5 b cs ad vs NW  X Q n x0 x1 f := by
  have key : ∀ (n : Nat) (x0 : Nat) (x1 : Nat) (f : cW), Inv x0 x1 f → meas x0 x1 f < n → wlX2_sum_5 b cs ad vs NW  X Q n x0 x1 f := by
    intro n
    induction n with
    | zero => intro x0 x1 f hI hm; exact absurd hm (Nat.not_lt_zero _)
    | succ n ih => intro x0 x1 f hI hm; exact step _ x0 x1 f hI (fun y0 y1 f' hI' hlt => ih y0 y1 f' hI' (Nat.lt_of_lt_of_le hlt (Nat.le_of_lt_succ hm)))
  exact ⟨_, key _ x0 x1 f h (Nat.lt_succ_self _)⟩

theorem ilX2_both_5 {b : Nat} {cs : Nat → ClassId} {ad : Nat → Nat} {vs : Nat → Option Nat} {NW : Nat → cW → Nat → (Nat → cW → Prop) → (Nat → cW → Prop) → Prop}  {X : Nat → cW → Prop} {Q : Nat → cW → Prop} (Inv : Nat → Nat → cW → Prop) (meas : Nat → Nat → cW → Nat) (step : ∀ (K5 : Nat → Nat → cW → Prop) (x0 : Nat) (x1 : Nat) (f : cW), Inv x0 x1 f → (∀ (y0 : Nat) (y1 : Nat) (f' : cW), Inv y0 y1 f' → meas y0 y1 f' < meas x0 x1 f → K5 y0 y1 f') → wbX2_both_5 b cs ad vs NW K5 X Q x0 x1 f) (x0 : Nat) (x1 : Nat) (f : cW) (h : Inv x0 x1 f) : ∃ n : Nat, wlX2_both_5 b cs ad vs NW  X Q n x0 x1 f := by
  have key : ∀ (n : Nat) (x0 : Nat) (x1 : Nat) (f : cW), Inv x0 x1 f → meas x0 x1 f < n → wlX2_both_5 b cs ad vs NW  X Q n x0 x1 f := by
    intro n
    induction n with
    | zero => intro x0 x1 f hI hm; exact absurd hm (Nat.not_lt_zero _)
    | succ n ih => intro x0 x1 f hI hm; exact step _ x0 x1 f hI (fun y0 y1 f' hI' hlt => ih y0 y1 f' hI' (Nat.lt_of_lt_of_le hlt (Nat.le_of_lt_succ hm)))
  exact ⟨_, key _ x0 x1 f h (Nat.lt_succ_self _)⟩

theorem ilX2_either_5 {b : Nat} {cs : Nat → ClassId} {ad : Nat → Nat} {vs : Nat → Option Nat} {NW : Nat → cW → Nat → (Nat → cW → Prop) → (Nat → cW → Prop) → Prop}  {X : Nat → cW → Prop} {Q : Nat → cW → Prop} (Inv : Nat → Nat → cW → Prop) (meas : Nat → Nat → cW → Nat) (step : ∀ (K5 : Nat → Nat → cW → Prop) (x0 : Nat) (x1 : Nat) (f : cW), Inv x0 x1 f → (∀ (y0 : Nat) (y1 : Nat) (f' : cW), Inv y0 y1 f' → meas y0 y1 f' < meas x0 x1 f → K5 y0 y1 f') → wbX2_either_5 b cs ad vs NW K5 X Q x0 x1 f) (x0 : Nat) (x1 : Nat) (f : cW) (h : Inv x0 x1 f) : ∃ n : Nat, wlX2_either_5 b cs ad vs NW  X Q n x0 x1 f := by
  have key : ∀ (n : Nat) (x0 : Nat) (x1 : Nat) (f : cW), Inv x0 x1 f → meas x0 x1 f < n → wlX2_either_5 b cs ad vs NW  X Q n x0 x1 f := by
    intro n
    induction n with
    | zero => intro x0 x1 f hI hm; exact absurd hm (Nat.not_lt_zero _)
    | succ n ih => intro x0 x1 f hI hm; exact step _ x0 x1 f hI (fun y0 y1 f' hI' hlt => ih y0 y1 f' hI' (Nat.lt_of_lt_of_le hlt (Nat.le_of_lt_succ hm)))
  exact ⟨_, key _ x0 x1 f h (Nat.lt_succ_self _)⟩

theorem ilX2_parts_14 {b : Nat} {cs : Nat → ClassId} {ad : Nat → Nat} {vs : Nat → Option Nat} {K34 : Nat → cW → Prop} {K59 : Nat → cW → Prop} {K74 : Nat → Nat → cW → Prop} {X : Nat → cW → Prop} {Q : Nat → cW → Prop} (Inv : Nat → Nat → Int32 → cW → Prop) (meas : Nat → Nat → Int32 → cW → Nat) (step : ∀ (K14 : Nat → Nat → Int32 → cW → Prop) (x0 : Nat) (x1 : Nat) (x2 : Int32) (f : cW), Inv x0 x1 x2 f → (∀ (y0 : Nat) (y1 : Nat) (y2 : Int32) (f' : cW), Inv y0 y1 y2 f' → meas y0 y1 y2 f' < meas x0 x1 x2 f → K14 y0 y1 y2 f') → wbX2_parts_14 b cs ad vs K14 K34 K59 K74 X Q x0 x1 x2 f) (x0 : Nat) (x1 : Nat) (x2 : Int32) (f : cW) (h : Inv x0 x1 x2 f) : ∃ n : Nat, wlX2_parts_14 b cs ad vs K34 K59 K74 X Q n x0 x1 x2 f := by
  have key : ∀ (n : Nat) (x0 : Nat) (x1 : Nat) (x2 : Int32) (f : cW), Inv x0 x1 x2 f → meas x0 x1 x2 f < n → wlX2_parts_14 b cs ad vs K34 K59 K74 X Q n x0 x1 x2 f := by
    intro n
    induction n with
    | zero => intro x0 x1 x2 f hI hm; exact absurd hm (Nat.not_lt_zero _)
    | succ n ih => intro x0 x1 x2 f hI hm; exact step _ x0 x1 x2 f hI (fun y0 y1 y2 f' hI' hlt => ih y0 y1 y2 f' hI' (Nat.lt_of_lt_of_le hlt (Nat.le_of_lt_succ hm)))
  exact ⟨_, key _ x0 x1 x2 f h (Nat.lt_succ_self _)⟩
theorem icX2_parts_14_2 {b : Nat} {cs : Nat → ClassId} {ad : Nat → Nat} {vs : Nat → Option Nat} {K34 : Nat → cW → Prop} {K59 : Nat → cW → Prop} {K74 : Nat → Nat → cW → Prop} {X : Nat → cW → Prop} {Q : Nat → cW → Prop} (N k0 : Nat) (hN : N < 2147483648) (h0 : k0 ≤ N) (P : Nat → Prop) (p0 : Nat → Nat) (p1 : Nat → Nat) (st : Nat → cW) (hP : P k0) (step : ∀ (K14 : Nat → Nat → Int32 → cW → Prop) (k : Nat), k0 ≤ k → k ≤ N → P k → (k < N → P (k + 1) → K14 (p0 (k + 1)) (p1 (k + 1)) (Int32.ofNat (k + 1)) (st (k + 1))) → wbX2_parts_14 b cs ad vs K14 K34 K59 K74 X Q (p0 k) (p1 k) (Int32.ofNat k) (st k)) : ∃ n : Nat, wlX2_parts_14 b cs ad vs K34 K59 K74 X Q n (p0 k0) (p1 k0) (Int32.ofNat k0) (st k0) := by
  refine ilX2_parts_14 (fun x0 x1 x2 f => ∃ k, k0 ≤ k ∧ k ≤ N ∧ P k ∧ x0 = p0 k ∧ x1 = p1 k ∧ x2 = Int32.ofNat k ∧ f = st k) (fun x0 x1 x2 _ => N - x2.toNatClampNeg) ?_ _ _ _ _ ⟨k0, Nat.le_refl _, h0, hP, rfl, rfl, rfl, rfl⟩
  intro K x0 x1 x2 f hI hK
  obtain ⟨k, h1, h2, h3, rfl, rfl, rfl, rfl⟩ := hI
  refine step K k h1 h2 h3 (fun h4 h5 => hK _ _ _ _ ⟨k + 1, by omega, by omega, h5, rfl, rfl, rfl, rfl⟩ ?_)
  show N - (Int32.ofNat (k + 1)).toNatClampNeg < N - (Int32.ofNat k).toNatClampNeg
  rw [n_clamp (by omega), n_clamp (by omega)]
  omega
theorem ilX0_read_9 {b : Nat} {cs : Nat → ClassId} {ad : Nat → Nat} {vs : Nat → Option Nat} {K30 : Nat → cW → Prop} {X : Nat → cW → Prop} {Q : Nat → cW → Prop} (Inv : Nat → Nat → Int32 → cW → Prop) (meas : Nat → Nat → Int32 → cW → Nat) (step : ∀ (K9 : Nat → Nat → Int32 → cW → Prop) (x0 : Nat) (x1 : Nat) (x2 : Int32) (f : cW), Inv x0 x1 x2 f → (∀ (y0 : Nat) (y1 : Nat) (y2 : Int32) (f' : cW), Inv y0 y1 y2 f' → meas y0 y1 y2 f' < meas x0 x1 x2 f → K9 y0 y1 y2 f') → wbX0_read_9 b cs ad vs K9 K30 X Q x0 x1 x2 f) (x0 : Nat) (x1 : Nat) (x2 : Int32) (f : cW) (h : Inv x0 x1 x2 f) : ∃ n : Nat, wlX0_read_9 b cs ad vs K30 X Q n x0 x1 x2 f := by
  have key : ∀ (n : Nat) (x0 : Nat) (x1 : Nat) (x2 : Int32) (f : cW), Inv x0 x1 x2 f → meas x0 x1 x2 f < n → wlX0_read_9 b cs ad vs K30 X Q n x0 x1 x2 f := by
    intro n
    induction n with
    | zero => intro x0 x1 x2 f hI hm; exact absurd hm (Nat.not_lt_zero _)
    | succ n ih => intro x0 x1 x2 f hI hm; exact step _ x0 x1 x2 f hI (fun y0 y1 y2 f' hI' hlt => ih y0 y1 y2 f' hI' (Nat.lt_of_lt_of_le hlt (Nat.le_of_lt_succ hm)))
  exact ⟨_, key _ x0 x1 x2 f h (Nat.lt_succ_self _)⟩
theorem icX0_read_9_2 {b : Nat} {cs : Nat → ClassId} {ad : Nat → Nat} {vs : Nat → Option Nat} {K30 : Nat → cW → Prop} {X : Nat → cW → Prop} {Q : Nat → cW → Prop} (N k0 : Nat) (hN : N < 2147483648) (h0 : k0 ≤ N) (P : Nat → Prop) (p0 : Nat → Nat) (p1 : Nat → Nat) (st : Nat → cW) (hP : P k0) (step : ∀ (K9 : Nat → Nat → Int32 → cW → Prop) (k : Nat), k0 ≤ k → k ≤ N → P k → (k < N → P (k + 1) → K9 (p0 (k + 1)) (p1 (k + 1)) (Int32.ofNat (k + 1)) (st (k + 1))) → wbX0_read_9 b cs ad vs K9 K30 X Q (p0 k) (p1 k) (Int32.ofNat k) (st k)) : ∃ n : Nat, wlX0_read_9 b cs ad vs K30 X Q n (p0 k0) (p1 k0) (Int32.ofNat k0) (st k0) := by
  refine ilX0_read_9 (fun x0 x1 x2 f => ∃ k, k0 ≤ k ∧ k ≤ N ∧ P k ∧ x0 = p0 k ∧ x1 = p1 k ∧ x2 = Int32.ofNat k ∧ f = st k) (fun x0 x1 x2 _ => N - x2.toNatClampNeg) ?_ _ _ _ _ ⟨k0, Nat.le_refl _, h0, hP, rfl, rfl, rfl, rfl⟩
  intro K x0 x1 x2 f hI hK
  obtain ⟨k, h1, h2, h3, rfl, rfl, rfl, rfl⟩ := hI
  refine step K k h1 h2 h3 (fun h4 h5 => hK _ _ _ _ ⟨k + 1, by omega, by omega, h5, rfl, rfl, rfl, rfl⟩ ?_)
  show N - (Int32.ofNat (k + 1)).toNatClampNeg < N - (Int32.ofNat k).toNatClampNeg
  rw [n_clamp (by omega), n_clamp (by omega)]
  omega
theorem ilL_law_18 {b : Nat} {cs : Nat → ClassId} {ad : Nat → Nat} {vs : Nat → Option Nat} {sc L : Nat} {xs : Nat → Int32}  {Q : Int32 → cW → Prop} (Inv : Nat → Nat → Int32 → cW → Prop) (meas : Nat → Nat → Int32 → cW → Nat) (step : ∀ (K18 : Nat → Nat → Int32 → cW → Prop) (x1 : Nat) (x2 : Nat) (x3 : Int32) (f : cW), Inv x1 x2 x3 f → (∀ (y1 : Nat) (y2 : Nat) (y3 : Int32) (f' : cW), Inv y1 y2 y3 f' → meas y1 y2 y3 f' < meas x1 x2 x3 f → K18 y1 y2 y3 f') → wbL_law_18 b cs ad vs sc L xs K18 Q x1 x2 x3 f) (x1 : Nat) (x2 : Nat) (x3 : Int32) (f : cW) (h : Inv x1 x2 x3 f) : ∃ n : Nat, wlL_law_18 b cs ad vs sc L xs  Q n x1 x2 x3 f := by
  have key : ∀ (n : Nat) (x1 : Nat) (x2 : Nat) (x3 : Int32) (f : cW), Inv x1 x2 x3 f → meas x1 x2 x3 f < n → wlL_law_18 b cs ad vs sc L xs  Q n x1 x2 x3 f := by
    intro n
    induction n with
    | zero => intro x1 x2 x3 f hI hm; exact absurd hm (Nat.not_lt_zero _)
    | succ n ih => intro x1 x2 x3 f hI hm; exact step _ x1 x2 x3 f hI (fun y1 y2 y3 f' hI' hlt => ih y1 y2 y3 f' hI' (Nat.lt_of_lt_of_le hlt (Nat.le_of_lt_succ hm)))
  exact ⟨_, key _ x1 x2 x3 f h (Nat.lt_succ_self _)⟩
theorem icL_law_18_3 {b : Nat} {cs : Nat → ClassId} {ad : Nat → Nat} {vs : Nat → Option Nat} {sc L : Nat} {xs : Nat → Int32}  {Q : Int32 → cW → Prop} (N k0 : Nat) (hN : N < 2147483648) (h0 : k0 ≤ N) (P : Nat → Prop) (p1 : Nat → Nat) (p2 : Nat → Nat) (st : Nat → cW) (hP : P k0) (step : ∀ (K18 : Nat → Nat → Int32 → cW → Prop) (k : Nat), k0 ≤ k → k ≤ N → P k → (k < N → P (k + 1) → K18 (p1 (k + 1)) (p2 (k + 1)) (Int32.ofNat (k + 1)) (st (k + 1))) → wbL_law_18 b cs ad vs sc L xs K18 Q (p1 k) (p2 k) (Int32.ofNat k) (st k)) : ∃ n : Nat, wlL_law_18 b cs ad vs sc L xs  Q n (p1 k0) (p2 k0) (Int32.ofNat k0) (st k0) := by
  refine ilL_law_18 (fun x1 x2 x3 f => ∃ k, k0 ≤ k ∧ k ≤ N ∧ P k ∧ x1 = p1 k ∧ x2 = p2 k ∧ x3 = Int32.ofNat k ∧ f = st k) (fun x1 x2 x3 _ => N - x3.toNatClampNeg) ?_ _ _ _ _ ⟨k0, Nat.le_refl _, h0, hP, rfl, rfl, rfl, rfl⟩
  intro K x1 x2 x3 f hI hK
  obtain ⟨k, h1, h2, h3, rfl, rfl, rfl, rfl⟩ := hI
  refine step K k h1 h2 h3 (fun h4 h5 => hK _ _ _ _ ⟨k + 1, by omega, by omega, h5, rfl, rfl, rfl, rfl⟩ ?_)
  show N - (Int32.ofNat (k + 1)).toNatClampNeg < N - (Int32.ofNat k).toNatClampNeg
  rw [n_clamp (by omega), n_clamp (by omega)]
  omega
