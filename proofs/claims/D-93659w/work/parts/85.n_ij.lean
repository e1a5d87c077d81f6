/-! rules of the loops (by program) -/
set_option maxRecDepth 100000
theorem ijJ11_fill_5_1 {b : Nat} {cs : Nat → ClassId} {ad : Nat → Nat} {vs : Nat → Option Nat}  {Q : cW → Prop} (N k0 : Nat) (hN : N < 2147483648) (h0 : k0 ≤ N) (P : Nat → Nat → Int32 → Int32 → cW → Prop) (step : ∀ (K5 : Nat → Int32 → Int32 → Int32 → cW → Prop) (k : Nat) (x0 : Nat) (x2 : Int32) (x3 : Int32) (f : cW), k0 ≤ k → k ≤ N → P k x0 x2 x3 f → (∀ (y0 : Nat) (y2 : Int32) (y3 : Int32) (f' : cW), k < N → P (k + 1) y0 y2 y3 f' → K5 y0 (Int32.ofNat (k + 1)) y2 y3 f') → wbJ11_fill_5 b cs ad vs K5 Q x0 (Int32.ofNat k) x2 x3 f) (x0 : Nat) (x2 : Int32) (x3 : Int32) (f : cW) (hP : P k0 x0 x2 x3 f) : ∃ n : Nat, wlJ11_fill_5 b cs ad vs  Q n x0 (Int32.ofNat k0) x2 x3 f := by
  refine ilJ11_fill_5 (fun x0 x1 x2 x3 f => ∃ k, k0 ≤ k ∧ k ≤ N ∧ x1 = Int32.ofNat k ∧ P k x0 x2 x3 f) (fun x0 x1 x2 x3 _ => N - x1.toNatClampNeg) ?_ _ _ _ _ _ ⟨k0, Nat.le_refl _, h0, rfl, hP⟩
  intro K x0 x1 x2 x3 f hI hK
  obtain ⟨k, h1, h2, rfl, h3⟩ := hI
  refine step K k x0 x2 x3 f h1 h2 h3 (fun y0 y2 y3 f' h4 h5 => hK _ _ _ _ _ ⟨k + 1, by omega, by omega, rfl, h5⟩ ?_)
  show N - (Int32.ofNat (k + 1)).toNatClampNeg < N - (Int32.ofNat k).toNatClampNeg
  rw [n_clamp (by omega), n_clamp (by omega)]
  omega
theorem ijJ11_fill_5_2 {b : Nat} {cs : Nat → ClassId} {ad : Nat → Nat} {vs : Nat → Option Nat}  {Q : cW → Prop} (N k0 : Nat) (hN : N < 2147483648) (h0 : k0 ≤ N) (P : Nat → Nat → Int32 → Int32 → cW → Prop) (step : ∀ (K5 : Nat → Int32 → Int32 → Int32 → cW → Prop) (k : Nat) (x0 : Nat) (x1 : Int32) (x3 : Int32) (f : cW), k0 ≤ k → k ≤ N → P k x0 x1 x3 f → (∀ (y0 : Nat) (y1 : Int32) (y3 : Int32) (f' : cW), k < N → P (k + 1) y0 y1 y3 f' → K5 y0 y1 (Int32.ofNat (k + 1)) y3 f') → wbJ11_fill_5 b cs ad vs K5 Q x0 x1 (Int32.ofNat k) x3 f) (x0 : Nat) (x1 : Int32) (x3 : Int32) (f : cW) (hP : P k0 x0 x1 x3 f) : ∃ n : Nat, wlJ11_fill_5 b cs ad vs  Q n x0 x1 (Int32.ofNat k0) x3 f := by
  refine ilJ11_fill_5 (fun x0 x1 x2 x3 f => ∃ k, k0 ≤ k ∧ k ≤ N ∧ x2 = Int32.ofNat k ∧ P k x0 x1 x3 f) (fun x0 x1 x2 x3 _ => N - x2.toNatClampNeg) ?_ _ _ _ _ _ ⟨k0, Nat.le_refl _, h0, rfl, hP⟩
  intro K x0 x1 x2 x3 f hI hK
  obtain ⟨k, h1, h2, rfl, h3⟩ := hI
  refine step K k x0 x1 x3 f h1 h2 h3 (fun y0 y1 y3 f' h4 h5 => hK _ _ _ _ _ ⟨k + 1, by omega, by omega, rfl, h5⟩ ?_)
  show N - (Int32.ofNat (k + 1)).toNatClampNeg < N - (Int32.ofNat k).toNatClampNeg
  rw [n_clamp (by omega), n_clamp (by omega)]
  omega
theorem ijJ11_fill_5_3 {b : Nat} {cs : Nat → ClassId} {ad : Nat → Nat} {vs : Nat → Option Nat}  {Q : cW → Prop} (N k0 : Nat) (hN : N < 2147483648) (h0 : k0 ≤ N) (P : Nat → Nat → Int32 → Int32 → cW → Prop) (step : ∀ (K5 : Nat → Int32 → Int32 → Int32 → cW → Prop) (k : Nat) (x0 : Nat) (x1 : Int32) (x2 : Int32) (f : cW), k0 ≤ k → k ≤ N → P k x0 x1 x2 f → (∀ (y0 : Nat) (y1 : Int32) (y2 : Int32) (f' : cW), k < N → P (k + 1) y0 y1 y2 f' → K5 y0 y1 y2 (Int32.ofNat (k + 1)) f') → wbJ11_fill_5 b cs ad vs K5 Q x0 x1 x2 (Int32.ofNat k) f) (x0 : Nat) (x1 : Int32) (x2 : Int32) (f : cW) (hP : P k0 x0 x1 x2 f) : ∃ n : Nat, wlJ11_fill_5 b cs ad vs  Q n x0 x1 x2 (Int32.ofNat k0) f := by
  refine ilJ11_fill_5 (fun x0 x1 x2 x3 f => ∃ k, k0 ≤ k ∧ k ≤ N ∧ x3 = Int32.ofNat k ∧ P k x0 x1 x2 f) (fun x0 x1 x2 x3 _ => N - x3.toNatClampNeg) ?_ _ _ _ _ _ ⟨k0, Nat.le_refl _, h0, rfl, hP⟩
  intro K x0 x1 x2 x3 f hI hK
  obtain ⟨k, h1, h2, rfl, h3⟩ := hI
  refine step K k x0 x1 x2 f h1 h2 h3 (fun y0 y1 y2 f' h4 h5 => hK _ _ _ _ _ ⟨k + 1, by omega, by omega, rfl, h5⟩ ?_)
  show N - (Int32.ofNat (k + 1)).toNatClampNeg < N - (Int32.ofNat k).toNatClampNeg
  rw [n_clamp (by omega), n_clamp (by omega)]
  omega
theorem ijJ11_fill_2_5_1 {b : Nat} {cs : Nat → ClassId} {ad : Nat → Nat} {vs : Nat → Option Nat}  {Q : cW → Prop} (N k0 : Nat) (hN : N < 2147483648) (h0 : k0 ≤ N) (P : Nat → Nat → Int32 → Int32 → cW → Prop) (step : ∀ (K5 : Nat → Int32 → Int32 → Int32 → cW → Prop) (k : Nat) (x0 : Nat) (x2 : Int32) (x3 : Int32) (f : cW), k0 ≤ k → k ≤ N → P k x0 x2 x3 f → (∀ (y0 : Nat) (y2 : Int32) (y3 : Int32) (f' : cW), k < N → P (k + 1) y0 y2 y3 f' → K5 y0 (Int32.ofNat (k + 1)) y2 y3 f') → wbJ11_fill_2_5 b cs ad vs K5 Q x0 (Int32.ofNat k) x2 x3 f) (x0 : Nat) (x2 : Int32) (x3 : Int32) (f : cW) (hP : P k0 x0 x2 x3 f) : ∃ n : Nat, wlJ11_fill_2_5 b cs ad vs  Q n x0 (Int32.ofNat k0) x2 x3 f := by
  refine ilJ11_fill_2_5 (fun x0 x1 x2 x3 f => ∃ k, k0 ≤ k ∧ k ≤ N ∧ x1 = Int32.ofNat k ∧ P k x0 x2 x3 f) (fun x0 x1 x2 x3 _ => N - x1.toNatClampNeg) ?_ _ _ _ _ _ ⟨k0, Nat.le_refl _, h0, rfl, hP⟩
  intro K x0 x1 x2 x3 f hI hK
  obtain ⟨k, h1, h2, rfl, h3⟩ := hI
  refine step K k x0 x2 x3 f h1 h2 h3 (fun y0 y2 y3 f' h4 h5 => hK _ _ _ _ _ ⟨k + 1, by omega, by omega, rfl, h5⟩ ?_)
  show N - (Int32.ofNat (k + 1)).toNatClampNeg < N - (Int32.ofNat k).toNatClampNeg
  rw [n_clamp (by omega), n_clamp (by omega)]
  omega
theorem ijJ11_fill_2_5_2 {b : Nat} {cs : Nat → ClassId} {ad : Nat → Nat} {vs : Nat → Option Nat}  {Q : cW → Prop} (N k0 : Nat) (hN : N < 2147483648) (h0 : k0 ≤ N) (P : Nat → Nat → Int32 → Int32 → cW → Prop) (step : ∀ (K5 : Nat → Int32 → Int32 → Int32 → cW → Prop) (k : Nat) (x0 : Nat) (x1 : Int32) (x3 : Int32) (f : cW), k0 ≤ k → k ≤ N → P k x0 x1 x3 f → (∀ (y0 : Nat) (y1 : Int32) (y3 : Int32) (f' : cW), k < N → P (k + 1) y0 y1 y3 f' → K5 y0 y1 (Int32.ofNat (k + 1)) y3 f') → wbJ11_fill_2_5 b cs ad vs K5 Q x0 x1 (Int32.ofNat k) x3 f) (x0 : Nat) (x1 : Int32) (x3 : Int32) (f : cW) (hP : P k0 x0 x1 x3 f) : ∃ n : Nat, wlJ11_fill_2_5 b cs ad vs  Q n x0 x1 (Int32.ofNat k0) x3 f := by
  refine ilJ11_fill_2_5 (fun x0 x1 x2 x3 f => ∃ k, k0 ≤ k ∧ k ≤ N ∧ x2 = Int32.ofNat k ∧ P k x0 x1 x3 f) (fun x0 x1 x2 x3 _ => N - x2.toNatClampNeg) ?_ _ _ _ _ _ ⟨k0, Nat.le_refl _, h0, rfl, hP⟩
  intro K x0 x1 x2 x3 f hI hK
  obtain ⟨k, h1, h2, rfl, h3⟩ := hI
  refine step K k x0 x1 x3 f h1 h2 h3 (fun y0 y1 y3 f' h4 h5 => hK _ _ _ _ _ ⟨k + 1, by omega, by omega, rfl, h5⟩ ?_)
  show N - (Int32.ofNat (k + 1)).toNatClampNeg < N - (Int32.ofNat k).toNatClampNeg
  rw [n_clamp (by omega), n_clamp (by omega)]
  omega
theorem ijJ11_fill_2_5_3 {b : Nat} {cs : Nat → ClassId} {ad : Nat → Nat} {vs : Nat → Option Nat}  {Q : cW → Prop} (N k0 : Nat) (hN : N < 2147483648) (h0 : k0 ≤ N) (P : Nat → Nat → Int32 → Int32 → cW → Prop) (step : ∀ (K5 : Nat → Int32 → Int32 → Int32 → cW → Prop) (k : Nat) (x0 : Nat) (x1 : Int32) (x2 : Int32) (f : cW), k0 ≤ k → k ≤ N → P k x0 x1 x2 f → (∀ (y0 : Nat) (y1 : Int32) (y2 : Int32) (f' : cW), k < N → P (k + 1) y0 y1 y2 f' → K5 y0 y1 y2 (Int32.ofNat (k + 1)) f') → wbJ11_fill_2_5 b cs ad vs K5 Q x0 x1 x2 (Int32.ofNat k) f) (x0 : Nat) (x1 : Int32) (x2 : Int32) (f : cW) (hP : P k0 x0 x1 x2 f) : ∃ n : Nat, wlJ11_fill_2_5 b cs ad vs  Q n x0 x1 x2 (Int32.ofNat k0) f := by
  refine ilJ11_fill_2_5 (fun x0 x1 x2 x3 f => ∃ k, k0 ≤ k ∧ k ≤ N ∧ x3 = Int32.ofNat k ∧ P k x0 x1 x2 f) (fun x0 x1 x2 x3 _ => N - x3.toNatClampNeg) ?_ _ _ _ _ _ ⟨k0, Nat.le_refl _, h0, rfl, hP⟩
  intro K x0 x1 x2 x3 f hI hK
  obtain ⟨k, h1, h2, rfl, h3⟩ := hI
  refine step K k x0 x1 x2 f h1 h2 h3 (fun y0 y1 y2 f' h4 h5 => hK _ _ _ _ _ ⟨k + 1, by omega, by omega, rfl, h5⟩ ?_)
  show N - (Int32.ofNat (k + 1)).toNatClampNeg < N - (Int32.ofNat k).toNatClampNeg
  rw [n_clamp (by omega), n_clamp (by omega)]
  omega
theorem ijJ4_indexOfChar_s_7_3 {b : Nat} {cs : Nat → ClassId} {ad : Nat → Nat} {vs : Nat → Option Nat}  {Q : Int32 → cW → Prop} (N k0 : Nat) (hN : N < 2147483648) (h0 : k0 ≤ N) (P : Nat → Nat → Int32 → Int32 → cW → Prop) (step : ∀ (K7 : Nat → Int32 → Int32 → Int32 → cW → Prop) (k : Nat) (x0 : Nat) (x4 : Int32) (x5 : Int32) (f : cW), k0 ≤ k → k ≤ N → P k x0 x4 x5 f → (∀ (y0 : Nat) (y4 : Int32) (y5 : Int32) (f' : cW), k < N → P (k + 1) y0 y4 y5 f' → K7 y0 (Int32.ofNat (k + 1)) y4 y5 f') → wbJ4_indexOfChar_s_7 b cs ad vs K7 Q x0 (Int32.ofNat k) x4 x5 f) (x0 : Nat) (x4 : Int32) (x5 : Int32) (f : cW) (hP : P k0 x0 x4 x5 f) : ∃ n : Nat, wlJ4_indexOfChar_s_7 b cs ad vs  Q n x0 (Int32.ofNat k0) x4 x5 f := by
  refine ilJ4_indexOfChar_s_7 (fun x0 x3 x4 x5 f => ∃ k, k0 ≤ k ∧ k ≤ N ∧ x3 = Int32.ofNat k ∧ P k x0 x4 x5 f) (fun x0 x3 x4 x5 _ => N - x3.toNatClampNeg) ?_ _ _ _ _ _ ⟨k0, Nat.le_refl _, h0, rfl, hP⟩
  intro K x0 x3 x4 x5 f hI hK
  obtain ⟨k, h1, h2, rfl, h3⟩ := hI
  refine step K k x0 x4 x5 f h1 h2 h3 (fun y0 y4 y5 f' h4 h5 => hK _ _ _ _ _ ⟨k + 1, by omega, by omega, rfl, h5⟩ ?_)
  show N - (Int32.ofNat (k + 1)).toNatClampNeg < N - (Int32.ofNat k).toNatClampNeg
  rw [n_clamp (by omega), n_clamp (by omega)]
  omega
theorem ijJ4_indexOfChar_s_7_4 {b : Nat} {cs : Nat → ClassId} {ad : Nat → Nat} {vs : Nat → Option Nat}  {Q : Int32 → cW → Prop} (N k0 : Nat) (hN : N < 2147483648) (h0 : k0 ≤ N) (P : Nat → Nat → Int32 → Int32 → cW → Prop) (step : ∀ (K7 : Nat → Int32 → Int32 → Int32 → cW → Prop) (k : Nat) (x0 : Nat) (x3 : Int32) (x5 : Int32) (f : cW), k0 ≤ k → k ≤ N → P k x0 x3 x5 f → (∀ (y0 : Nat) (y3 : Int32) (y5 : Int32) (f' : cW), k < N → P (k + 1) y0 y3 y5 f' → K7 y0 y3 (Int32.ofNat (k + 1)) y5 f') → wbJ4_indexOfChar_s_7 b cs ad vs K7 Q x0 x3 (Int32.ofNat k) x5 f) (x0 : Nat) (x3 : Int32) (x5 : Int32) (f : cW) (hP : P k0 x0 x3 x5 f) : ∃ n : Nat, wlJ4_indexOfChar_s_7 b cs ad vs  Q n x0 x3 (Int32.ofNat k0) x5 f := by
  refine ilJ4_indexOfChar_s_7 (fun x0 x3 x4 x5 f => ∃ k, k0 ≤ k ∧ k ≤ N ∧ x4 = Int32.ofNat k ∧ P k x0 x3 x5 f) (fun x0 x3 x4 x5 _ => N - x4.toNatClampNeg) ?_ _ _ _ _ _ ⟨k0, Nat.le_refl _, h0, rfl, hP⟩
  intro K x0 x3 x4 x5 f hI hK
  obtain ⟨k, h1, h2, rfl, h3⟩ := hI
  refine step K k x0 x3 x5 f h1 h2 h3 (fun y0 y3 y5 f' h4 h5 => hK _ _ _ _ _ ⟨k + 1, by omega, by omega, rfl, h5⟩ ?_)
  show N - (Int32.ofNat (k + 1)).toNatClampNeg < N - (Int32.ofNat k).toNatClampNeg
  rw [n_clamp (by omega), n_clamp (by omega)]
  omega
theorem ijJ4_indexOfChar_s_7_5 {b : Nat} {cs : Nat → ClassId} {ad : Nat → Nat} {vs : Nat → Option Nat}  {Q : Int32 → cW → Prop} (N k0 : Nat) (hN : N < 2147483648) (h0 : k0 ≤ N) (P : Nat → Nat → Int32 → Int32 → cW → Prop) (step : ∀ (K7 : Nat → Int32 → Int32 → Int32 → cW → Prop) (k : Nat) (x0 : Nat) (x3 : Int32) (x4 : Int32) (f : cW), k0 ≤ k → k ≤ N → P k x0 x3 x4 f → (∀ (y0 : Nat) (y3 : Int32) (y4 : Int32) (f' : cW), k < N → P (k + 1) y0 y3 y4 f' → K7 y0 y3 y4 (Int32.ofNat (k + 1)) f') → wbJ4_indexOfChar_s_7 b cs ad vs K7 Q x0 x3 x4 (Int32.ofNat k) f) (x0 : Nat) (x3 : Int32) (x4 : Int32) (f : cW) (hP : P k0 x0 x3 x4 f) : ∃ n : Nat, wlJ4_indexOfChar_s_7 b cs ad vs  Q n x0 x3 x4 (Int32.ofNat k0) f := by
  refine ilJ4_indexOfChar_s_7 (fun x0 x3 x4 x5 f => ∃ k, k0 ≤ k ∧ k ≤ N ∧ x5 = Int32.ofNat k ∧ P k x0 x3 x4 f) (fun x0 x3 x4 x5 _ => N - x5.toNatClampNeg) ?_ _ _ _ _ _ ⟨k0, Nat.le_refl _, h0, rfl, hP⟩
  intro K x0 x3 x4 x5 f hI hK
  obtain ⟨k, h1, h2, rfl, h3⟩ := hI
  refine step K k x0 x3 x4 f h1 h2 h3 (fun y0 y3 y4 f' h4 h5 => hK _ _ _ _ _ ⟨k + 1, by omega, by omega, rfl, h5⟩ ?_)
  show N - (Int32.ofNat (k + 1)).toNatClampNeg < N - (Int32.ofNat k).toNatClampNeg
  rw [n_clamp (by omega), n_clamp (by omega)]
  omega
theorem ijJ4_equals_s_9_2 {b : Nat} {cs : Nat → ClassId} {ad : Nat → Nat} {vs : Nat → Option Nat}  {Q : Int32 → cW → Prop} (N k0 : Nat) (hN : N < 2147483648) (h0 : k0 ≤ N) (P : Nat → Nat → Nat → cW → Prop) (step : ∀ (K9 : Nat → Nat → Int32 → cW → Prop) (k : Nat) (x0 : Nat) (x1 : Nat) (f : cW), k0 ≤ k → k ≤ N → P k x0 x1 f → (∀ (y0 : Nat) (y1 : Nat) (f' : cW), k < N → P (k + 1) y0 y1 f' → K9 y0 y1 (Int32.ofNat (k + 1)) f') → wbJ4_equals_s_9 b cs ad vs K9 Q x0 x1 (Int32.ofNat k) f) (x0 : Nat) (x1 : Nat) (f : cW) (hP : P k0 x0 x1 f) : ∃ n : Nat, wlJ4_equals_s_9 b cs ad vs  Q n x0 x1 (Int32.ofNat k0) f := by
  refine ilJ4_equals_s_9 (fun x0 x1 x2 f => ∃ k, k0 ≤ k ∧ k ≤ N ∧ x2 = Int32.ofNat k ∧ P k x0 x1 f) (fun x0 x1 x2 _ => N - x2.toNatClampNeg) ?_ _ _ _ _ ⟨k0, Nat.le_refl _, h0, rfl, hP⟩
  intro K x0 x1 x2 f hI hK
  obtain ⟨k, h1, h2, rfl, h3⟩ := hI
  refine step K k x0 x1 f h1 h2 h3 (fun y0 y1 f' h4 h5 => hK _ _ _ _ ⟨k + 1, by omega, by omega, rfl, h5⟩ ?_)
  show N - (Int32.ofNat (k + 1)).toNatClampNeg < N - (Int32.ofNat k).toNatClampNeg
  rw [n_clamp (by omega), n_clamp (by omega)]
  omega
theorem ijX2_next_163_1 {b : Nat} {cs : Nat → ClassId} {ad : Nat → Nat} {vs : Nat → Option Nat} {K220 : Nat → Int32 → cW → Prop} {X : Nat → cW → Prop} {Q : cW → Prop} (N k0 : Nat) (hN : N < 2147483648) (h0 : k0 ≤ N) (P : Nat → Nat → cW → Prop) (step : ∀ (K163 : Nat → Int32 → cW → Prop) (k : Nat) (x0 : Nat) (f : cW), k0 ≤ k → k ≤ N → P k x0 f → (∀ (y0 : Nat) (f' : cW), k < N → P (k + 1) y0 f' → K163 y0 (Int32.ofNat (k + 1)) f') → wbX2_next_163 b cs ad vs K163 K220 X Q x0 (Int32.ofNat k) f) (x0 : Nat) (f : cW) (hP : P k0 x0 f) : ∃ n : Nat, wlX2_next_163 b cs ad vs K220 X Q n x0 (Int32.ofNat k0) f := by
  refine ilX2_next_163 (fun x0 x1 f => ∃ k, k0 ≤ k ∧ k ≤ N ∧ x1 = Int32.ofNat k ∧ P k x0 f) (fun x0 x1 _ => N - x1.toNatClampNeg) ?_ _ _ _ ⟨k0, Nat.le_refl _, h0, rfl, hP⟩
  intro K x0 x1 f hI hK
  obtain ⟨k, h1, h2, rfl, h3⟩ := hI
  refine step K k x0 f h1 h2 h3 (fun y0 f' h4 h5 => hK _ _ _ ⟨k + 1, by omega, by omega, rfl, h5⟩ ?_)
  show N - (Int32.ofNat (k + 1)).toNatClampNeg < N - (Int32.ofNat k).toNatClampNeg
  rw [n_clamp (by omega), n_clamp (by omega)]
  omega
theorem ijX2_one_115_1 {b : Nat} {cs : Nat → ClassId} {ad : Nat → Nat} {vs : Nat → Option Nat} {NW : Nat → cW → Nat → (Nat → cW → Prop) → (Nat → cW → Prop) → Prop} {K138 : Nat → Int32 → cW → Prop} {K158 : Nat → cW → Prop} {X : Nat → cW → Prop} {Q : Nat → cW → Prop} (N k0 : Nat) (hN : N < 2147483648) (h0 : k0 ≤ N) (P : Nat → Nat → cW → Prop) (step : ∀ (K115 : Nat → Int32 → cW → Prop) (k : Nat) (x0 : Nat) (f : cW), k0 ≤ k → k ≤ N → P k x0 f → (∀ (y0 : Nat) (f' : cW), k < N → P (k + 1) y0 f' → K115 y0 (Int32.ofNat (k + 1)) f') → wbX2_one_115 b cs ad vs NW K115 K138 K158 X Q x0 (Int32.ofNat k) f) (x0 : Nat) (f : cW) (hP : P k0 x0 f) : ∃ n : Nat, wlX2_one_115 b cs ad vs NW K138 K158 X Q n x0 (Int32.ofNat k0) f := by
  refine ilX2_one_115 (fun x0 x1 f => ∃ k, k0 ≤ k ∧ k ≤ N ∧ x1 = Int32.ofNat k ∧ P k x0 f) (fun x0 x1 _ => N - x1.toNatClampNeg) ?_ _ _ _ ⟨k0, Nat.le_refl _, h0, rfl, hP⟩
  intro K x0 x1 f hI hK
  obtain ⟨k, h1, h2, rfl, h3⟩ := hI
  refine step K k x0 f h1 h2 h3 (fun y0 f' h4 h5 => hK _ _ _ ⟨k + 1, by omega, by omega, rfl, h5⟩ ?_)
  show N - (Int32.ofNat (k + 1)).toNatClampNeg < N - (Int32.ofNat k).toNatClampNeg
  rw [n_clamp (by omega), n_clamp (by omega)]
  omega
theorem ijX2_parts_14_2 {b : Nat} {cs : Nat → ClassId} {ad : Nat → Nat} {vs : Nat → Option Nat} {K34 : Nat → cW → Prop} {K59 : Nat → cW → Prop} {K74 : Nat → Nat → cW → Prop} {X : Nat → cW → Prop} {Q : Nat → cW → Prop} (N k0 : Nat) (hN : N < 2147483648) (h0 : k0 ≤ N) (P : Nat → Nat → Nat → cW → Prop) (step : ∀ (K14 : Nat → Nat → Int32 → cW → Prop) (k : Nat) (x0 : Nat) (x1 : Nat) (f : cW), k0 ≤ k → k ≤ N → P k x0 x1 f → (∀ (y0 : Nat) (y1 : Nat) (f' : cW), k < N → P (k + 1) y0 y1 f' → K14 y0 y1 (Int32.ofNat (k + 1)) f') → wbX2_parts_14 b cs ad vs K14 K34 K59 K74 X Q x0 x1 (Int32.ofNat k) f) (x0 : Nat) (x1 : Nat) (f : cW) (hP : P k0 x0 x1 f) : ∃ n : Nat, wlX2_parts_14 b cs ad vs K34 K59 K74 X Q n x0 x1 (Int32.ofNat k0) f := by
  refine ilX2_parts_14 (fun x0 x1 x2 f => ∃ k, k0 ≤ k ∧ k ≤ N ∧ x2 = Int32.ofNat k ∧ P k x0 x1 f) (fun x0 x1 x2 _ => N - x2.toNatClampNeg) ?_ _ _ _ _ ⟨k0, Nat.le_refl _, h0, rfl, hP⟩
  intro K x0 x1 x2 f hI hK
  obtain ⟨k, h1, h2, rfl, h3⟩ := hI
  refine step K k x0 x1 f h1 h2 h3 (fun y0 y1 f' h4 h5 => hK _ _ _ _ ⟨k + 1, by omega, by omega, rfl, h5⟩ ?_)
  show N - (Int32.ofNat (k + 1)).toNatClampNeg < N - (Int32.ofNat k).toNatClampNeg
  rw [n_clamp (by omega), n_clamp (by omega)]
  omega
theorem ijX0_read_9_2 {b : Nat} {cs : Nat → ClassId} {ad : Nat → Nat} {vs : Nat → Option Nat} {K30 : Nat → cW → Prop} {X : Nat → cW → Prop} {Q : Nat → cW → Prop} (N k0 : Nat) (hN : N < 2147483648) (h0 : k0 ≤ N) (P : Nat → Nat → Nat → cW → Prop) (step : ∀ (K9 : Nat → Nat → Int32 → cW → Prop) (k : Nat) (x0 : Nat) (x1 : Nat) (f : cW), k0 ≤ k → k ≤ N → P k x0 x1 f → (∀ (y0 : Nat) (y1 : Nat) (f' : cW), k < N → P (k + 1) y0 y1 f' → K9 y0 y1 (Int32.ofNat (k + 1)) f') → wbX0_read_9 b cs ad vs K9 K30 X Q x0 x1 (Int32.ofNat k) f) (x0 : Nat) (x1 : Nat) (f : cW) (hP : P k0 x0 x1 f) : ∃ n : Nat, wlX0_read_9 b cs ad vs K30 X Q n x0 x1 (Int32.ofNat k0) f := by
  refine ilX0_read_9 (fun x0 x1 x2 f => ∃ k, k0 ≤ k ∧ k ≤ N ∧ x2 = Int32.ofNat k ∧ P k x0 x1 f) (fun x0 x1 x2 _ => N - x2.toNatClampNeg) ?_ _ _ _ _ ⟨k0, Nat.le_refl _, h0, rfl, hP⟩
  intro K x0 x1 x2 f hI hK
  obtain ⟨k, h1, h2, rfl, h3⟩ := hI
  refine step K k x0 x1 f h1 h2 h3 (fun y0 y1 f' h4 h5 => hK _ _ _ _ ⟨k + 1, by omega, by omega, rfl, h5⟩ ?_)
  show N - (Int32.ofNat (k + 1)).toNatClampNeg < N - (Int32.ofNat k).toNatClampNeg
  rw [n_clamp (by omega), n_clamp (by omega)]
  omega
theorem ijL_law_18_3 {b : Nat} {cs : Nat → ClassId} {ad : Nat → Nat} {vs : Nat → Option Nat} {sc L : Nat} {xs : Nat → Int32}  {Q : Int32 → cW → Prop} (N k0 : Nat) (hN : N < 2147483648) (h0 : k0 ≤ N) (P : Nat → Nat → Nat → cW → Prop) (step : ∀ (K18 : Nat → Nat → Int32 → cW → Prop) (k : Nat) (x1 : Nat) (x2 : Nat) (f : cW), k0 ≤ k → k ≤ N → P k x1 x2 f → (∀ (y1 : Nat) (y2 : Nat) (f' : cW), k < N → P (k + 1) y1 y2 f' → K18 y1 y2 (Int32.ofNat (k + 1)) f') → wbL_law_18 b cs ad vs sc L xs K18 Q x1 x2 (Int32.ofNat k) f) (x1 : Nat) (x2 : Nat) (f : cW) (hP : P k0 x1 x2 f) : ∃ n : Nat, wlL_law_18 b cs ad vs sc L xs  Q n x1 x2 (Int32.ofNat k0) f := by
  refine ilL_law_18 (fun x1 x2 x3 f => ∃ k, k0 ≤ k ∧ k ≤ N ∧ x3 = Int32.ofNat k ∧ P k x1 x2 f) (fun x1 x2 x3 _ => N - x3.toNatClampNeg) ?_ _ _ _ _ ⟨k0, Nat.le_refl _, h0, rfl, hP⟩
  intro K x1 x2 x3 f hI hK
  obtain ⟨k, h1, h2, rfl, h3⟩ := hI
  refine step K k x1 x2 f h1 h2 h3 (fun y1 y2 f' h4 h5 => hK _ _ _ _ ⟨k + 1, by omega, by omega, rfl, h5⟩ ?_)
  show N - (Int32.ofNat (k + 1)).toNatClampNeg < N - (Int32.ofNat k).toNatClampNeg
  rw [n_clamp (by omega), n_clamp (by omega)]
  omega
