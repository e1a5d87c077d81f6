/-! rules of the loops (by program) -/
set_option maxRecDepth 100000
theorem ilX7_spreads_2 {K51 : St → Prop} {Q : St → Prop} (Inv : Int32 → St → Prop) (meas : Int32 → St → Nat) (step : ∀ (K2 : Int32 → St → Prop) (x1 : Int32) (f : St), Inv x1 f → (∀ (y1 : Int32) (f' : St), Inv y1 f' → meas y1 f' < meas x1 f → K2 y1 f') → wbX7_spreads_2 K2 K51 Q x1 f) (x1 : Int32) (f : St) (h : Inv x1 f) : ∃ n : Nat, wlX7_spreads_2 K51 Q n x1 f := by
  have key : ∀ (n : Nat) (x1 : Int32) (f : St), Inv x1 f → meas x1 f < n → wlX7_spreads_2 K51 Q n x1 f := by
    intro n
    induction n with
    | zero => intro x1 f hI hm; exact absurd hm (Nat.not_lt_zero _)
    | succ n ih => intro x1 f hI hm; exact step _ x1 f hI (fun y1 f' hI' hlt => ih y1 f' hI' (Nat.lt_of_lt_of_le hlt (Nat.le_of_lt_succ hm)))
  exact ⟨_, key _ x1 f h (Nat.lt_succ_self _)⟩
theorem icX7_spreads_2_1 {K51 : St → Prop} {Q : St → Prop} (N k0 : Nat) (hN : N < 2147483648) (h0 : k0 ≤ N) (P : Nat → Prop)  (st : Nat → St) (hP : P k0) (step : ∀ (K2 : Int32 → St → Prop) (k : Nat), k0 ≤ k → k ≤ N → P k → (k < N → P (k + 1) → K2 (Int32.ofNat (k + 1)) (st (k + 1))) → wbX7_spreads_2 K2 K51 Q (Int32.ofNat k) (st k)) : ∃ n : Nat, wlX7_spreads_2 K51 Q n (Int32.ofNat k0) (st k0) := by
  refine ilX7_spreads_2 (fun x1 f => ∃ k, k0 ≤ k ∧ k ≤ N ∧ P k ∧ x1 = Int32.ofNat k ∧ f = st k) (fun x1 _ => N - x1.toNatClampNeg) ?_ _ _ ⟨k0, Nat.le_refl _, h0, hP, rfl, rfl⟩
  intro K x1 f hI hK
  obtain ⟨k, h1, h2, h3, rfl, rfl⟩ := hI
  refine step K k h1 h2 h3 (fun h4 h5 => hK _ _ ⟨k + 1, by omega, by omega, h5, rfl, rfl⟩ ?_)
  show N - (Int32.ofNat (k + 1)).toNatClampNeg < N - (Int32.ofNat k).toNatClampNeg
  rw [n_clamp (by omega), n_clamp (by omega)]
  omega
theorem ilX7_spreads_73 {K155 : Int32 → Int32 → St → Prop} {Q : St → Prop} (Inv : Int32 → Int32 → Int32 → St → Prop) (meas : Int32 → Int32 → Int32 → St → Nat) (step : ∀ (K73 : Int32 → Int32 → Int32 → St → Prop) (x1 : Int32) (x2 : Int32) (x3 : Int32) (f : St), Inv x1 x2 x3 f → (∀ (y1 : Int32) (y2 : Int32) (y3 : Int32) (f' : St), Inv y1 y2 y3 f' → meas y1 y2 y3 f' < meas x1 x2 x3 f → K73 y1 y2 y3 f') → wbX7_spreads_73 K73 K155 Q x1 x2 x3 f) (x1 : Int32) (x2 : Int32) (x3 : Int32) (f : St) (h : Inv x1 x2 x3 f) : ∃ n : Nat, wlX7_spreads_73 K155 Q n x1 x2 x3 f := by
  have key : ∀ (n : Nat) (x1 : Int32) (x2 : Int32) (x3 : Int32) (f : St), Inv x1 x2 x3 f → meas x1 x2 x3 f < n → wlX7_spreads_73 K155 Q n x1 x2 x3 f := by
    intro n
    induction n with
    | zero => intro x1 x2 x3 f hI hm; exact absurd hm (Nat.not_lt_zero _)
    | succ n ih => intro x1 x2 x3 f hI hm; exact step _ x1 x2 x3 f hI (fun y1 y2 y3 f' hI' hlt => ih y1 y2 y3 f' hI' (Nat.lt_of_lt_of_le hlt (Nat.le_of_lt_succ hm)))
  exact ⟨_, key _ x1 x2 x3 f h (Nat.lt_succ_self _)⟩
theorem icX7_spreads_73_1 {K155 : Int32 → Int32 → St → Prop} {Q : St → Prop} (N k0 : Nat) (hN : N < 2147483648) (h0 : k0 ≤ N) (P : Nat → Prop) (p2 : Nat → Int32) (p3 : Nat → Int32) (st : Nat → St) (hP : P k0) (step : ∀ (K73 : Int32 → Int32 → Int32 → St → Prop) (k : Nat), k0 ≤ k → k ≤ N → P k → (k < N → P (k + 1) → K73 (Int32.ofNat (k + 1)) (p2 (k + 1)) (p3 (k + 1)) (st (k + 1))) → wbX7_spreads_73 K73 K155 Q (Int32.ofNat k) (p2 k) (p3 k) (st k)) : ∃ n : Nat, wlX7_spreads_73 K155 Q n (Int32.ofNat k0) (p2 k0) (p3 k0) (st k0) := by
  refine ilX7_spreads_73 (fun x1 x2 x3 f => ∃ k, k0 ≤ k ∧ k ≤ N ∧ P k ∧ x1 = Int32.ofNat k ∧ x2 = p2 k ∧ x3 = p3 k ∧ f = st k) (fun x1 x2 x3 _ => N - x1.toNatClampNeg) ?_ _ _ _ _ ⟨k0, Nat.le_refl _, h0, hP, rfl, rfl, rfl, rfl⟩
  intro K x1 x2 x3 f hI hK
  obtain ⟨k, h1, h2, h3, rfl, rfl, rfl, rfl⟩ := hI
  refine step K k h1 h2 h3 (fun h4 h5 => hK _ _ _ _ ⟨k + 1, by omega, by omega, h5, rfl, rfl, rfl, rfl⟩ ?_)
  show N - (Int32.ofNat (k + 1)).toNatClampNeg < N - (Int32.ofNat k).toNatClampNeg
  rw [n_clamp (by omega), n_clamp (by omega)]
  omega
theorem icX7_spreads_73_2 {K155 : Int32 → Int32 → St → Prop} {Q : St → Prop} (N k0 : Nat) (hN : N < 2147483648) (h0 : k0 ≤ N) (P : Nat → Prop) (p1 : Nat → Int32) (p3 : Nat → Int32) (st : Nat → St) (hP : P k0) (step : ∀ (K73 : Int32 → Int32 → Int32 → St → Prop) (k : Nat), k0 ≤ k → k ≤ N → P k → (k < N → P (k + 1) → K73 (p1 (k + 1)) (Int32.ofNat (k + 1)) (p3 (k + 1)) (st (k + 1))) → wbX7_spreads_73 K73 K155 Q (p1 k) (Int32.ofNat k) (p3 k) (st k)) : ∃ n : Nat, wlX7_spreads_73 K155 Q n (p1 k0) (Int32.ofNat k0) (p3 k0) (st k0) := by
  refine ilX7_spreads_73 (fun x1 x2 x3 f => ∃ k, k0 ≤ k ∧ k ≤ N ∧ P k ∧ x1 = p1 k ∧ x2 = Int32.ofNat k ∧ x3 = p3 k ∧ f = st k) (fun x1 x2 x3 _ => N - x2.toNatClampNeg) ?_ _ _ _ _ ⟨k0, Nat.le_refl _, h0, hP, rfl, rfl, rfl, rfl⟩
  intro K x1 x2 x3 f hI hK
  obtain ⟨k, h1, h2, h3, rfl, rfl, rfl, rfl⟩ := hI
  refine step K k h1 h2 h3 (fun h4 h5 => hK _ _ _ _ ⟨k + 1, by omega, by omega, h5, rfl, rfl, rfl, rfl⟩ ?_)
  show N - (Int32.ofNat (k + 1)).toNatClampNeg < N - (Int32.ofNat k).toNatClampNeg
  rw [n_clamp (by omega), n_clamp (by omega)]
  omega
theorem icX7_spreads_73_3 {K155 : Int32 → Int32 → St → Prop} {Q : St → Prop} (N k0 : Nat) (hN : N < 2147483648) (h0 : k0 ≤ N) (P : Nat → Prop) (p1 : Nat → Int32) (p2 : Nat → Int32) (st : Nat → St) (hP : P k0) (step : ∀ (K73 : Int32 → Int32 → Int32 → St → Prop) (k : Nat), k0 ≤ k → k ≤ N → P k → (k < N → P (k + 1) → K73 (p1 (k + 1)) (p2 (k + 1)) (Int32.ofNat (k + 1)) (st (k + 1))) → wbX7_spreads_73 K73 K155 Q (p1 k) (p2 k) (Int32.ofNat k) (st k)) : ∃ n : Nat, wlX7_spreads_73 K155 Q n (p1 k0) (p2 k0) (Int32.ofNat k0) (st k0) := by
  refine ilX7_spreads_73 (fun x1 x2 x3 f => ∃ k, k0 ≤ k ∧ k ≤ N ∧ P k ∧ x1 = p1 k ∧ x2 = p2 k ∧ x3 = Int32.ofNat k ∧ f = st k) (fun x1 x2 x3 _ => N - x3.toNatClampNeg) ?_ _ _ _ _ ⟨k0, Nat.le_refl _, h0, hP, rfl, rfl, rfl, rfl⟩
  intro K x1 x2 x3 f hI hK
  obtain ⟨k, h1, h2, h3, rfl, rfl, rfl, rfl⟩ := hI
  refine step K k h1 h2 h3 (fun h4 h5 => hK _ _ _ _ ⟨k + 1, by omega, by omega, h5, rfl, rfl, rfl, rfl⟩ ?_)
  show N - (Int32.ofNat (k + 1)).toNatClampNeg < N - (Int32.ofNat k).toNatClampNeg
  rw [n_clamp (by omega), n_clamp (by omega)]
  omega
theorem ilX7_spreads_63 {K161 : Int32 → St → Prop} {Q : St → Prop} (Inv : Int32 → Int32 → St → Prop) (meas : Int32 → Int32 → St → Nat) (step : ∀ (K63 : Int32 → Int32 → St → Prop) (x1 : Int32) (x2 : Int32) (f : St), Inv x1 x2 f → (∀ (y1 : Int32) (y2 : Int32) (f' : St), Inv y1 y2 f' → meas y1 y2 f' < meas x1 x2 f → K63 y1 y2 f') → wbX7_spreads_63 K63 K161 Q x1 x2 f) (x1 : Int32) (x2 : Int32) (f : St) (h : Inv x1 x2 f) : ∃ n : Nat, wlX7_spreads_63 K161 Q n x1 x2 f := by
  have key : ∀ (n : Nat) (x1 : Int32) (x2 : Int32) (f : St), Inv x1 x2 f → meas x1 x2 f < n → wlX7_spreads_63 K161 Q n x1 x2 f := by
    intro n
    induction n with
    | zero => intro x1 x2 f hI hm; exact absurd hm (Nat.not_lt_zero _)
    | succ n ih => intro x1 x2 f hI hm; exact step _ x1 x2 f hI (fun y1 y2 f' hI' hlt => ih y1 y2 f' hI' (Nat.lt_of_lt_of_le hlt (Nat.le_of_lt_succ hm)))
  exact ⟨_, key _ x1 x2 f h (Nat.lt_succ_self _)⟩
theorem icX7_spreads_63_1 {K161 : Int32 → St → Prop} {Q : St → Prop} (N k0 : Nat) (hN : N < 2147483648) (h0 : k0 ≤ N) (P : Nat → Prop) (p2 : Nat → Int32) (st : Nat → St) (hP : P k0) (step : ∀ (K63 : Int32 → Int32 → St → Prop) (k : Nat), k0 ≤ k → k ≤ N → P k → (k < N → P (k + 1) → K63 (Int32.ofNat (k + 1)) (p2 (k + 1)) (st (k + 1))) → wbX7_spreads_63 K63 K161 Q (Int32.ofNat k) (p2 k) (st k)) : ∃ n : Nat, wlX7_spreads_63 K161 Q n (Int32.ofNat k0) (p2 k0) (st k0) := by
  refine ilX7_spreads_63 (fun x1 x2 f => ∃ k, k0 ≤ k ∧ k ≤ N ∧ P k ∧ x1 = Int32.ofNat k ∧ x2 = p2 k ∧ f = st k) (fun x1 x2 _ => N - x1.toNatClampNeg) ?_ _ _ _ ⟨k0, Nat.le_refl _, h0, hP, rfl, rfl, rfl⟩
  intro K x1 x2 f hI hK
  obtain ⟨k, h1, h2, h3, rfl, rfl, rfl⟩ := hI
  refine step K k h1 h2 h3 (fun h4 h5 => hK _ _ _ ⟨k + 1, by omega, by omega, h5, rfl, rfl, rfl⟩ ?_)
  show N - (Int32.ofNat (k + 1)).toNatClampNeg < N - (Int32.ofNat k).toNatClampNeg
  rw [n_clamp (by omega), n_clamp (by omega)]
  omega
theorem icX7_spreads_63_2 {K161 : Int32 → St → Prop} {Q : St → Prop} (N k0 : Nat) (hN : N < 2147483648) (h0 : k0 ≤ N) (P : Nat → Prop) (p1 : Nat → Int32) (st : Nat → St) (hP : P k0) (step : ∀ (K63 : Int32 → Int32 → St → Prop) (k : Nat), k0 ≤ k → k ≤ N → P k → (k < N → P (k + 1) → K63 (p1 (k + 1)) (Int32.ofNat (k + 1)) (st (k + 1))) → wbX7_spreads_63 K63 K161 Q (p1 k) (Int32.ofNat k) (st k)) : ∃ n : Nat, wlX7_spreads_63 K161 Q n (p1 k0) (Int32.ofNat k0) (st k0) := by
  refine ilX7_spreads_63 (fun x1 x2 f => ∃ k, k0 ≤ k ∧ k ≤ N ∧ P k ∧ x1 = p1 k ∧ x2 = Int32.ofNat k ∧ f = st k) (fun x1 x2 _ => N - x2.toNatClampNeg) ?_ _ _ _ ⟨k0, Nat.le_refl _, h0, hP, rfl, rfl, rfl⟩
  intro K x1 x2 f hI hK
  obtain ⟨k, h1, h2, h3, rfl, rfl, rfl⟩ := hI
  refine step K k h1 h2 h3 (fun h4 h5 => hK _ _ _ ⟨k + 1, by omega, by omega, h5, rfl, rfl, rfl⟩ ?_)
  show N - (Int32.ofNat (k + 1)).toNatClampNeg < N - (Int32.ofNat k).toNatClampNeg
  rw [n_clamp (by omega), n_clamp (by omega)]
  omega
theorem ilX7_spreads_53  {Q : St → Prop} (Inv : Int32 → St → Prop) (meas : Int32 → St → Nat) (step : ∀ (K53 : Int32 → St → Prop) (x1 : Int32) (f : St), Inv x1 f → (∀ (y1 : Int32) (f' : St), Inv y1 f' → meas y1 f' < meas x1 f → K53 y1 f') → wbX7_spreads_53 K53 Q x1 f) (x1 : Int32) (f : St) (h : Inv x1 f) : ∃ n : Nat, wlX7_spreads_53  Q n x1 f := by
  have key : ∀ (n : Nat) (x1 : Int32) (f : St), Inv x1 f → meas x1 f < n → wlX7_spreads_53  Q n x1 f := by
    intro n
    induction n with
    | zero => intro x1 f hI hm; exact absurd hm (Nat.not_lt_zero _)
    | succ n ih => intro x1 f hI hm; exact step _ x1 f hI (fun y1 f' hI' hlt => ih y1 f' hI' (Nat.lt_of_lt_of_le hlt (Nat.le_of_lt_succ hm)))
  exact ⟨_, key _ x1 f h (Nat.lt_succ_self _)⟩
theorem icX7_spreads_53_1  {Q : St → Prop} (N k0 : Nat) (hN : N < 2147483648) (h0 : k0 ≤ N) (P : Nat → Prop)  (st : Nat → St) (hP : P k0) (step : ∀ (K53 : Int32 → St → Prop) (k : Nat), k0 ≤ k → k ≤ N → P k → (k < N → P (k + 1) → K53 (Int32.ofNat (k + 1)) (st (k + 1))) → wbX7_spreads_53 K53 Q (Int32.ofNat k) (st k)) : ∃ n : Nat, wlX7_spreads_53  Q n (Int32.ofNat k0) (st k0) := by
  refine ilX7_spreads_53 (fun x1 f => ∃ k, k0 ≤ k ∧ k ≤ N ∧ P k ∧ x1 = Int32.ofNat k ∧ f = st k) (fun x1 _ => N - x1.toNatClampNeg) ?_ _ _ ⟨k0, Nat.le_refl _, h0, hP, rfl, rfl⟩
  intro K x1 f hI hK
  obtain ⟨k, h1, h2, h3, rfl, rfl⟩ := hI
  refine step K k h1 h2 h3 (fun h4 h5 => hK _ _ ⟨k + 1, by omega, by omega, h5, rfl, rfl⟩ ?_)
  show N - (Int32.ofNat (k + 1)).toNatClampNeg < N - (Int32.ofNat k).toNatClampNeg
  rw [n_clamp (by omega), n_clamp (by omega)]
  omega
theorem ilX7_feed_33  {Q : Int32 → St → Prop} (Inv : Int64 → Int32 → St → Prop) (meas : Int64 → Int32 → St → Nat) (step : ∀ (K33 : Int64 → Int32 → St → Prop) (x1 : Int64) (x4 : Int32) (f : St), Inv x1 x4 f → (∀ (y1 : Int64) (y4 : Int32) (f' : St), Inv y1 y4 f' → meas y1 y4 f' < meas x1 x4 f → K33 y1 y4 f') → wbX7_feed_33 K33 Q x1 x4 f) (x1 : Int64) (x4 : Int32) (f : St) (h : Inv x1 x4 f) : ∃ n : Nat, wlX7_feed_33  Q n x1 x4 f := by
  have key : ∀ (n : Nat) (x1 : Int64) (x4 : Int32) (f : St), Inv x1 x4 f → meas x1 x4 f < n → wlX7_feed_33  Q n x1 x4 f := by
    intro n
    induction n with
    | zero => intro x1 x4 f hI hm; exact absurd hm (Nat.not_lt_zero _)
    | succ n ih => intro x1 x4 f hI hm; exact step _ x1 x4 f hI (fun y1 y4 f' hI' hlt => ih y1 y4 f' hI' (Nat.lt_of_lt_of_le hlt (Nat.le_of_lt_succ hm)))
  exact ⟨_, key _ x1 x4 f h (Nat.lt_succ_self _)⟩
theorem icX7_feed_33_4  {Q : Int32 → St → Prop} (N k0 : Nat) (hN : N < 2147483648) (h0 : k0 ≤ N) (P : Nat → Prop) (p1 : Nat → Int64) (st : Nat → St) (hP : P k0) (step : ∀ (K33 : Int64 → Int32 → St → Prop) (k : Nat), k0 ≤ k → k ≤ N → P k → (k < N → P (k + 1) → K33 (p1 (k + 1)) (Int32.ofNat (k + 1)) (st (k + 1))) → wbX7_feed_33 K33 Q (p1 k) (Int32.ofNat k) (st k)) : ∃ n : Nat, wlX7_feed_33  Q n (p1 k0) (Int32.ofNat k0) (st k0) := by
  refine ilX7_feed_33 (fun x1 x4 f => ∃ k, k0 ≤ k ∧ k ≤ N ∧ P k ∧ x1 = p1 k ∧ x4 = Int32.ofNat k ∧ f = st k) (fun x1 x4 _ => N - x4.toNatClampNeg) ?_ _ _ _ ⟨k0, Nat.le_refl _, h0, hP, rfl, rfl, rfl⟩
  intro K x1 x4 f hI hK
  obtain ⟨k, h1, h2, h3, rfl, rfl, rfl⟩ := hI
  refine step K k h1 h2 h3 (fun h4 h5 => hK _ _ _ ⟨k + 1, by omega, by omega, h5, rfl, rfl, rfl⟩ ?_)
  show N - (Int32.ofNat (k + 1)).toNatClampNeg < N - (Int32.ofNat k).toNatClampNeg
  rw [n_clamp (by omega), n_clamp (by omega)]
  omega
theorem ilX7_letters_4 {K76 : Int64 → Int32 → St → Prop} {Q : Int64 → St → Prop} (Inv : Int64 → Int32 → St → Prop) (meas : Int64 → Int32 → St → Nat) (step : ∀ (K4 : Int64 → Int32 → St → Prop) (x1 : Int64) (x3 : Int32) (f : St), Inv x1 x3 f → (∀ (y1 : Int64) (y3 : Int32) (f' : St), Inv y1 y3 f' → meas y1 y3 f' < meas x1 x3 f → K4 y1 y3 f') → wbX7_letters_4 K4 K76 Q x1 x3 f) (x1 : Int64) (x3 : Int32) (f : St) (h : Inv x1 x3 f) : ∃ n : Nat, wlX7_letters_4 K76 Q n x1 x3 f := by
  have key : ∀ (n : Nat) (x1 : Int64) (x3 : Int32) (f : St), Inv x1 x3 f → meas x1 x3 f < n → wlX7_letters_4 K76 Q n x1 x3 f := by
    intro n
    induction n with
    | zero => intro x1 x3 f hI hm; exact absurd hm (Nat.not_lt_zero _)
    | succ n ih => intro x1 x3 f hI hm; exact step _ x1 x3 f hI (fun y1 y3 f' hI' hlt => ih y1 y3 f' hI' (Nat.lt_of_lt_of_le hlt (Nat.le_of_lt_succ hm)))
  exact ⟨_, key _ x1 x3 f h (Nat.lt_succ_self _)⟩
theorem icX7_letters_4_3 {K76 : Int64 → Int32 → St → Prop} {Q : Int64 → St → Prop} (N k0 : Nat) (hN : N < 2147483648) (h0 : k0 ≤ N) (P : Nat → Prop) (p1 : Nat → Int64) (st : Nat → St) (hP : P k0) (step : ∀ (K4 : Int64 → Int32 → St → Prop) (k : Nat), k0 ≤ k → k ≤ N → P k → (k < N → P (k + 1) → K4 (p1 (k + 1)) (Int32.ofNat (k + 1)) (st (k + 1))) → wbX7_letters_4 K4 K76 Q (p1 k) (Int32.ofNat k) (st k)) : ∃ n : Nat, wlX7_letters_4 K76 Q n (p1 k0) (Int32.ofNat k0) (st k0) := by
  refine ilX7_letters_4 (fun x1 x3 f => ∃ k, k0 ≤ k ∧ k ≤ N ∧ P k ∧ x1 = p1 k ∧ x3 = Int32.ofNat k ∧ f = st k) (fun x1 x3 _ => N - x3.toNatClampNeg) ?_ _ _ _ ⟨k0, Nat.le_refl _, h0, hP, rfl, rfl, rfl⟩
  intro K x1 x3 f hI hK
  obtain ⟨k, h1, h2, h3, rfl, rfl, rfl⟩ := hI
  refine step K k h1 h2 h3 (fun h4 h5 => hK _ _ _ ⟨k + 1, by omega, by omega, h5, rfl, rfl, rfl⟩ ?_)
  show N - (Int32.ofNat (k + 1)).toNatClampNeg < N - (Int32.ofNat k).toNatClampNeg
  rw [n_clamp (by omega), n_clamp (by omega)]
  omega
theorem ilX7_next_0 {K52 : St → Prop} {Q : St → Prop} (Inv : St → Prop) (meas : St → Nat) (step : ∀ (K0 : St → Prop)  (f : St), Inv  f → (∀  (f' : St), Inv  f' → meas  f' < meas  f → K0  f') → wbX7_next_0 K0 K52 Q  f)  (f : St) (h : Inv  f) : ∃ n : Nat, wlX7_next_0 K52 Q n  f := by
  have key : ∀ (n : Nat)  (f : St), Inv  f → meas  f < n → wlX7_next_0 K52 Q n  f := by
    intro n
    induction n with
    | zero => intro  f hI hm; exact absurd hm (Nat.not_lt_zero _)
    | succ n ih => intro  f hI hm; exact step _  f hI (fun  f' hI' hlt => ih  f' hI' (Nat.lt_of_lt_of_le hlt (Nat.le_of_lt_succ hm)))
  exact ⟨_, key _  f h (Nat.lt_succ_self _)⟩

theorem ilX7_next_214 {K293 : Int32 → St → Prop} {Q : St → Prop} (Inv : Int32 → St → Prop) (meas : Int32 → St → Nat) (step : ∀ (K214 : Int32 → St → Prop) (x2 : Int32) (f : St), Inv x2 f → (∀ (y2 : Int32) (f' : St), Inv y2 f' → meas y2 f' < meas x2 f → K214 y2 f') → wbX7_next_214 K214 K293 Q x2 f) (x2 : Int32) (f : St) (h : Inv x2 f) : ∃ n : Nat, wlX7_next_214 K293 Q n x2 f := by
  have key : ∀ (n : Nat) (x2 : Int32) (f : St), Inv x2 f → meas x2 f < n → wlX7_next_214 K293 Q n x2 f := by
    intro n
    induction n with
    | zero => intro x2 f hI hm; exact absurd hm (Nat.not_lt_zero _)
    | succ n ih => intro x2 f hI hm; exact step _ x2 f hI (fun y2 f' hI' hlt => ih y2 f' hI' (Nat.lt_of_lt_of_le hlt (Nat.le_of_lt_succ hm)))
  exact ⟨_, key _ x2 f h (Nat.lt_succ_self _)⟩
theorem icX7_next_214_2 {K293 : Int32 → St → Prop} {Q : St → Prop} (N k0 : Nat) (hN : N < 2147483648) (h0 : k0 ≤ N) (P : Nat → Prop)  (st : Nat → St) (hP : P k0) (step : ∀ (K214 : Int32 → St → Prop) (k : Nat), k0 ≤ k → k ≤ N → P k → (k < N → P (k + 1) → K214 (Int32.ofNat (k + 1)) (st (k + 1))) → wbX7_next_214 K214 K293 Q (Int32.ofNat k) (st k)) : ∃ n : Nat, wlX7_next_214 K293 Q n (Int32.ofNat k0) (st k0) := by
  refine ilX7_next_214 (fun x2 f => ∃ k, k0 ≤ k ∧ k ≤ N ∧ P k ∧ x2 = Int32.ofNat k ∧ f = st k) (fun x2 _ => N - x2.toNatClampNeg) ?_ _ _ ⟨k0, Nat.le_refl _, h0, hP, rfl, rfl⟩
  intro K x2 f hI hK
  obtain ⟨k, h1, h2, h3, rfl, rfl⟩ := hI
  refine step K k h1 h2 h3 (fun h4 h5 => hK _ _ ⟨k + 1, by omega, by omega, h5, rfl, rfl⟩ ?_)
  show N - (Int32.ofNat (k + 1)).toNatClampNeg < N - (Int32.ofNat k).toNatClampNeg
  rw [n_clamp (by omega), n_clamp (by omega)]
  omega
theorem ilX7_next_111 {K136 : Int32 → St → Prop} {Q : St → Prop} (Inv : Int64 → Int32 → St → Prop) (meas : Int64 → Int32 → St → Nat) (step : ∀ (K111 : Int64 → Int32 → St → Prop) (x2 : Int64) (x4 : Int32) (f : St), Inv x2 x4 f → (∀ (y2 : Int64) (y4 : Int32) (f' : St), Inv y2 y4 f' → meas y2 y4 f' < meas x2 x4 f → K111 y2 y4 f') → wbX7_next_111 K111 K136 Q x2 x4 f) (x2 : Int64) (x4 : Int32) (f : St) (h : Inv x2 x4 f) : ∃ n : Nat, wlX7_next_111 K136 Q n x2 x4 f := by
  have key : ∀ (n : Nat) (x2 : Int64) (x4 : Int32) (f : St), Inv x2 x4 f → meas x2 x4 f < n → wlX7_next_111 K136 Q n x2 x4 f := by
    intro n
    induction n with
    | zero => intro x2 x4 f hI hm; exact absurd hm (Nat.not_lt_zero _)
    | succ n ih => intro x2 x4 f hI hm; exact step _ x2 x4 f hI (fun y2 y4 f' hI' hlt => ih y2 y4 f' hI' (Nat.lt_of_lt_of_le hlt (Nat.le_of_lt_succ hm)))
  exact ⟨_, key _ x2 x4 f h (Nat.lt_succ_self _)⟩
theorem icX7_next_111_4 {K136 : Int32 → St → Prop} {Q : St → Prop} (N k0 : Nat) (hN : N < 2147483648) (h0 : k0 ≤ N) (P : Nat → Prop) (p2 : Nat → Int64) (st : Nat → St) (hP : P k0) (step : ∀ (K111 : Int64 → Int32 → St → Prop) (k : Nat), k0 ≤ k → k ≤ N → P k → (k < N → P (k + 1) → K111 (p2 (k + 1)) (Int32.ofNat (k + 1)) (st (k + 1))) → wbX7_next_111 K111 K136 Q (p2 k) (Int32.ofNat k) (st k)) : ∃ n : Nat, wlX7_next_111 K136 Q n (p2 k0) (Int32.ofNat k0) (st k0) := by
  refine ilX7_next_111 (fun x2 x4 f => ∃ k, k0 ≤ k ∧ k ≤ N ∧ P k ∧ x2 = p2 k ∧ x4 = Int32.ofNat k ∧ f = st k) (fun x2 x4 _ => N - x4.toNatClampNeg) ?_ _ _ _ ⟨k0, Nat.le_refl _, h0, hP, rfl, rfl, rfl⟩
  intro K x2 x4 f hI hK
  obtain ⟨k, h1, h2, h3, rfl, rfl, rfl⟩ := hI
  refine step K k h1 h2 h3 (fun h4 h5 => hK _ _ _ ⟨k + 1, by omega, by omega, h5, rfl, rfl, rfl⟩ ?_)
  show N - (Int32.ofNat (k + 1)).toNatClampNeg < N - (Int32.ofNat k).toNatClampNeg
  rw [n_clamp (by omega), n_clamp (by omega)]
  omega
theorem ilX7_unwinds_0  {Q : St → Prop} (Inv : Int32 → St → Prop) (meas : Int32 → St → Nat) (step : ∀ (K0 : Int32 → St → Prop) (x1 : Int32) (f : St), Inv x1 f → (∀ (y1 : Int32) (f' : St), Inv y1 f' → meas y1 f' < meas x1 f → K0 y1 f') → wbX7_unwinds_0 K0 Q x1 f) (x1 : Int32) (f : St) (h : Inv x1 f) : ∃ n : Nat, wlX7_unwinds_0  Q n x1 f := by
  have key : ∀ (n : Nat) (x1 : Int32) (f : St), Inv x1 f → meas x1 f < n → wlX7_unwinds_0  Q n x1 f := by
    intro n
    induction n with
    | zero => intro x1 f hI hm; exact absurd hm (Nat.not_lt_zero _)
    | succ n ih => intro x1 f hI hm; exact step _ x1 f hI (fun y1 f' hI' hlt => ih y1 f' hI' (Nat.lt_of_lt_of_le hlt (Nat.le_of_lt_succ hm)))
  exact ⟨_, key _ x1 f h (Nat.lt_succ_self _)⟩
theorem icX7_unwinds_0_1  {Q : St → Prop} (N k0 : Nat) (hN : N < 2147483648) (h0 : k0 ≤ N) (P : Nat → Prop)  (st : Nat → St) (hP : P k0) (step : ∀ (K0 : Int32 → St → Prop) (k : Nat), k0 ≤ k → k ≤ N → P k → (k < N → P (k + 1) → K0 (Int32.ofNat (k + 1)) (st (k + 1))) → wbX7_unwinds_0 K0 Q (Int32.ofNat k) (st k)) : ∃ n : Nat, wlX7_unwinds_0  Q n (Int32.ofNat k0) (st k0) := by
  refine ilX7_unwinds_0 (fun x1 f => ∃ k, k0 ≤ k ∧ k ≤ N ∧ P k ∧ x1 = Int32.ofNat k ∧ f = st k) (fun x1 _ => N - x1.toNatClampNeg) ?_ _ _ ⟨k0, Nat.le_refl _, h0, hP, rfl, rfl⟩
  intro K x1 f hI hK
  obtain ⟨k, h1, h2, h3, rfl, rfl⟩ := hI
  refine step K k h1 h2 h3 (fun h4 h5 => hK _ _ ⟨k + 1, by omega, by omega, h5, rfl, rfl⟩ ?_)
  show N - (Int32.ofNat (k + 1)).toNatClampNeg < N - (Int32.ofNat k).toNatClampNeg
  rw [n_clamp (by omega), n_clamp (by omega)]
  omega
theorem ilX7_eRead_14 {K159 : St → Prop} {Q : Int32 → St → Prop} (Inv : Int32 → Int32 → St → Prop) (meas : Int32 → Int32 → St → Nat) (step : ∀ (K14 : Int32 → Int32 → St → Prop) (x1 : Int32) (x2 : Int32) (f : St), Inv x1 x2 f → (∀ (y1 : Int32) (y2 : Int32) (f' : St), Inv y1 y2 f' → meas y1 y2 f' < meas x1 x2 f → K14 y1 y2 f') → wbX7_eRead_14 K14 K159 Q x1 x2 f) (x1 : Int32) (x2 : Int32) (f : St) (h : Inv x1 x2 f) : ∃ n : Nat, wlX7_eRead_14 K159 Q n x1 x2 f := by
  have key : ∀ (n : Nat) (x1 : Int32) (x2 : Int32) (f : St), Inv x1 x2 f → meas x1 x2 f < n → wlX7_eRead_14 K159 Q n x1 x2 f := by
    intro n
    induction n with
    | zero => intro x1 x2 f hI hm; exact absurd hm (Nat.not_lt_zero _)
    | succ n ih => intro x1 x2 f hI hm; exact step _ x1 x2 f hI (fun y1 y2 f' hI' hlt => ih y1 y2 f' hI' (Nat.lt_of_lt_of_le hlt (Nat.le_of_lt_succ hm)))
  exact ⟨_, key _ x1 x2 f h (Nat.lt_succ_self _)⟩
theorem icX7_eRead_14_1 {K159 : St → Prop} {Q : Int32 → St → Prop} (N k0 : Nat) (hN : N < 2147483648) (h0 : k0 ≤ N) (P : Nat → Prop) (p2 : Nat → Int32) (st : Nat → St) (hP : P k0) (step : ∀ (K14 : Int32 → Int32 → St → Prop) (k : Nat), k0 ≤ k → k ≤ N → P k → (k < N → P (k + 1) → K14 (Int32.ofNat (k + 1)) (p2 (k + 1)) (st (k + 1))) → wbX7_eRead_14 K14 K159 Q (Int32.ofNat k) (p2 k) (st k)) : ∃ n : Nat, wlX7_eRead_14 K159 Q n (Int32.ofNat k0) (p2 k0) (st k0) := by
  refine ilX7_eRead_14 (fun x1 x2 f => ∃ k, k0 ≤ k ∧ k ≤ N ∧ P k ∧ x1 = Int32.ofNat k ∧ x2 = p2 k ∧ f = st k) (fun x1 x2 _ => N - x1.toNatClampNeg) ?_ _ _ _ ⟨k0, Nat.le_refl _, h0, hP, rfl, rfl, rfl⟩
  intro K x1 x2 f hI hK
  obtain ⟨k, h1, h2, h3, rfl, rfl, rfl⟩ := hI
  refine step K k h1 h2 h3 (fun h4 h5 => hK _ _ _ ⟨k + 1, by omega, by omega, h5, rfl, rfl, rfl⟩ ?_)
  show N - (Int32.ofNat (k + 1)).toNatClampNeg < N - (Int32.ofNat k).toNatClampNeg
  rw [n_clamp (by omega), n_clamp (by omega)]
  omega
theorem icX7_eRead_14_2 {K159 : St → Prop} {Q : Int32 → St → Prop} (N k0 : Nat) (hN : N < 2147483648) (h0 : k0 ≤ N) (P : Nat → Prop) (p1 : Nat → Int32) (st : Nat → St) (hP : P k0) (step : ∀ (K14 : Int32 → Int32 → St → Prop) (k : Nat), k0 ≤ k → k ≤ N → P k → (k < N → P (k + 1) → K14 (p1 (k + 1)) (Int32.ofNat (k + 1)) (st (k + 1))) → wbX7_eRead_14 K14 K159 Q (p1 k) (Int32.ofNat k) (st k)) : ∃ n : Nat, wlX7_eRead_14 K159 Q n (p1 k0) (Int32.ofNat k0) (st k0) := by
  refine ilX7_eRead_14 (fun x1 x2 f => ∃ k, k0 ≤ k ∧ k ≤ N ∧ P k ∧ x1 = p1 k ∧ x2 = Int32.ofNat k ∧ f = st k) (fun x1 x2 _ => N - x2.toNatClampNeg) ?_ _ _ _ ⟨k0, Nat.le_refl _, h0, hP, rfl, rfl, rfl⟩
  intro K x1 x2 f hI hK
  obtain ⟨k, h1, h2, h3, rfl, rfl, rfl⟩ := hI
  refine step K k h1 h2 h3 (fun h4 h5 => hK _ _ _ ⟨k + 1, by omega, by omega, h5, rfl, rfl, rfl⟩ ?_)
  show N - (Int32.ofNat (k + 1)).toNatClampNeg < N - (Int32.ofNat k).toNatClampNeg
  rw [n_clamp (by omega), n_clamp (by omega)]
  omega
theorem ilX7_text_26 {K101 : Int32 → St → Prop} {Q : Int32 → St → Prop} (Inv : Int32 → Int32 → St → Prop) (meas : Int32 → Int32 → St → Nat) (step : ∀ (K26 : Int32 → Int32 → St → Prop) (x1 : Int32) (x2 : Int32) (f : St), Inv x1 x2 f → (∀ (y1 : Int32) (y2 : Int32) (f' : St), Inv y1 y2 f' → meas y1 y2 f' < meas x1 x2 f → K26 y1 y2 f') → wbX7_text_26 K26 K101 Q x1 x2 f) (x1 : Int32) (x2 : Int32) (f : St) (h : Inv x1 x2 f) : ∃ n : Nat, wlX7_text_26 K101 Q n x1 x2 f := by
  have key : ∀ (n : Nat) (x1 : Int32) (x2 : Int32) (f : St), Inv x1 x2 f → meas x1 x2 f < n → wlX7_text_26 K101 Q n x1 x2 f := by
    intro n
    induction n with
    | zero => intro x1 x2 f hI hm; exact absurd hm (Nat.not_lt_zero _)
    | succ n ih => intro x1 x2 f hI hm; exact step _ x1 x2 f hI (fun y1 y2 f' hI' hlt => ih y1 y2 f' hI' (Nat.lt_of_lt_of_le hlt (Nat.le_of_lt_succ hm)))
  exact ⟨_, key _ x1 x2 f h (Nat.lt_succ_self _)⟩
theorem icX7_text_26_1 {K101 : Int32 → St → Prop} {Q : Int32 → St → Prop} (N k0 : Nat) (hN : N < 2147483648) (h0 : k0 ≤ N) (P : Nat → Prop) (p2 : Nat → Int32) (st : Nat → St) (hP : P k0) (step : ∀ (K26 : Int32 → Int32 → St → Prop) (k : Nat), k0 ≤ k → k ≤ N → P k → (k < N → P (k + 1) → K26 (Int32.ofNat (k + 1)) (p2 (k + 1)) (st (k + 1))) → wbX7_text_26 K26 K101 Q (Int32.ofNat k) (p2 k) (st k)) : ∃ n : Nat, wlX7_text_26 K101 Q n (Int32.ofNat k0) (p2 k0) (st k0) := by
  refine ilX7_text_26 (fun x1 x2 f => ∃ k, k0 ≤ k ∧ k ≤ N ∧ P k ∧ x1 = Int32.ofNat k ∧ x2 = p2 k ∧ f = st k) (fun x1 x2 _ => N - x1.toNatClampNeg) ?_ _ _ _ ⟨k0, Nat.le_refl _, h0, hP, rfl, rfl, rfl⟩
  intro K x1 x2 f hI hK
  obtain ⟨k, h1, h2, h3, rfl, rfl, rfl⟩ := hI
  refine step K k h1 h2 h3 (fun h4 h5 => hK _ _ _ ⟨k + 1, by omega, by omega, h5, rfl, rfl, rfl⟩ ?_)
  show N - (Int32.ofNat (k + 1)).toNatClampNeg < N - (Int32.ofNat k).toNatClampNeg
  rw [n_clamp (by omega), n_clamp (by omega)]
  omega
theorem icX7_text_26_2 {K101 : Int32 → St → Prop} {Q : Int32 → St → Prop} (N k0 : Nat) (hN : N < 2147483648) (h0 : k0 ≤ N) (P : Nat → Prop) (p1 : Nat → Int32) (st : Nat → St) (hP : P k0) (step : ∀ (K26 : Int32 → Int32 → St → Prop) (k : Nat), k0 ≤ k → k ≤ N → P k → (k < N → P (k + 1) → K26 (p1 (k + 1)) (Int32.ofNat (k + 1)) (st (k + 1))) → wbX7_text_26 K26 K101 Q (p1 k) (Int32.ofNat k) (st k)) : ∃ n : Nat, wlX7_text_26 K101 Q n (p1 k0) (Int32.ofNat k0) (st k0) := by
  refine ilX7_text_26 (fun x1 x2 f => ∃ k, k0 ≤ k ∧ k ≤ N ∧ P k ∧ x1 = p1 k ∧ x2 = Int32.ofNat k ∧ f = st k) (fun x1 x2 _ => N - x2.toNatClampNeg) ?_ _ _ _ ⟨k0, Nat.le_refl _, h0, hP, rfl, rfl, rfl⟩
  intro K x1 x2 f hI hK
  obtain ⟨k, h1, h2, h3, rfl, rfl, rfl⟩ := hI
  refine step K k h1 h2 h3 (fun h4 h5 => hK _ _ _ ⟨k + 1, by omega, by omega, h5, rfl, rfl, rfl⟩ ?_)
  show N - (Int32.ofNat (k + 1)).toNatClampNeg < N - (Int32.ofNat k).toNatClampNeg
  rw [n_clamp (by omega), n_clamp (by omega)]
  omega
theorem ilX7_worth_16  {Q : Int32 → St → Prop} (Inv : Int32 → Int32 → Int32 → St → Prop) (meas : Int32 → Int32 → Int32 → St → Nat) (step : ∀ (K16 : Int32 → Int32 → Int32 → St → Prop) (x1 : Int32) (x2 : Int32) (x3 : Int32) (f : St), Inv x1 x2 x3 f → (∀ (y1 : Int32) (y2 : Int32) (y3 : Int32) (f' : St), Inv y1 y2 y3 f' → meas y1 y2 y3 f' < meas x1 x2 x3 f → K16 y1 y2 y3 f') → wbX7_worth_16 K16 Q x1 x2 x3 f) (x1 : Int32) (x2 : Int32) (x3 : Int32) (f : St) (h : Inv x1 x2 x3 f) : ∃ n : Nat, wlX7_worth_16  Q n x1 x2 x3 f := by
  have key : ∀ (n : Nat) (x1 : Int32) (x2 : Int32) (x3 : Int32) (f : St), Inv x1 x2 x3 f → meas x1 x2 x3 f < n → wlX7_worth_16  Q n x1 x2 x3 f := by
    intro n
    induction n with
    | zero => intro x1 x2 x3 f hI hm; exact absurd hm (Nat.not_lt_zero _)
    | succ n ih => intro x1 x2 x3 f hI hm; exact step _ x1 x2 x3 f hI (fun y1 y2 y3 f' hI' hlt => ih y1 y2 y3 f' hI' (Nat.lt_of_lt_of_le hlt (Nat.le_of_lt_succ hm)))
  exact ⟨_, key _ x1 x2 x3 f h (Nat.lt_succ_self _)⟩
theorem icX7_worth_16_1  {Q : Int32 → St → Prop} (N k0 : Nat) (hN : N < 2147483648) (h0 : k0 ≤ N) (P : Nat → Prop) (p2 : Nat → Int32) (p3 : Nat → Int32) (st : Nat → St) (hP : P k0) (step : ∀ (K16 : Int32 → Int32 → Int32 → St → Prop) (k : Nat), k0 ≤ k → k ≤ N → P k → (k < N → P (k + 1) → K16 (Int32.ofNat (k + 1)) (p2 (k + 1)) (p3 (k + 1)) (st (k + 1))) → wbX7_worth_16 K16 Q (Int32.ofNat k) (p2 k) (p3 k) (st k)) : ∃ n : Nat, wlX7_worth_16  Q n (Int32.ofNat k0) (p2 k0) (p3 k0) (st k0) := by
  refine ilX7_worth_16 (fun x1 x2 x3 f => ∃ k, k0 ≤ k ∧ k ≤ N ∧ P k ∧ x1 = Int32.ofNat k ∧ x2 = p2 k ∧ x3 = p3 k ∧ f = st k) (fun x1 x2 x3 _ => N - x1.toNatClampNeg) ?_ _ _ _ _ ⟨k0, Nat.le_refl _, h0, hP, rfl, rfl, rfl, rfl⟩
  intro K x1 x2 x3 f hI hK
  obtain ⟨k, h1, h2, h3, rfl, rfl, rfl, rfl⟩ := hI
  refine step K k h1 h2 h3 (fun h4 h5 => hK _ _ _ _ ⟨k + 1, by omega, by omega, h5, rfl, rfl, rfl, rfl⟩ ?_)
  show N - (Int32.ofNat (k + 1)).toNatClampNeg < N - (Int32.ofNat k).toNatClampNeg
  rw [n_clamp (by omega), n_clamp (by omega)]
  omega
theorem icX7_worth_16_2  {Q : Int32 → St → Prop} (N k0 : Nat) (hN : N < 2147483648) (h0 : k0 ≤ N) (P : Nat → Prop) (p1 : Nat → Int32) (p3 : Nat → Int32) (st : Nat → St) (hP : P k0) (step : ∀ (K16 : Int32 → Int32 → Int32 → St → Prop) (k : Nat), k0 ≤ k → k ≤ N → P k → (k < N → P (k + 1) → K16 (p1 (k + 1)) (Int32.ofNat (k + 1)) (p3 (k + 1)) (st (k + 1))) → wbX7_worth_16 K16 Q (p1 k) (Int32.ofNat k) (p3 k) (st k)) : ∃ n : Nat, wlX7_worth_16  Q n (p1 k0) (Int32.ofNat k0) (p3 k0) (st k0) := by
  refine ilX7_worth_16 (fun x1 x2 x3 f => ∃ k, k0 ≤ k ∧ k ≤ N ∧ P k ∧ x1 = p1 k ∧ x2 = Int32.ofNat k ∧ x3 = p3 k ∧ f = st k) (fun x1 x2 x3 _ => N - x2.toNatClampNeg) ?_ _ _ _ _ ⟨k0, Nat.le_refl _, h0, hP, rfl, rfl, rfl, rfl⟩
  intro K x1 x2 x3 f hI hK
  obtain ⟨k, h1, h2, h3, rfl, rfl, rfl, rfl⟩ := hI
  refine step K k h1 h2 h3 (fun h4 h5 => hK _ _ _ _ ⟨k + 1, by omega, by omega, h5, rfl, rfl, rfl, rfl⟩ ?_)
  show N - (Int32.ofNat (k + 1)).toNatClampNeg < N - (Int32.ofNat k).toNatClampNeg
  rw [n_clamp (by omega), n_clamp (by omega)]
  omega
theorem icX7_worth_16_3  {Q : Int32 → St → Prop} (N k0 : Nat) (hN : N < 2147483648) (h0 : k0 ≤ N) (P : Nat → Prop) (p1 : Nat → Int32) (p2 : Nat → Int32) (st : Nat → St) (hP : P k0) (step : ∀ (K16 : Int32 → Int32 → Int32 → St → Prop) (k : Nat), k0 ≤ k → k ≤ N → P k → (k < N → P (k + 1) → K16 (p1 (k + 1)) (p2 (k + 1)) (Int32.ofNat (k + 1)) (st (k + 1))) → wbX7_worth_16 K16 Q (p1 k) (p2 k) (Int32.ofNat k) (st k)) : ∃ n : Nat, wlX7_worth_16  Q n (p1 k0) (p2 k0) (Int32.ofNat k0) (st k0) := by
  refine ilX7_worth_16 (fun x1 x2 x3 f => ∃ k, k0 ≤ k ∧ k ≤ N ∧ P k ∧ x1 = p1 k ∧ x2 = p2 k ∧ x3 = Int32.ofNat k ∧ f = st k) (fun x1 x2 x3 _ => N - x3.toNatClampNeg) ?_ _ _ _ _ ⟨k0, Nat.le_refl _, h0, hP, rfl, rfl, rfl, rfl⟩
  intro K x1 x2 x3 f hI hK
  obtain ⟨k, h1, h2, h3, rfl, rfl, rfl, rfl⟩ := hI
  refine step K k h1 h2 h3 (fun h4 h5 => hK _ _ _ _ ⟨k + 1, by omega, by omega, h5, rfl, rfl, rfl, rfl⟩ ?_)
  show N - (Int32.ofNat (k + 1)).toNatClampNeg < N - (Int32.ofNat k).toNatClampNeg
  rw [n_clamp (by omega), n_clamp (by omega)]
  omega
theorem ilX7_giving_56 {K93 : Int32 → Int32 → Int32 → St → Prop} {Q : Int32 → St → Prop} (Inv : Int32 → Int32 → Int32 → Int32 → St → Prop) (meas : Int32 → Int32 → Int32 → Int32 → St → Nat) (step : ∀ (K56 : Int32 → Int32 → Int32 → Int32 → St → Prop) (x1 : Int32) (x2 : Int32) (x3 : Int32) (x4 : Int32) (f : St), Inv x1 x2 x3 x4 f → (∀ (y1 : Int32) (y2 : Int32) (y3 : Int32) (y4 : Int32) (f' : St), Inv y1 y2 y3 y4 f' → meas y1 y2 y3 y4 f' < meas x1 x2 x3 x4 f → K56 y1 y2 y3 y4 f') → wbX7_giving_56 K56 K93 Q x1 x2 x3 x4 f) (x1 : Int32) (x2 : Int32) (x3 : Int32) (x4 : Int32) (f : St) (h : Inv x1 x2 x3 x4 f) : ∃ n : Nat, wlX7_giving_56 K93 Q n x1 x2 x3 x4 f := by
  have key : ∀ (n : Nat) (x1 : Int32) (x2 : Int32) (x3 : Int32) (x4 : Int32) (f : St), Inv x1 x2 x3 x4 f → meas x1 x2 x3 x4 f < n → wlX7_giving_56 K93 Q n x1 x2 x3 x4 f := by
    intro n
    induction n with
    | zero => intro x1 x2 x3 x4 f hI hm; exact absurd hm (Nat.not_lt_zero _)
    | succ n ih => intro x1 x2 x3 x4 f hI hm; exact step _ x1 x2 x3 x4 f hI (fun y1 y2 y3 y4 f' hI' hlt => ih y1 y2 y3 y4 f' hI' (Nat.lt_of_lt_of_le hlt (Nat.le_of_lt_succ hm)))
  exact ⟨_, key _ x1 x2 x3 x4 f h (Nat.lt_succ_self _)⟩
theorem icX7_giving_56_1 {K93 : Int32 → Int32 → Int32 → St → Prop} {Q : Int32 → St → Prop} (N k0 : Nat) (hN : N < 2147483648) (h0 : k0 ≤ N) (P : Nat → Prop) (p2 : Nat → Int32) (p3 : Nat → Int32) (p4 : Nat → Int32) (st : Nat → St) (hP : P k0) (step : ∀ (K56 : Int32 → Int32 → Int32 → Int32 → St → Prop) (k : Nat), k0 ≤ k → k ≤ N → P k → (k < N → P (k + 1) → K56 (Int32.ofNat (k + 1)) (p2 (k + 1)) (p3 (k + 1)) (p4 (k + 1)) (st (k + 1))) → wbX7_giving_56 K56 K93 Q (Int32.ofNat k) (p2 k) (p3 k) (p4 k) (st k)) : ∃ n : Nat, wlX7_giving_56 K93 Q n (Int32.ofNat k0) (p2 k0) (p3 k0) (p4 k0) (st k0) := by
  refine ilX7_giving_56 (fun x1 x2 x3 x4 f => ∃ k, k0 ≤ k ∧ k ≤ N ∧ P k ∧ x1 = Int32.ofNat k ∧ x2 = p2 k ∧ x3 = p3 k ∧ x4 = p4 k ∧ f = st k) (fun x1 x2 x3 x4 _ => N - x1.toNatClampNeg) ?_ _ _ _ _ _ ⟨k0, Nat.le_refl _, h0, hP, rfl, rfl, rfl, rfl, rfl⟩
  intro K x1 x2 x3 x4 f hI hK
  obtain ⟨k, h1, h2, h3, rfl, rfl, rfl, rfl, rfl⟩ := hI
  refine step K k h1 h2 h3 (fun h4 h5 => hK _ _ _ _ _ ⟨k + 1, by omega, by omega, h5, rfl, rfl, rfl, rfl, rfl⟩ ?_)
  show N - (Int32.ofNat (k + 1)).toNatClampNeg < N - (Int32.ofNat k).toNatClampNeg
  rw [n_clamp (by omega), n_clamp (by omega)]
  omega
theorem icX7_giving_56_2 {K93 : Int32 → Int32 → Int32 → St → Prop} {Q : Int32 → St → Prop} (N k0 : Nat) (hN : N < 2147483648) (h0 : k0 ≤ N) (P : Nat → Prop) (p1 : Nat → Int32) (p3 : Nat → Int32) (p4 : Nat → Int32) (st : Nat → St) (hP : P k0) (step : ∀ (K56 : Int32 → Int32 → Int32 → Int32 → St → Prop) (k : Nat), k0 ≤ k → k ≤ N → P k → (k < N → P (k + 1) → K56 (p1 (k + 1)) (Int32.ofNat (k + 1)) (p3 (k + 1)) (p4 (k + 1)) (st (k + 1))) → wbX7_giving_56 K56 K93 Q (p1 k) (Int32.ofNat k) (p3 k) (p4 k) (st k)) : ∃ n : Nat, wlX7_giving_56 K93 Q n (p1 k0) (Int32.ofNat k0) (p3 k0) (p4 k0) (st k0) := by
  refine ilX7_giving_56 (fun x1 x2 x3 x4 f => ∃ k, k0 ≤ k ∧ k ≤ N ∧ P k ∧ x1 = p1 k ∧ x2 = Int32.ofNat k ∧ x3 = p3 k ∧ x4 = p4 k ∧ f = st k) (fun x1 x2 x3 x4 _ => N - x2.toNatClampNeg) ?_ _ _ _ _ _ ⟨k0, Nat.le_refl _, h0, hP, rfl, rfl, rfl, rfl, rfl⟩
  intro K x1 x2 x3 x4 f hI hK
  obtain ⟨k, h1, h2, h3, rfl, rfl, rfl, rfl, rfl⟩ := hI
  refine step K k h1 h2 h3 (fun h4 h5 => hK _ _ _ _ _ ⟨k + 1, by omega, by omega, h5, rfl, rfl, rfl, rfl, rfl⟩ ?_)
  show N - (Int32.ofNat (k + 1)).toNatClampNeg < N - (Int32.ofNat k).toNatClampNeg
  rw [n_clamp (by omega), n_clamp (by omega)]
  omega
theorem icX7_giving_56_3 {K93 : Int32 → Int32 → Int32 → St → Prop} {Q : Int32 → St → Prop} (N k0 : Nat) (hN : N < 2147483648) (h0 : k0 ≤ N) (P : Nat → Prop) (p1 : Nat → Int32) (p2 : Nat → Int32) (p4 : Nat → Int32) (st : Nat → St) (hP : P k0) (step : ∀ (K56 : Int32 → Int32 → Int32 → Int32 → St → Prop) (k : Nat), k0 ≤ k → k ≤ N → P k → (k < N → P (k + 1) → K56 (p1 (k + 1)) (p2 (k + 1)) (Int32.ofNat (k + 1)) (p4 (k + 1)) (st (k + 1))) → wbX7_giving_56 K56 K93 Q (p1 k) (p2 k) (Int32.ofNat k) (p4 k) (st k)) : ∃ n : Nat, wlX7_giving_56 K93 Q n (p1 k0) (p2 k0) (Int32.ofNat k0) (p4 k0) (st k0) := by
  refine ilX7_giving_56 (fun x1 x2 x3 x4 f => ∃ k, k0 ≤ k ∧ k ≤ N ∧ P k ∧ x1 = p1 k ∧ x2 = p2 k ∧ x3 = Int32.ofNat k ∧ x4 = p4 k ∧ f = st k) (fun x1 x2 x3 x4 _ => N - x3.toNatClampNeg) ?_ _ _ _ _ _ ⟨k0, Nat.le_refl _, h0, hP, rfl, rfl, rfl, rfl, rfl⟩
  intro K x1 x2 x3 x4 f hI hK
  obtain ⟨k, h1, h2, h3, rfl, rfl, rfl, rfl, rfl⟩ := hI
  refine step K k h1 h2 h3 (fun h4 h5 => hK _ _ _ _ _ ⟨k + 1, by omega, by omega, h5, rfl, rfl, rfl, rfl, rfl⟩ ?_)
  show N - (Int32.ofNat (k + 1)).toNatClampNeg < N - (Int32.ofNat k).toNatClampNeg
  rw [n_clamp (by omega), n_clamp (by omega)]
  omega
theorem icX7_giving_56_4 {K93 : Int32 → Int32 → Int32 → St → Prop} {Q : Int32 → St → Prop} (N k0 : Nat) (hN : N < 2147483648) (h0 : k0 ≤ N) (P : Nat → Prop) (p1 : Nat → Int32) (p2 : Nat → Int32) (p3 : Nat → Int32) (st : Nat → St) (hP : P k0) (step : ∀ (K56 : Int32 → Int32 → Int32 → Int32 → St → Prop) (k : Nat), k0 ≤ k → k ≤ N → P k → (k < N → P (k + 1) → K56 (p1 (k + 1)) (p2 (k + 1)) (p3 (k + 1)) (Int32.ofNat (k + 1)) (st (k + 1))) → wbX7_giving_56 K56 K93 Q (p1 k) (p2 k) (p3 k) (Int32.ofNat k) (st k)) : ∃ n : Nat, wlX7_giving_56 K93 Q n (p1 k0) (p2 k0) (p3 k0) (Int32.ofNat k0) (st k0) := by
  refine ilX7_giving_56 (fun x1 x2 x3 x4 f => ∃ k, k0 ≤ k ∧ k ≤ N ∧ P k ∧ x1 = p1 k ∧ x2 = p2 k ∧ x3 = p3 k ∧ x4 = Int32.ofNat k ∧ f = st k) (fun x1 x2 x3 x4 _ => N - x4.toNatClampNeg) ?_ _ _ _ _ _ ⟨k0, Nat.le_refl _, h0, hP, rfl, rfl, rfl, rfl, rfl⟩
  intro K x1 x2 x3 x4 f hI hK
  obtain ⟨k, h1, h2, h3, rfl, rfl, rfl, rfl, rfl⟩ := hI
  refine step K k h1 h2 h3 (fun h4 h5 => hK _ _ _ _ _ ⟨k + 1, by omega, by omega, h5, rfl, rfl, rfl, rfl, rfl⟩ ?_)
  show N - (Int32.ofNat (k + 1)).toNatClampNeg < N - (Int32.ofNat k).toNatClampNeg
  rw [n_clamp (by omega), n_clamp (by omega)]
  omega
theorem ilX7_giving_138 {K180 : St → Prop} {Q : Int32 → St → Prop} (Inv : Int32 → Int32 → St → Prop) (meas : Int32 → Int32 → St → Nat) (step : ∀ (K138 : Int32 → Int32 → St → Prop) (x2 : Int32) (x4 : Int32) (f : St), Inv x2 x4 f → (∀ (y2 : Int32) (y4 : Int32) (f' : St), Inv y2 y4 f' → meas y2 y4 f' < meas x2 x4 f → K138 y2 y4 f') → wbX7_giving_138 K138 K180 Q x2 x4 f) (x2 : Int32) (x4 : Int32) (f : St) (h : Inv x2 x4 f) : ∃ n : Nat, wlX7_giving_138 K180 Q n x2 x4 f := by
  have key : ∀ (n : Nat) (x2 : Int32) (x4 : Int32) (f : St), Inv x2 x4 f → meas x2 x4 f < n → wlX7_giving_138 K180 Q n x2 x4 f := by
    intro n
    induction n with
    | zero => intro x2 x4 f hI hm; exact absurd hm (Nat.not_lt_zero _)
    | succ n ih => intro x2 x4 f hI hm; exact step _ x2 x4 f hI (fun y2 y4 f' hI' hlt => ih y2 y4 f' hI' (Nat.lt_of_lt_of_le hlt (Nat.le_of_lt_succ hm)))
  exact ⟨_, key _ x2 x4 f h (Nat.lt_succ_self _)⟩
theorem icX7_giving_138_2 {K180 : St → Prop} {Q : Int32 → St → Prop} (N k0 : Nat) (hN : N < 2147483648) (h0 : k0 ≤ N) (P : Nat → Prop) (p4 : Nat → Int32) (st : Nat → St) (hP : P k0) (step : ∀ (K138 : Int32 → Int32 → St → Prop) (k : Nat), k0 ≤ k → k ≤ N → P k → (k < N → P (k + 1) → K138 (Int32.ofNat (k + 1)) (p4 (k + 1)) (st (k + 1))) → wbX7_giving_138 K138 K180 Q (Int32.ofNat k) (p4 k) (st k)) : ∃ n : Nat, wlX7_giving_138 K180 Q n (Int32.ofNat k0) (p4 k0) (st k0) := by
  refine ilX7_giving_138 (fun x2 x4 f => ∃ k, k0 ≤ k ∧ k ≤ N ∧ P k ∧ x2 = Int32.ofNat k ∧ x4 = p4 k ∧ f = st k) (fun x2 x4 _ => N - x2.toNatClampNeg) ?_ _ _ _ ⟨k0, Nat.le_refl _, h0, hP, rfl, rfl, rfl⟩
  intro K x2 x4 f hI hK
  obtain ⟨k, h1, h2, h3, rfl, rfl, rfl⟩ := hI
  refine step K k h1 h2 h3 (fun h4 h5 => hK _ _ _ ⟨k + 1, by omega, by omega, h5, rfl, rfl, rfl⟩ ?_)
  show N - (Int32.ofNat (k + 1)).toNatClampNeg < N - (Int32.ofNat k).toNatClampNeg
  rw [n_clamp (by omega), n_clamp (by omega)]
  omega
theorem icX7_giving_138_4 {K180 : St → Prop} {Q : Int32 → St → Prop} (N k0 : Nat) (hN : N < 2147483648) (h0 : k0 ≤ N) (P : Nat → Prop) (p2 : Nat → Int32) (st : Nat → St) (hP : P k0) (step : ∀ (K138 : Int32 → Int32 → St → Prop) (k : Nat), k0 ≤ k → k ≤ N → P k → (k < N → P (k + 1) → K138 (p2 (k + 1)) (Int32.ofNat (k + 1)) (st (k + 1))) → wbX7_giving_138 K138 K180 Q (p2 k) (Int32.ofNat k) (st k)) : ∃ n : Nat, wlX7_giving_138 K180 Q n (p2 k0) (Int32.ofNat k0) (st k0) := by
  refine ilX7_giving_138 (fun x2 x4 f => ∃ k, k0 ≤ k ∧ k ≤ N ∧ P k ∧ x2 = p2 k ∧ x4 = Int32.ofNat k ∧ f = st k) (fun x2 x4 _ => N - x4.toNatClampNeg) ?_ _ _ _ ⟨k0, Nat.le_refl _, h0, hP, rfl, rfl, rfl⟩
  intro K x2 x4 f hI hK
  obtain ⟨k, h1, h2, h3, rfl, rfl, rfl⟩ := hI
  refine step K k h1 h2 h3 (fun h4 h5 => hK _ _ _ ⟨k + 1, by omega, by omega, h5, rfl, rfl, rfl⟩ ?_)
  show N - (Int32.ofNat (k + 1)).toNatClampNeg < N - (Int32.ofNat k).toNatClampNeg
  rw [n_clamp (by omega), n_clamp (by omega)]
  omega
theorem ilX7_market_12  {Q : Int32 → St → Prop} (Inv : Int32 → Int32 → Int32 → Int32 → St → Prop) (meas : Int32 → Int32 → Int32 → Int32 → St → Nat) (step : ∀ (K12 : Int32 → Int32 → Int32 → Int32 → St → Prop) (x1 : Int32) (x3 : Int32) (x4 : Int32) (x5 : Int32) (f : St), Inv x1 x3 x4 x5 f → (∀ (y1 : Int32) (y3 : Int32) (y4 : Int32) (y5 : Int32) (f' : St), Inv y1 y3 y4 y5 f' → meas y1 y3 y4 y5 f' < meas x1 x3 x4 x5 f → K12 y1 y3 y4 y5 f') → wbX7_market_12 K12 Q x1 x3 x4 x5 f) (x1 : Int32) (x3 : Int32) (x4 : Int32) (x5 : Int32) (f : St) (h : Inv x1 x3 x4 x5 f) : ∃ n : Nat, wlX7_market_12  Q n x1 x3 x4 x5 f := by
  have key : ∀ (n : Nat) (x1 : Int32) (x3 : Int32) (x4 : Int32) (x5 : Int32) (f : St), Inv x1 x3 x4 x5 f → meas x1 x3 x4 x5 f < n → wlX7_market_12  Q n x1 x3 x4 x5 f := by
    intro n
    induction n with
    | zero => intro x1 x3 x4 x5 f hI hm; exact absurd hm (Nat.not_lt_zero _)
    | succ n ih => intro x1 x3 x4 x5 f hI hm; exact step _ x1 x3 x4 x5 f hI (fun y1 y3 y4 y5 f' hI' hlt => ih y1 y3 y4 y5 f' hI' (Nat.lt_of_lt_of_le hlt (Nat.le_of_lt_succ hm)))
  exact ⟨_, key _ x1 x3 x4 x5 f h (Nat.lt_succ_self _)⟩
theorem icX7_market_12_1  {Q : Int32 → St → Prop} (N k0 : Nat) (hN : N < 2147483648) (h0 : k0 ≤ N) (P : Nat → Prop) (p3 : Nat → Int32) (p4 : Nat → Int32) (p5 : Nat → Int32) (st : Nat → St) (hP : P k0) (step : ∀ (K12 : Int32 → Int32 → Int32 → Int32 → St → Prop) (k : Nat), k0 ≤ k → k ≤ N → P k → (k < N → P (k + 1) → K12 (Int32.ofNat (k + 1)) (p3 (k + 1)) (p4 (k + 1)) (p5 (k + 1)) (st (k + 1))) → wbX7_market_12 K12 Q (Int32.ofNat k) (p3 k) (p4 k) (p5 k) (st k)) : ∃ n : Nat, wlX7_market_12  Q n (Int32.ofNat k0) (p3 k0) (p4 k0) (p5 k0) (st k0) := by
  refine ilX7_market_12 (fun x1 x3 x4 x5 f => ∃ k, k0 ≤ k ∧ k ≤ N ∧ P k ∧ x1 = Int32.ofNat k ∧ x3 = p3 k ∧ x4 = p4 k ∧ x5 = p5 k ∧ f = st k) (fun x1 x3 x4 x5 _ => N - x1.toNatClampNeg) ?_ _ _ _ _ _ ⟨k0, Nat.le_refl _, h0, hP, rfl, rfl, rfl, rfl, rfl⟩
  intro K x1 x3 x4 x5 f hI hK
  obtain ⟨k, h1, h2, h3, rfl, rfl, rfl, rfl, rfl⟩ := hI
  refine step K k h1 h2 h3 (fun h4 h5 => hK _ _ _ _ _ ⟨k + 1, by omega, by omega, h5, rfl, rfl, rfl, rfl, rfl⟩ ?_)
  show N - (Int32.ofNat (k + 1)).toNatClampNeg < N - (Int32.ofNat k).toNatClampNeg
  rw [n_clamp (by omega), n_clamp (by omega)]
  omega
theorem icX7_market_12_3  {Q : Int32 → St → Prop} (N k0 : Nat) (hN : N < 2147483648) (h0 : k0 ≤ N) (P : Nat → Prop) (p1 : Nat → Int32) (p4 : Nat → Int32) (p5 : Nat → Int32) (st : Nat → St) (hP : P k0) (step : ∀ (K12 : Int32 → Int32 → Int32 → Int32 → St → Prop) (k : Nat), k0 ≤ k → k ≤ N → P k → (k < N → P (k + 1) → K12 (p1 (k + 1)) (Int32.ofNat (k + 1)) (p4 (k + 1)) (p5 (k + 1)) (st (k + 1))) → wbX7_market_12 K12 Q (p1 k) (Int32.ofNat k) (p4 k) (p5 k) (st k)) : ∃ n : Nat, wlX7_market_12  Q n (p1 k0) (Int32.ofNat k0) (p4 k0) (p5 k0) (st k0) := by
  refine ilX7_market_12 (fun x1 x3 x4 x5 f => ∃ k, k0 ≤ k ∧ k ≤ N ∧ P k ∧ x1 = p1 k ∧ x3 = Int32.ofNat k ∧ x4 = p4 k ∧ x5 = p5 k ∧ f = st k) (fun x1 x3 x4 x5 _ => N - x3.toNatClampNeg) ?_ _ _ _ _ _ ⟨k0, Nat.le_refl _, h0, hP, rfl, rfl, rfl, rfl, rfl⟩
  intro K x1 x3 x4 x5 f hI hK
  obtain ⟨k, h1, h2, h3, rfl, rfl, rfl, rfl, rfl⟩ := hI
  refine step K k h1 h2 h3 (fun h4 h5 => hK _ _ _ _ _ ⟨k + 1, by omega, by omega, h5, rfl, rfl, rfl, rfl, rfl⟩ ?_)
  show N - (Int32.ofNat (k + 1)).toNatClampNeg < N - (Int32.ofNat k).toNatClampNeg
  rw [n_clamp (by omega), n_clamp (by omega)]
  omega
theorem icX7_market_12_4  {Q : Int32 → St → Prop} (N k0 : Nat) (hN : N < 2147483648) (h0 : k0 ≤ N) (P : Nat → Prop) (p1 : Nat → Int32) (p3 : Nat → Int32) (p5 : Nat → Int32) (st : Nat → St) (hP : P k0) (step : ∀ (K12 : Int32 → Int32 → Int32 → Int32 → St → Prop) (k : Nat), k0 ≤ k → k ≤ N → P k → (k < N → P (k + 1) → K12 (p1 (k + 1)) (p3 (k + 1)) (Int32.ofNat (k + 1)) (p5 (k + 1)) (st (k + 1))) → wbX7_market_12 K12 Q (p1 k) (p3 k) (Int32.ofNat k) (p5 k) (st k)) : ∃ n : Nat, wlX7_market_12  Q n (p1 k0) (p3 k0) (Int32.ofNat k0) (p5 k0) (st k0) := by
  refine ilX7_market_12 (fun x1 x3 x4 x5 f => ∃ k, k0 ≤ k ∧ k ≤ N ∧ P k ∧ x1 = p1 k ∧ x3 = p3 k ∧ x4 = Int32.ofNat k ∧ x5 = p5 k ∧ f = st k) (fun x1 x3 x4 x5 _ => N - x4.toNatClampNeg) ?_ _ _ _ _ _ ⟨k0, Nat.le_refl _, h0, hP, rfl, rfl, rfl, rfl, rfl⟩
  intro K x1 x3 x4 x5 f hI hK
  obtain ⟨k, h1, h2, h3, rfl, rfl, rfl, rfl, rfl⟩ := hI
  refine step K k h1 h2 h3 (fun h4 h5 => hK _ _ _ _ _ ⟨k + 1, by omega, by omega, h5, rfl, rfl, rfl, rfl, rfl⟩ ?_)
  show N - (Int32.ofNat (k + 1)).toNatClampNeg < N - (Int32.ofNat k).toNatClampNeg
  rw [n_clamp (by omega), n_clamp (by omega)]
  omega
theorem icX7_market_12_5  {Q : Int32 → St → Prop} (N k0 : Nat) (hN : N < 2147483648) (h0 : k0 ≤ N) (P : Nat → Prop) (p1 : Nat → Int32) (p3 : Nat → Int32) (p4 : Nat → Int32) (st : Nat → St) (hP : P k0) (step : ∀ (K12 : Int32 → Int32 → Int32 → Int32 → St → Prop) (k : Nat), k0 ≤ k → k ≤ N → P k → (k < N → P (k + 1) → K12 (p1 (k + 1)) (p3 (k + 1)) (p4 (k + 1)) (Int32.ofNat (k + 1)) (st (k + 1))) → wbX7_market_12 K12 Q (p1 k) (p3 k) (p4 k) (Int32.ofNat k) (st k)) : ∃ n : Nat, wlX7_market_12  Q n (p1 k0) (p3 k0) (p4 k0) (Int32.ofNat k0) (st k0) := by
  refine ilX7_market_12 (fun x1 x3 x4 x5 f => ∃ k, k0 ≤ k ∧ k ≤ N ∧ P k ∧ x1 = p1 k ∧ x3 = p3 k ∧ x4 = p4 k ∧ x5 = Int32.ofNat k ∧ f = st k) (fun x1 x3 x4 x5 _ => N - x5.toNatClampNeg) ?_ _ _ _ _ _ ⟨k0, Nat.le_refl _, h0, hP, rfl, rfl, rfl, rfl, rfl⟩
  intro K x1 x3 x4 x5 f hI hK
  obtain ⟨k, h1, h2, h3, rfl, rfl, rfl, rfl, rfl⟩ := hI
  refine step K k h1 h2 h3 (fun h4 h5 => hK _ _ _ _ _ ⟨k + 1, by omega, by omega, h5, rfl, rfl, rfl, rfl, rfl⟩ ?_)
  show N - (Int32.ofNat (k + 1)).toNatClampNeg < N - (Int32.ofNat k).toNatClampNeg
  rw [n_clamp (by omega), n_clamp (by omega)]
  omega
theorem ilX7_looks_18 {K79 : Int32 → St → Prop} {Q : St → Prop} (Inv : Int32 → Int32 → St → Prop) (meas : Int32 → Int32 → St → Nat) (step : ∀ (K18 : Int32 → Int32 → St → Prop) (x1 : Int32) (x2 : Int32) (f : St), Inv x1 x2 f → (∀ (y1 : Int32) (y2 : Int32) (f' : St), Inv y1 y2 f' → meas y1 y2 f' < meas x1 x2 f → K18 y1 y2 f') → wbX7_looks_18 K18 K79 Q x1 x2 f) (x1 : Int32) (x2 : Int32) (f : St) (h : Inv x1 x2 f) : ∃ n : Nat, wlX7_looks_18 K79 Q n x1 x2 f := by
  have key : ∀ (n : Nat) (x1 : Int32) (x2 : Int32) (f : St), Inv x1 x2 f → meas x1 x2 f < n → wlX7_looks_18 K79 Q n x1 x2 f := by
    intro n
    induction n with
    | zero => intro x1 x2 f hI hm; exact absurd hm (Nat.not_lt_zero _)
    | succ n ih => intro x1 x2 f hI hm; exact step _ x1 x2 f hI (fun y1 y2 f' hI' hlt => ih y1 y2 f' hI' (Nat.lt_of_lt_of_le hlt (Nat.le_of_lt_succ hm)))
  exact ⟨_, key _ x1 x2 f h (Nat.lt_succ_self _)⟩
theorem icX7_looks_18_1 {K79 : Int32 → St → Prop} {Q : St → Prop} (N k0 : Nat) (hN : N < 2147483648) (h0 : k0 ≤ N) (P : Nat → Prop) (p2 : Nat → Int32) (st : Nat → St) (hP : P k0) (step : ∀ (K18 : Int32 → Int32 → St → Prop) (k : Nat), k0 ≤ k → k ≤ N → P k → (k < N → P (k + 1) → K18 (Int32.ofNat (k + 1)) (p2 (k + 1)) (st (k + 1))) → wbX7_looks_18 K18 K79 Q (Int32.ofNat k) (p2 k) (st k)) : ∃ n : Nat, wlX7_looks_18 K79 Q n (Int32.ofNat k0) (p2 k0) (st k0) := by
  refine ilX7_looks_18 (fun x1 x2 f => ∃ k, k0 ≤ k ∧ k ≤ N ∧ P k ∧ x1 = Int32.ofNat k ∧ x2 = p2 k ∧ f = st k) (fun x1 x2 _ => N - x1.toNatClampNeg) ?_ _ _ _ ⟨k0, Nat.le_refl _, h0, hP, rfl, rfl, rfl⟩
  intro K x1 x2 f hI hK
  obtain ⟨k, h1, h2, h3, rfl, rfl, rfl⟩ := hI
  refine step K k h1 h2 h3 (fun h4 h5 => hK _ _ _ ⟨k + 1, by omega, by omega, h5, rfl, rfl, rfl⟩ ?_)
  show N - (Int32.ofNat (k + 1)).toNatClampNeg < N - (Int32.ofNat k).toNatClampNeg
  rw [n_clamp (by omega), n_clamp (by omega)]
  omega
theorem icX7_looks_18_2 {K79 : Int32 → St → Prop} {Q : St → Prop} (N k0 : Nat) (hN : N < 2147483648) (h0 : k0 ≤ N) (P : Nat → Prop) (p1 : Nat → Int32) (st : Nat → St) (hP : P k0) (step : ∀ (K18 : Int32 → Int32 → St → Prop) (k : Nat), k0 ≤ k → k ≤ N → P k → (k < N → P (k + 1) → K18 (p1 (k + 1)) (Int32.ofNat (k + 1)) (st (k + 1))) → wbX7_looks_18 K18 K79 Q (p1 k) (Int32.ofNat k) (st k)) : ∃ n : Nat, wlX7_looks_18 K79 Q n (p1 k0) (Int32.ofNat k0) (st k0) := by
  refine ilX7_looks_18 (fun x1 x2 f => ∃ k, k0 ≤ k ∧ k ≤ N ∧ P k ∧ x1 = p1 k ∧ x2 = Int32.ofNat k ∧ f = st k) (fun x1 x2 _ => N - x2.toNatClampNeg) ?_ _ _ _ ⟨k0, Nat.le_refl _, h0, hP, rfl, rfl, rfl⟩
  intro K x1 x2 f hI hK
  obtain ⟨k, h1, h2, h3, rfl, rfl, rfl⟩ := hI
  refine step K k h1 h2 h3 (fun h4 h5 => hK _ _ _ ⟨k + 1, by omega, by omega, h5, rfl, rfl, rfl⟩ ?_)
  show N - (Int32.ofNat (k + 1)).toNatClampNeg < N - (Int32.ofNat k).toNatClampNeg
  rw [n_clamp (by omega), n_clamp (by omega)]
  omega
theorem ilX7_looks_6  {Q : St → Prop} (Inv : Int32 → St → Prop) (meas : Int32 → St → Nat) (step : ∀ (K6 : Int32 → St → Prop) (x1 : Int32) (f : St), Inv x1 f → (∀ (y1 : Int32) (f' : St), Inv y1 f' → meas y1 f' < meas x1 f → K6 y1 f') → wbX7_looks_6 K6 Q x1 f) (x1 : Int32) (f : St) (h : Inv x1 f) : ∃ n : Nat, wlX7_looks_6  Q n x1 f := by
  have key : ∀ (n : Nat) (x1 : Int32) (f : St), Inv x1 f → meas x1 f < n → wlX7_looks_6  Q n x1 f := by
    intro n
    induction n with
    | zero => intro x1 f hI hm; exact absurd hm (Nat.not_lt_zero _)
    | succ n ih => intro x1 f hI hm; exact step _ x1 f hI (fun y1 f' hI' hlt => ih y1 f' hI' (Nat.lt_of_lt_of_le hlt (Nat.le_of_lt_succ hm)))
  exact ⟨_, key _ x1 f h (Nat.lt_succ_self _)⟩
theorem icX7_looks_6_1  {Q : St → Prop} (N k0 : Nat) (hN : N < 2147483648) (h0 : k0 ≤ N) (P : Nat → Prop)  (st : Nat → St) (hP : P k0) (step : ∀ (K6 : Int32 → St → Prop) (k : Nat), k0 ≤ k → k ≤ N → P k → (k < N → P (k + 1) → K6 (Int32.ofNat (k + 1)) (st (k + 1))) → wbX7_looks_6 K6 Q (Int32.ofNat k) (st k)) : ∃ n : Nat, wlX7_looks_6  Q n (Int32.ofNat k0) (st k0) := by
  refine ilX7_looks_6 (fun x1 f => ∃ k, k0 ≤ k ∧ k ≤ N ∧ P k ∧ x1 = Int32.ofNat k ∧ f = st k) (fun x1 _ => N - x1.toNatClampNeg) ?_ _ _ ⟨k0, Nat.le_refl _, h0, hP, rfl, rfl⟩
  intro K x1 f hI hK
  obtain ⟨k, h1, h2, h3, rfl, rfl⟩ := hI
  refine step K k h1 h2 h3 (fun h4 h5 => hK _ _ ⟨k + 1, by omega, by omega, h5, rfl, rfl⟩ ?_)
  show N - (Int32.ofNat (k + 1)).toNatClampNeg < N - (Int32.ofNat k).toNatClampNeg
  rw [n_clamp (by omega), n_clamp (by omega)]
  omega
theorem ilX7_laysNow_2  {Q : St → Prop} (Inv : Int32 → Int32 → Int32 → St → Prop) (meas : Int32 → Int32 → Int32 → St → Nat) (step : ∀ (K2 : Int32 → Int32 → Int32 → St → Prop) (x1 : Int32) (x2 : Int32) (x3 : Int32) (f : St), Inv x1 x2 x3 f → (∀ (y1 : Int32) (y2 : Int32) (y3 : Int32) (f' : St), Inv y1 y2 y3 f' → meas y1 y2 y3 f' < meas x1 x2 x3 f → K2 y1 y2 y3 f') → wbX7_laysNow_2 K2 Q x1 x2 x3 f) (x1 : Int32) (x2 : Int32) (x3 : Int32) (f : St) (h : Inv x1 x2 x3 f) : ∃ n : Nat, wlX7_laysNow_2  Q n x1 x2 x3 f := by
  have key : ∀ (n : Nat) (x1 : Int32) (x2 : Int32) (x3 : Int32) (f : St), Inv x1 x2 x3 f → meas x1 x2 x3 f < n → wlX7_laysNow_2  Q n x1 x2 x3 f := by
    intro n
    induction n with
    | zero => intro x1 x2 x3 f hI hm; exact absurd hm (Nat.not_lt_zero _)
    | succ n ih => intro x1 x2 x3 f hI hm; exact step _ x1 x2 x3 f hI (fun y1 y2 y3 f' hI' hlt => ih y1 y2 y3 f' hI' (Nat.lt_of_lt_of_le hlt (Nat.le_of_lt_succ hm)))
  exact ⟨_, key _ x1 x2 x3 f h (Nat.lt_succ_self _)⟩
theorem icX7_laysNow_2_1  {Q : St → Prop} (N k0 : Nat) (hN : N < 2147483648) (h0 : k0 ≤ N) (P : Nat → Prop) (p2 : Nat → Int32) (p3 : Nat → Int32) (st : Nat → St) (hP : P k0) (step : ∀ (K2 : Int32 → Int32 → Int32 → St → Prop) (k : Nat), k0 ≤ k → k ≤ N → P k → (k < N → P (k + 1) → K2 (Int32.ofNat (k + 1)) (p2 (k + 1)) (p3 (k + 1)) (st (k + 1))) → wbX7_laysNow_2 K2 Q (Int32.ofNat k) (p2 k) (p3 k) (st k)) : ∃ n : Nat, wlX7_laysNow_2  Q n (Int32.ofNat k0) (p2 k0) (p3 k0) (st k0) := by
  refine ilX7_laysNow_2 (fun x1 x2 x3 f => ∃ k, k0 ≤ k ∧ k ≤ N ∧ P k ∧ x1 = Int32.ofNat k ∧ x2 = p2 k ∧ x3 = p3 k ∧ f = st k) (fun x1 x2 x3 _ => N - x1.toNatClampNeg) ?_ _ _ _ _ ⟨k0, Nat.le_refl _, h0, hP, rfl, rfl, rfl, rfl⟩
  intro K x1 x2 x3 f hI hK
  obtain ⟨k, h1, h2, h3, rfl, rfl, rfl, rfl⟩ := hI
  refine step K k h1 h2 h3 (fun h4 h5 => hK _ _ _ _ ⟨k + 1, by omega, by omega, h5, rfl, rfl, rfl, rfl⟩ ?_)
  show N - (Int32.ofNat (k + 1)).toNatClampNeg < N - (Int32.ofNat k).toNatClampNeg
  rw [n_clamp (by omega), n_clamp (by omega)]
  omega
theorem icX7_laysNow_2_2  {Q : St → Prop} (N k0 : Nat) (hN : N < 2147483648) (h0 : k0 ≤ N) (P : Nat → Prop) (p1 : Nat → Int32) (p3 : Nat → Int32) (st : Nat → St) (hP : P k0) (step : ∀ (K2 : Int32 → Int32 → Int32 → St → Prop) (k : Nat), k0 ≤ k → k ≤ N → P k → (k < N → P (k + 1) → K2 (p1 (k + 1)) (Int32.ofNat (k + 1)) (p3 (k + 1)) (st (k + 1))) → wbX7_laysNow_2 K2 Q (p1 k) (Int32.ofNat k) (p3 k) (st k)) : ∃ n : Nat, wlX7_laysNow_2  Q n (p1 k0) (Int32.ofNat k0) (p3 k0) (st k0) := by
  refine ilX7_laysNow_2 (fun x1 x2 x3 f => ∃ k, k0 ≤ k ∧ k ≤ N ∧ P k ∧ x1 = p1 k ∧ x2 = Int32.ofNat k ∧ x3 = p3 k ∧ f = st k) (fun x1 x2 x3 _ => N - x2.toNatClampNeg) ?_ _ _ _ _ ⟨k0, Nat.le_refl _, h0, hP, rfl, rfl, rfl, rfl⟩
  intro K x1 x2 x3 f hI hK
  obtain ⟨k, h1, h2, h3, rfl, rfl, rfl, rfl⟩ := hI
  refine step K k h1 h2 h3 (fun h4 h5 => hK _ _ _ _ ⟨k + 1, by omega, by omega, h5, rfl, rfl, rfl, rfl⟩ ?_)
  show N - (Int32.ofNat (k + 1)).toNatClampNeg < N - (Int32.ofNat k).toNatClampNeg
  rw [n_clamp (by omega), n_clamp (by omega)]
  omega
theorem icX7_laysNow_2_3  {Q : St → Prop} (N k0 : Nat) (hN : N < 2147483648) (h0 : k0 ≤ N) (P : Nat → Prop) (p1 : Nat → Int32) (p2 : Nat → Int32) (st : Nat → St) (hP : P k0) (step : ∀ (K2 : Int32 → Int32 → Int32 → St → Prop) (k : Nat), k0 ≤ k → k ≤ N → P k → (k < N → P (k + 1) → K2 (p1 (k + 1)) (p2 (k + 1)) (Int32.ofNat (k + 1)) (st (k + 1))) → wbX7_laysNow_2 K2 Q (p1 k) (p2 k) (Int32.ofNat k) (st k)) : ∃ n : Nat, wlX7_laysNow_2  Q n (p1 k0) (p2 k0) (Int32.ofNat k0) (st k0) := by
  refine ilX7_laysNow_2 (fun x1 x2 x3 f => ∃ k, k0 ≤ k ∧ k ≤ N ∧ P k ∧ x1 = p1 k ∧ x2 = p2 k ∧ x3 = Int32.ofNat k ∧ f = st k) (fun x1 x2 x3 _ => N - x3.toNatClampNeg) ?_ _ _ _ _ ⟨k0, Nat.le_refl _, h0, hP, rfl, rfl, rfl, rfl⟩
  intro K x1 x2 x3 f hI hK
  obtain ⟨k, h1, h2, h3, rfl, rfl, rfl, rfl⟩ := hI
  refine step K k h1 h2 h3 (fun h4 h5 => hK _ _ _ _ ⟨k + 1, by omega, by omega, h5, rfl, rfl, rfl, rfl⟩ ?_)
  show N - (Int32.ofNat (k + 1)).toNatClampNeg < N - (Int32.ofNat k).toNatClampNeg
  rw [n_clamp (by omega), n_clamp (by omega)]
  omega
theorem ilX7_follows_2  {Q : Int32 → St → Prop} (Inv : Int32 → Int32 → Int32 → St → Prop) (meas : Int32 → Int32 → Int32 → St → Nat) (step : ∀ (K2 : Int32 → Int32 → Int32 → St → Prop) (x1 : Int32) (x2 : Int32) (x3 : Int32) (f : St), Inv x1 x2 x3 f → (∀ (y1 : Int32) (y2 : Int32) (y3 : Int32) (f' : St), Inv y1 y2 y3 f' → meas y1 y2 y3 f' < meas x1 x2 x3 f → K2 y1 y2 y3 f') → wbX7_follows_2 K2 Q x1 x2 x3 f) (x1 : Int32) (x2 : Int32) (x3 : Int32) (f : St) (h : Inv x1 x2 x3 f) : ∃ n : Nat, wlX7_follows_2  Q n x1 x2 x3 f := by
  have key : ∀ (n : Nat) (x1 : Int32) (x2 : Int32) (x3 : Int32) (f : St), Inv x1 x2 x3 f → meas x1 x2 x3 f < n → wlX7_follows_2  Q n x1 x2 x3 f := by
    intro n
    induction n with
    | zero => intro x1 x2 x3 f hI hm; exact absurd hm (Nat.not_lt_zero _)
    | succ n ih => intro x1 x2 x3 f hI hm; exact step _ x1 x2 x3 f hI (fun y1 y2 y3 f' hI' hlt => ih y1 y2 y3 f' hI' (Nat.lt_of_lt_of_le hlt (Nat.le_of_lt_succ hm)))
  exact ⟨_, key _ x1 x2 x3 f h (Nat.lt_succ_self _)⟩
theorem icX7_follows_2_1  {Q : Int32 → St → Prop} (N k0 : Nat) (hN : N < 2147483648) (h0 : k0 ≤ N) (P : Nat → Prop) (p2 : Nat → Int32) (p3 : Nat → Int32) (st : Nat → St) (hP : P k0) (step : ∀ (K2 : Int32 → Int32 → Int32 → St → Prop) (k : Nat), k0 ≤ k → k ≤ N → P k → (k < N → P (k + 1) → K2 (Int32.ofNat (k + 1)) (p2 (k + 1)) (p3 (k + 1)) (st (k + 1))) → wbX7_follows_2 K2 Q (Int32.ofNat k) (p2 k) (p3 k) (st k)) : ∃ n : Nat, wlX7_follows_2  Q n (Int32.ofNat k0) (p2 k0) (p3 k0) (st k0) := by
  refine ilX7_follows_2 (fun x1 x2 x3 f => ∃ k, k0 ≤ k ∧ k ≤ N ∧ P k ∧ x1 = Int32.ofNat k ∧ x2 = p2 k ∧ x3 = p3 k ∧ f = st k) (fun x1 x2 x3 _ => N - x1.toNatClampNeg) ?_ _ _ _ _ ⟨k0, Nat.le_refl _, h0, hP, rfl, rfl, rfl, rfl⟩
  intro K x1 x2 x3 f hI hK
  obtain ⟨k, h1, h2, h3, rfl, rfl, rfl, rfl⟩ := hI
  refine step K k h1 h2 h3 (fun h4 h5 => hK _ _ _ _ ⟨k + 1, by omega, by omega, h5, rfl, rfl, rfl, rfl⟩ ?_)
  show N - (Int32.ofNat (k + 1)).toNatClampNeg < N - (Int32.ofNat k).toNatClampNeg
  rw [n_clamp (by omega), n_clamp (by omega)]
  omega
theorem icX7_follows_2_2  {Q : Int32 → St → Prop} (N k0 : Nat) (hN : N < 2147483648) (h0 : k0 ≤ N) (P : Nat → Prop) (p1 : Nat → Int32) (p3 : Nat → Int32) (st : Nat → St) (hP : P k0) (step : ∀ (K2 : Int32 → Int32 → Int32 → St → Prop) (k : Nat), k0 ≤ k → k ≤ N → P k → (k < N → P (k + 1) → K2 (p1 (k + 1)) (Int32.ofNat (k + 1)) (p3 (k + 1)) (st (k + 1))) → wbX7_follows_2 K2 Q (p1 k) (Int32.ofNat k) (p3 k) (st k)) : ∃ n : Nat, wlX7_follows_2  Q n (p1 k0) (Int32.ofNat k0) (p3 k0) (st k0) := by
  refine ilX7_follows_2 (fun x1 x2 x3 f => ∃ k, k0 ≤ k ∧ k ≤ N ∧ P k ∧ x1 = p1 k ∧ x2 = Int32.ofNat k ∧ x3 = p3 k ∧ f = st k) (fun x1 x2 x3 _ => N - x2.toNatClampNeg) ?_ _ _ _ _ ⟨k0, Nat.le_refl _, h0, hP, rfl, rfl, rfl, rfl⟩
  intro K x1 x2 x3 f hI hK
  obtain ⟨k, h1, h2, h3, rfl, rfl, rfl, rfl⟩ := hI
  refine step K k h1 h2 h3 (fun h4 h5 => hK _ _ _ _ ⟨k + 1, by omega, by omega, h5, rfl, rfl, rfl, rfl⟩ ?_)
  show N - (Int32.ofNat (k + 1)).toNatClampNeg < N - (Int32.ofNat k).toNatClampNeg
  rw [n_clamp (by omega), n_clamp (by omega)]
  omega
theorem icX7_follows_2_3  {Q : Int32 → St → Prop} (N k0 : Nat) (hN : N < 2147483648) (h0 : k0 ≤ N) (P : Nat → Prop) (p1 : Nat → Int32) (p2 : Nat → Int32) (st : Nat → St) (hP : P k0) (step : ∀ (K2 : Int32 → Int32 → Int32 → St → Prop) (k : Nat), k0 ≤ k → k ≤ N → P k → (k < N → P (k + 1) → K2 (p1 (k + 1)) (p2 (k + 1)) (Int32.ofNat (k + 1)) (st (k + 1))) → wbX7_follows_2 K2 Q (p1 k) (p2 k) (Int32.ofNat k) (st k)) : ∃ n : Nat, wlX7_follows_2  Q n (p1 k0) (p2 k0) (Int32.ofNat k0) (st k0) := by
  refine ilX7_follows_2 (fun x1 x2 x3 f => ∃ k, k0 ≤ k ∧ k ≤ N ∧ P k ∧ x1 = p1 k ∧ x2 = p2 k ∧ x3 = Int32.ofNat k ∧ f = st k) (fun x1 x2 x3 _ => N - x3.toNatClampNeg) ?_ _ _ _ _ ⟨k0, Nat.le_refl _, h0, hP, rfl, rfl, rfl, rfl⟩
  intro K x1 x2 x3 f hI hK
  obtain ⟨k, h1, h2, h3, rfl, rfl, rfl, rfl⟩ := hI
  refine step K k h1 h2 h3 (fun h4 h5 => hK _ _ _ _ ⟨k + 1, by omega, by omega, h5, rfl, rfl, rfl, rfl⟩ ?_)
  show N - (Int32.ofNat (k + 1)).toNatClampNeg < N - (Int32.ofNat k).toNatClampNeg
  rw [n_clamp (by omega), n_clamp (by omega)]
  omega
theorem ilX7_firstBar_12 {K42 : Int32 → St → Prop} {Q : Int32 → St → Prop} (Inv : Int32 → Int32 → St → Prop) (meas : Int32 → Int32 → St → Nat) (step : ∀ (K12 : Int32 → Int32 → St → Prop) (x1 : Int32) (x2 : Int32) (f : St), Inv x1 x2 f → (∀ (y1 : Int32) (y2 : Int32) (f' : St), Inv y1 y2 f' → meas y1 y2 f' < meas x1 x2 f → K12 y1 y2 f') → wbX7_firstBar_12 K12 K42 Q x1 x2 f) (x1 : Int32) (x2 : Int32) (f : St) (h : Inv x1 x2 f) : ∃ n : Nat, wlX7_firstBar_12 K42 Q n x1 x2 f := by
  have key : ∀ (n : Nat) (x1 : Int32) (x2 : Int32) (f : St), Inv x1 x2 f → meas x1 x2 f < n → wlX7_firstBar_12 K42 Q n x1 x2 f := by
    intro n
    induction n with
    | zero => intro x1 x2 f hI hm; exact absurd hm (Nat.not_lt_zero _)
    | succ n ih => intro x1 x2 f hI hm; exact step _ x1 x2 f hI (fun y1 y2 f' hI' hlt => ih y1 y2 f' hI' (Nat.lt_of_lt_of_le hlt (Nat.le_of_lt_succ hm)))
  exact ⟨_, key _ x1 x2 f h (Nat.lt_succ_self _)⟩
theorem icX7_firstBar_12_1 {K42 : Int32 → St → Prop} {Q : Int32 → St → Prop} (N k0 : Nat) (hN : N < 2147483648) (h0 : k0 ≤ N) (P : Nat → Prop) (p2 : Nat → Int32) (st : Nat → St) (hP : P k0) (step : ∀ (K12 : Int32 → Int32 → St → Prop) (k : Nat), k0 ≤ k → k ≤ N → P k → (k < N → P (k + 1) → K12 (Int32.ofNat (k + 1)) (p2 (k + 1)) (st (k + 1))) → wbX7_firstBar_12 K12 K42 Q (Int32.ofNat k) (p2 k) (st k)) : ∃ n : Nat, wlX7_firstBar_12 K42 Q n (Int32.ofNat k0) (p2 k0) (st k0) := by
  refine ilX7_firstBar_12 (fun x1 x2 f => ∃ k, k0 ≤ k ∧ k ≤ N ∧ P k ∧ x1 = Int32.ofNat k ∧ x2 = p2 k ∧ f = st k) (fun x1 x2 _ => N - x1.toNatClampNeg) ?_ _ _ _ ⟨k0, Nat.le_refl _, h0, hP, rfl, rfl, rfl⟩
  intro K x1 x2 f hI hK
  obtain ⟨k, h1, h2, h3, rfl, rfl, rfl⟩ := hI
  refine step K k h1 h2 h3 (fun h4 h5 => hK _ _ _ ⟨k + 1, by omega, by omega, h5, rfl, rfl, rfl⟩ ?_)
  show N - (Int32.ofNat (k + 1)).toNatClampNeg < N - (Int32.ofNat k).toNatClampNeg
  rw [n_clamp (by omega), n_clamp (by omega)]
  omega
theorem icX7_firstBar_12_2 {K42 : Int32 → St → Prop} {Q : Int32 → St → Prop} (N k0 : Nat) (hN : N < 2147483648) (h0 : k0 ≤ N) (P : Nat → Prop) (p1 : Nat → Int32) (st : Nat → St) (hP : P k0) (step : ∀ (K12 : Int32 → Int32 → St → Prop) (k : Nat), k0 ≤ k → k ≤ N → P k → (k < N → P (k + 1) → K12 (p1 (k + 1)) (Int32.ofNat (k + 1)) (st (k + 1))) → wbX7_firstBar_12 K12 K42 Q (p1 k) (Int32.ofNat k) (st k)) : ∃ n : Nat, wlX7_firstBar_12 K42 Q n (p1 k0) (Int32.ofNat k0) (st k0) := by
  refine ilX7_firstBar_12 (fun x1 x2 f => ∃ k, k0 ≤ k ∧ k ≤ N ∧ P k ∧ x1 = p1 k ∧ x2 = Int32.ofNat k ∧ f = st k) (fun x1 x2 _ => N - x2.toNatClampNeg) ?_ _ _ _ ⟨k0, Nat.le_refl _, h0, hP, rfl, rfl, rfl⟩
  intro K x1 x2 f hI hK
  obtain ⟨k, h1, h2, h3, rfl, rfl, rfl⟩ := hI
  refine step K k h1 h2 h3 (fun h4 h5 => hK _ _ _ ⟨k + 1, by omega, by omega, h5, rfl, rfl, rfl⟩ ?_)
  show N - (Int32.ofNat (k + 1)).toNatClampNeg < N - (Int32.ofNat k).toNatClampNeg
  rw [n_clamp (by omega), n_clamp (by omega)]
  omega
theorem ilX7_firstBar_2  {Q : Int32 → St → Prop} (Inv : Int32 → St → Prop) (meas : Int32 → St → Nat) (step : ∀ (K2 : Int32 → St → Prop) (x1 : Int32) (f : St), Inv x1 f → (∀ (y1 : Int32) (f' : St), Inv y1 f' → meas y1 f' < meas x1 f → K2 y1 f') → wbX7_firstBar_2 K2 Q x1 f) (x1 : Int32) (f : St) (h : Inv x1 f) : ∃ n : Nat, wlX7_firstBar_2  Q n x1 f := by
  have key : ∀ (n : Nat) (x1 : Int32) (f : St), Inv x1 f → meas x1 f < n → wlX7_firstBar_2  Q n x1 f := by
    intro n
    induction n with
    | zero => intro x1 f hI hm; exact absurd hm (Nat.not_lt_zero _)
    | succ n ih => intro x1 f hI hm; exact step _ x1 f hI (fun y1 f' hI' hlt => ih y1 f' hI' (Nat.lt_of_lt_of_le hlt (Nat.le_of_lt_succ hm)))
  exact ⟨_, key _ x1 f h (Nat.lt_succ_self _)⟩
theorem icX7_firstBar_2_1  {Q : Int32 → St → Prop} (N k0 : Nat) (hN : N < 2147483648) (h0 : k0 ≤ N) (P : Nat → Prop)  (st : Nat → St) (hP : P k0) (step : ∀ (K2 : Int32 → St → Prop) (k : Nat), k0 ≤ k → k ≤ N → P k → (k < N → P (k + 1) → K2 (Int32.ofNat (k + 1)) (st (k + 1))) → wbX7_firstBar_2 K2 Q (Int32.ofNat k) (st k)) : ∃ n : Nat, wlX7_firstBar_2  Q n (Int32.ofNat k0) (st k0) := by
  refine ilX7_firstBar_2 (fun x1 f => ∃ k, k0 ≤ k ∧ k ≤ N ∧ P k ∧ x1 = Int32.ofNat k ∧ f = st k) (fun x1 _ => N - x1.toNatClampNeg) ?_ _ _ ⟨k0, Nat.le_refl _, h0, hP, rfl, rfl⟩
  intro K x1 f hI hK
  obtain ⟨k, h1, h2, h3, rfl, rfl⟩ := hI
  refine step K k h1 h2 h3 (fun h4 h5 => hK _ _ ⟨k + 1, by omega, by omega, h5, rfl, rfl⟩ ?_)
  show N - (Int32.ofNat (k + 1)).toNatClampNeg < N - (Int32.ofNat k).toNatClampNeg
  rw [n_clamp (by omega), n_clamp (by omega)]
  omega
theorem ilX7_lawful_27  {Q : Int32 → St → Prop} (Inv : Int32 → Int32 → Int32 → Int32 → St → Prop) (meas : Int32 → Int32 → Int32 → Int32 → St → Nat) (step : ∀ (K27 : Int32 → Int32 → Int32 → Int32 → St → Prop) (x1 : Int32) (x2 : Int32) (x3 : Int32) (x4 : Int32) (f : St), Inv x1 x2 x3 x4 f → (∀ (y1 : Int32) (y2 : Int32) (y3 : Int32) (y4 : Int32) (f' : St), Inv y1 y2 y3 y4 f' → meas y1 y2 y3 y4 f' < meas x1 x2 x3 x4 f → K27 y1 y2 y3 y4 f') → wbX7_lawful_27 K27 Q x1 x2 x3 x4 f) (x1 : Int32) (x2 : Int32) (x3 : Int32) (x4 : Int32) (f : St) (h : Inv x1 x2 x3 x4 f) : ∃ n : Nat, wlX7_lawful_27  Q n x1 x2 x3 x4 f := by
  have key : ∀ (n : Nat) (x1 : Int32) (x2 : Int32) (x3 : Int32) (x4 : Int32) (f : St), Inv x1 x2 x3 x4 f → meas x1 x2 x3 x4 f < n → wlX7_lawful_27  Q n x1 x2 x3 x4 f := by
    intro n
    induction n with
    | zero => intro x1 x2 x3 x4 f hI hm; exact absurd hm (Nat.not_lt_zero _)
    | succ n ih => intro x1 x2 x3 x4 f hI hm; exact step _ x1 x2 x3 x4 f hI (fun y1 y2 y3 y4 f' hI' hlt => ih y1 y2 y3 y4 f' hI' (Nat.lt_of_lt_of_le hlt (Nat.le_of_lt_succ hm)))
  exact ⟨_, key _ x1 x2 x3 x4 f h (Nat.lt_succ_self _)⟩
theorem icX7_lawful_27_1  {Q : Int32 → St → Prop} (N k0 : Nat) (hN : N < 2147483648) (h0 : k0 ≤ N) (P : Nat → Prop) (p2 : Nat → Int32) (p3 : Nat → Int32) (p4 : Nat → Int32) (st : Nat → St) (hP : P k0) (step : ∀ (K27 : Int32 → Int32 → Int32 → Int32 → St → Prop) (k : Nat), k0 ≤ k → k ≤ N → P k → (k < N → P (k + 1) → K27 (Int32.ofNat (k + 1)) (p2 (k + 1)) (p3 (k + 1)) (p4 (k + 1)) (st (k + 1))) → wbX7_lawful_27 K27 Q (Int32.ofNat k) (p2 k) (p3 k) (p4 k) (st k)) : ∃ n : Nat, wlX7_lawful_27  Q n (Int32.ofNat k0) (p2 k0) (p3 k0) (p4 k0) (st k0) := by
  refine ilX7_lawful_27 (fun x1 x2 x3 x4 f => ∃ k, k0 ≤ k ∧ k ≤ N ∧ P k ∧ x1 = Int32.ofNat k ∧ x2 = p2 k ∧ x3 = p3 k ∧ x4 = p4 k ∧ f = st k) (fun x1 x2 x3 x4 _ => N - x1.toNatClampNeg) ?_ _ _ _ _ _ ⟨k0, Nat.le_refl _, h0, hP, rfl, rfl, rfl, rfl, rfl⟩
  intro K x1 x2 x3 x4 f hI hK
  obtain ⟨k, h1, h2, h3, rfl, rfl, rfl, rfl, rfl⟩ := hI
  refine step K k h1 h2 h3 (fun h4 h5 => hK _ _ _ _ _ ⟨k + 1, by omega, by omega, h5, rfl, rfl, rfl, rfl, rfl⟩ ?_)
  show N - (Int32.ofNat (k + 1)).toNatClampNeg < N - (Int32.ofNat k).toNatClampNeg
  rw [n_clamp (by omega), n_clamp (by omega)]
  omega
theorem icX7_lawful_27_2  {Q : Int32 → St → Prop} (N k0 : Nat) (hN : N < 2147483648) (h0 : k0 ≤ N) (P : Nat → Prop) (p1 : Nat → Int32) (p3 : Nat → Int32) (p4 : Nat → Int32) (st : Nat → St) (hP : P k0) (step : ∀ (K27 : Int32 → Int32 → Int32 → Int32 → St → Prop) (k : Nat), k0 ≤ k → k ≤ N → P k → (k < N → P (k + 1) → K27 (p1 (k + 1)) (Int32.ofNat (k + 1)) (p3 (k + 1)) (p4 (k + 1)) (st (k + 1))) → wbX7_lawful_27 K27 Q (p1 k) (Int32.ofNat k) (p3 k) (p4 k) (st k)) : ∃ n : Nat, wlX7_lawful_27  Q n (p1 k0) (Int32.ofNat k0) (p3 k0) (p4 k0) (st k0) := by
  refine ilX7_lawful_27 (fun x1 x2 x3 x4 f => ∃ k, k0 ≤ k ∧ k ≤ N ∧ P k ∧ x1 = p1 k ∧ x2 = Int32.ofNat k ∧ x3 = p3 k ∧ x4 = p4 k ∧ f = st k) (fun x1 x2 x3 x4 _ => N - x2.toNatClampNeg) ?_ _ _ _ _ _ ⟨k0, Nat.le_refl _, h0, hP, rfl, rfl, rfl, rfl, rfl⟩
  intro K x1 x2 x3 x4 f hI hK
  obtain ⟨k, h1, h2, h3, rfl, rfl, rfl, rfl, rfl⟩ := hI
  refine step K k h1 h2 h3 (fun h4 h5 => hK _ _ _ _ _ ⟨k + 1, by omega, by omega, h5, rfl, rfl, rfl, rfl, rfl⟩ ?_)
  show N - (Int32.ofNat (k + 1)).toNatClampNeg < N - (Int32.ofNat k).toNatClampNeg
  rw [n_clamp (by omega), n_clamp (by omega)]
  omega
theorem icX7_lawful_27_3  {Q : Int32 → St → Prop} (N k0 : Nat) (hN : N < 2147483648) (h0 : k0 ≤ N) (P : Nat → Prop) (p1 : Nat → Int32) (p2 : Nat → Int32) (p4 : Nat → Int32) (st : Nat → St) (hP : P k0) (step : ∀ (K27 : Int32 → Int32 → Int32 → Int32 → St → Prop) (k : Nat), k0 ≤ k → k ≤ N → P k → (k < N → P (k + 1) → K27 (p1 (k + 1)) (p2 (k + 1)) (Int32.ofNat (k + 1)) (p4 (k + 1)) (st (k + 1))) → wbX7_lawful_27 K27 Q (p1 k) (p2 k) (Int32.ofNat k) (p4 k) (st k)) : ∃ n : Nat, wlX7_lawful_27  Q n (p1 k0) (p2 k0) (Int32.ofNat k0) (p4 k0) (st k0) := by
  refine ilX7_lawful_27 (fun x1 x2 x3 x4 f => ∃ k, k0 ≤ k ∧ k ≤ N ∧ P k ∧ x1 = p1 k ∧ x2 = p2 k ∧ x3 = Int32.ofNat k ∧ x4 = p4 k ∧ f = st k) (fun x1 x2 x3 x4 _ => N - x3.toNatClampNeg) ?_ _ _ _ _ _ ⟨k0, Nat.le_refl _, h0, hP, rfl, rfl, rfl, rfl, rfl⟩
  intro K x1 x2 x3 x4 f hI hK
  obtain ⟨k, h1, h2, h3, rfl, rfl, rfl, rfl, rfl⟩ := hI
  refine step K k h1 h2 h3 (fun h4 h5 => hK _ _ _ _ _ ⟨k + 1, by omega, by omega, h5, rfl, rfl, rfl, rfl, rfl⟩ ?_)
  show N - (Int32.ofNat (k + 1)).toNatClampNeg < N - (Int32.ofNat k).toNatClampNeg
  rw [n_clamp (by omega), n_clamp (by omega)]
  omega
theorem icX7_lawful_27_4  {Q : Int32 → St → Prop} (N k0 : Nat) (hN : N < 2147483648) (h0 : k0 ≤ N) (P : Nat → Prop) (p1 : Nat → Int32) (p2 : Nat → Int32) (p3 : Nat → Int32) (st : Nat → St) (hP : P k0) (step : ∀ (K27 : Int32 → Int32 → Int32 → Int32 → St → Prop) (k : Nat), k0 ≤ k → k ≤ N → P k → (k < N → P (k + 1) → K27 (p1 (k + 1)) (p2 (k + 1)) (p3 (k + 1)) (Int32.ofNat (k + 1)) (st (k + 1))) → wbX7_lawful_27 K27 Q (p1 k) (p2 k) (p3 k) (Int32.ofNat k) (st k)) : ∃ n : Nat, wlX7_lawful_27  Q n (p1 k0) (p2 k0) (p3 k0) (Int32.ofNat k0) (st k0) := by
  refine ilX7_lawful_27 (fun x1 x2 x3 x4 f => ∃ k, k0 ≤ k ∧ k ≤ N ∧ P k ∧ x1 = p1 k ∧ x2 = p2 k ∧ x3 = p3 k ∧ x4 = Int32.ofNat k ∧ f = st k) (fun x1 x2 x3 x4 _ => N - x4.toNatClampNeg) ?_ _ _ _ _ _ ⟨k0, Nat.le_refl _, h0, hP, rfl, rfl, rfl, rfl, rfl⟩
  intro K x1 x2 x3 x4 f hI hK
  obtain ⟨k, h1, h2, h3, rfl, rfl, rfl, rfl, rfl⟩ := hI
  refine step K k h1 h2 h3 (fun h4 h5 => hK _ _ _ _ _ ⟨k + 1, by omega, by omega, h5, rfl, rfl, rfl, rfl, rfl⟩ ?_)
  show N - (Int32.ofNat (k + 1)).toNatClampNeg < N - (Int32.ofNat k).toNatClampNeg
  rw [n_clamp (by omega), n_clamp (by omega)]
  omega
theorem ilX7_worthNow_36 {K148 : Int32 → Int32 → Int32 → Int32 → Int32 → St → Prop} {Q : Int32 → St → Prop} (Inv : Int32 → Int32 → Int32 → Int32 → Int32 → Int32 → St → Prop) (meas : Int32 → Int32 → Int32 → Int32 → Int32 → Int32 → St → Nat) (step : ∀ (K36 : Int32 → Int32 → Int32 → Int32 → Int32 → Int32 → St → Prop) (x1 : Int32) (x2 : Int32) (x3 : Int32) (x4 : Int32) (x5 : Int32) (x6 : Int32) (f : St), Inv x1 x2 x3 x4 x5 x6 f → (∀ (y1 : Int32) (y2 : Int32) (y3 : Int32) (y4 : Int32) (y5 : Int32) (y6 : Int32) (f' : St), Inv y1 y2 y3 y4 y5 y6 f' → meas y1 y2 y3 y4 y5 y6 f' < meas x1 x2 x3 x4 x5 x6 f → K36 y1 y2 y3 y4 y5 y6 f') → wbX7_worthNow_36 K36 K148 Q x1 x2 x3 x4 x5 x6 f) (x1 : Int32) (x2 : Int32) (x3 : Int32) (x4 : Int32) (x5 : Int32) (x6 : Int32) (f : St) (h : Inv x1 x2 x3 x4 x5 x6 f) : ∃ n : Nat, wlX7_worthNow_36 K148 Q n x1 x2 x3 x4 x5 x6 f := by
  have key : ∀ (n : Nat) (x1 : Int32) (x2 : Int32) (x3 : Int32) (x4 : Int32) (x5 : Int32) (x6 : Int32) (f : St), Inv x1 x2 x3 x4 x5 x6 f → meas x1 x2 x3 x4 x5 x6 f < n → wlX7_worthNow_36 K148 Q n x1 x2 x3 x4 x5 x6 f := by
    intro n
    induction n with
    | zero => intro x1 x2 x3 x4 x5 x6 f hI hm; exact absurd hm (Nat.not_lt_zero _)
    | succ n ih => intro x1 x2 x3 x4 x5 x6 f hI hm; exact step _ x1 x2 x3 x4 x5 x6 f hI (fun y1 y2 y3 y4 y5 y6 f' hI' hlt => ih y1 y2 y3 y4 y5 y6 f' hI' (Nat.lt_of_lt_of_le hlt (Nat.le_of_lt_succ hm)))
  exact ⟨_, key _ x1 x2 x3 x4 x5 x6 f h (Nat.lt_succ_self _)⟩
theorem icX7_worthNow_36_1 {K148 : Int32 → Int32 → Int32 → Int32 → Int32 → St → Prop} {Q : Int32 → St → Prop} (N k0 : Nat) (hN : N < 2147483648) (h0 : k0 ≤ N) (P : Nat → Prop) (p2 : Nat → Int32) (p3 : Nat → Int32) (p4 : Nat → Int32) (p5 : Nat → Int32) (p6 : Nat → Int32) (st : Nat → St) (hP : P k0) (step : ∀ (K36 : Int32 → Int32 → Int32 → Int32 → Int32 → Int32 → St → Prop) (k : Nat), k0 ≤ k → k ≤ N → P k → (k < N → P (k + 1) → K36 (Int32.ofNat (k + 1)) (p2 (k + 1)) (p3 (k + 1)) (p4 (k + 1)) (p5 (k + 1)) (p6 (k + 1)) (st (k + 1))) → wbX7_worthNow_36 K36 K148 Q (Int32.ofNat k) (p2 k) (p3 k) (p4 k) (p5 k) (p6 k) (st k)) : ∃ n : Nat, wlX7_worthNow_36 K148 Q n (Int32.ofNat k0) (p2 k0) (p3 k0) (p4 k0) (p5 k0) (p6 k0) (st k0) := by
  refine ilX7_worthNow_36 (fun x1 x2 x3 x4 x5 x6 f => ∃ k, k0 ≤ k ∧ k ≤ N ∧ P k ∧ x1 = Int32.ofNat k ∧ x2 = p2 k ∧ x3 = p3 k ∧ x4 = p4 k ∧ x5 = p5 k ∧ x6 = p6 k ∧ f = st k) (fun x1 x2 x3 x4 x5 x6 _ => N - x1.toNatClampNeg) ?_ _ _ _ _ _ _ _ ⟨k0, Nat.le_refl _, h0, hP, rfl, rfl, rfl, rfl, rfl, rfl, rfl⟩
  intro K x1 x2 x3 x4 x5 x6 f hI hK
  obtain ⟨k, h1, h2, h3, rfl, rfl, rfl, rfl, rfl, rfl, rfl⟩ := hI
  refine step K k h1 h2 h3 (fun h4 h5 => hK _ _ _ _ _ _ _ ⟨k + 1, by omega, by omega, h5, rfl, rfl, rfl, rfl, rfl, rfl, rfl⟩ ?_)
  show N - (Int32.ofNat (k + 1)).toNatClampNeg < N - (Int32.ofNat k).toNatClampNeg
  rw [n_clamp (by omega), n_clamp (by omega)]
  omega
theorem icX7_worthNow_36_2 {K148 : Int32 → Int32 → Int32 → Int32 → Int32 → St → Prop} {Q : Int32 → St → Prop} (N k0 : Nat) (hN : N < 2147483648) (h0 : k0 ≤ N) (P : Nat → Prop) (p1 : Nat → Int32) (p3 : Nat → Int32) (p4 : Nat → Int32) (p5 : Nat → Int32) (p6 : Nat → Int32) (st : Nat → St) (hP : P k0) (step : ∀ (K36 : Int32 → Int32 → Int32 → Int32 → Int32 → Int32 → St → Prop) (k : Nat), k0 ≤ k → k ≤ N → P k → (k < N → P (k + 1) → K36 (p1 (k + 1)) (Int32.ofNat (k + 1)) (p3 (k + 1)) (p4 (k + 1)) (p5 (k + 1)) (p6 (k + 1)) (st (k + 1))) → wbX7_worthNow_36 K36 K148 Q (p1 k) (Int32.ofNat k) (p3 k) (p4 k) (p5 k) (p6 k) (st k)) : ∃ n : Nat, wlX7_worthNow_36 K148 Q n (p1 k0) (Int32.ofNat k0) (p3 k0) (p4 k0) (p5 k0) (p6 k0) (st k0) := by
  refine ilX7_worthNow_36 (fun x1 x2 x3 x4 x5 x6 f => ∃ k, k0 ≤ k ∧ k ≤ N ∧ P k ∧ x1 = p1 k ∧ x2 = Int32.ofNat k ∧ x3 = p3 k ∧ x4 = p4 k ∧ x5 = p5 k ∧ x6 = p6 k ∧ f = st k) (fun x1 x2 x3 x4 x5 x6 _ => N - x2.toNatClampNeg) ?_ _ _ _ _ _ _ _ ⟨k0, Nat.le_refl _, h0, hP, rfl, rfl, rfl, rfl, rfl, rfl, rfl⟩
  intro K x1 x2 x3 x4 x5 x6 f hI hK
  obtain ⟨k, h1, h2, h3, rfl, rfl, rfl, rfl, rfl, rfl, rfl⟩ := hI
  refine step K k h1 h2 h3 (fun h4 h5 => hK _ _ _ _ _ _ _ ⟨k + 1, by omega, by omega, h5, rfl, rfl, rfl, rfl, rfl, rfl, rfl⟩ ?_)
  show N - (Int32.ofNat (k + 1)).toNatClampNeg < N - (Int32.ofNat k).toNatClampNeg
  rw [n_clamp (by omega), n_clamp (by omega)]
  omega
theorem icX7_worthNow_36_3 {K148 : Int32 → Int32 → Int32 → Int32 → Int32 → St → Prop} {Q : Int32 → St → Prop} (N k0 : Nat) (hN : N < 2147483648) (h0 : k0 ≤ N) (P : Nat → Prop) (p1 : Nat → Int32) (p2 : Nat → Int32) (p4 : Nat → Int32) (p5 : Nat → Int32) (p6 : Nat → Int32) (st : Nat → St) (hP : P k0) (step : ∀ (K36 : Int32 → Int32 → Int32 → Int32 → Int32 → Int32 → St → Prop) (k : Nat), k0 ≤ k → k ≤ N → P k → (k < N → P (k + 1) → K36 (p1 (k + 1)) (p2 (k + 1)) (Int32.ofNat (k + 1)) (p4 (k + 1)) (p5 (k + 1)) (p6 (k + 1)) (st (k + 1))) → wbX7_worthNow_36 K36 K148 Q (p1 k) (p2 k) (Int32.ofNat k) (p4 k) (p5 k) (p6 k) (st k)) : ∃ n : Nat, wlX7_worthNow_36 K148 Q n (p1 k0) (p2 k0) (Int32.ofNat k0) (p4 k0) (p5 k0) (p6 k0) (st k0) := by
  refine ilX7_worthNow_36 (fun x1 x2 x3 x4 x5 x6 f => ∃ k, k0 ≤ k ∧ k ≤ N ∧ P k ∧ x1 = p1 k ∧ x2 = p2 k ∧ x3 = Int32.ofNat k ∧ x4 = p4 k ∧ x5 = p5 k ∧ x6 = p6 k ∧ f = st k) (fun x1 x2 x3 x4 x5 x6 _ => N - x3.toNatClampNeg) ?_ _ _ _ _ _ _ _ ⟨k0, Nat.le_refl _, h0, hP, rfl, rfl, rfl, rfl, rfl, rfl, rfl⟩
  intro K x1 x2 x3 x4 x5 x6 f hI hK
  obtain ⟨k, h1, h2, h3, rfl, rfl, rfl, rfl, rfl, rfl, rfl⟩ := hI
  refine step K k h1 h2 h3 (fun h4 h5 => hK _ _ _ _ _ _ _ ⟨k + 1, by omega, by omega, h5, rfl, rfl, rfl, rfl, rfl, rfl, rfl⟩ ?_)
  show N - (Int32.ofNat (k + 1)).toNatClampNeg < N - (Int32.ofNat k).toNatClampNeg
  rw [n_clamp (by omega), n_clamp (by omega)]
  omega
theorem icX7_worthNow_36_4 {K148 : Int32 → Int32 → Int32 → Int32 → Int32 → St → Prop} {Q : Int32 → St → Prop} (N k0 : Nat) (hN : N < 2147483648) (h0 : k0 ≤ N) (P : Nat → Prop) (p1 : Nat → Int32) (p2 : Nat → Int32) (p3 : Nat → Int32) (p5 : Nat → Int32) (p6 : Nat → Int32) (st : Nat → St) (hP : P k0) (step : ∀ (K36 : Int32 → Int32 → Int32 → Int32 → Int32 → Int32 → St → Prop) (k : Nat), k0 ≤ k → k ≤ N → P k → (k < N → P (k + 1) → K36 (p1 (k + 1)) (p2 (k + 1)) (p3 (k + 1)) (Int32.ofNat (k + 1)) (p5 (k + 1)) (p6 (k + 1)) (st (k + 1))) → wbX7_worthNow_36 K36 K148 Q (p1 k) (p2 k) (p3 k) (Int32.ofNat k) (p5 k) (p6 k) (st k)) : ∃ n : Nat, wlX7_worthNow_36 K148 Q n (p1 k0) (p2 k0) (p3 k0) (Int32.ofNat k0) (p5 k0) (p6 k0) (st k0) := by
  refine ilX7_worthNow_36 (fun x1 x2 x3 x4 x5 x6 f => ∃ k, k0 ≤ k ∧ k ≤ N ∧ P k ∧ x1 = p1 k ∧ x2 = p2 k ∧ x3 = p3 k ∧ x4 = Int32.ofNat k ∧ x5 = p5 k ∧ x6 = p6 k ∧ f = st k) (fun x1 x2 x3 x4 x5 x6 _ => N - x4.toNatClampNeg) ?_ _ _ _ _ _ _ _ ⟨k0, Nat.le_refl _, h0, hP, rfl, rfl, rfl, rfl, rfl, rfl, rfl⟩
  intro K x1 x2 x3 x4 x5 x6 f hI hK
  obtain ⟨k, h1, h2, h3, rfl, rfl, rfl, rfl, rfl, rfl, rfl⟩ := hI
  refine step K k h1 h2 h3 (fun h4 h5 => hK _ _ _ _ _ _ _ ⟨k + 1, by omega, by omega, h5, rfl, rfl, rfl, rfl, rfl, rfl, rfl⟩ ?_)
  show N - (Int32.ofNat (k + 1)).toNatClampNeg < N - (Int32.ofNat k).toNatClampNeg
  rw [n_clamp (by omega), n_clamp (by omega)]
  omega
theorem icX7_worthNow_36_5 {K148 : Int32 → Int32 → Int32 → Int32 → Int32 → St → Prop} {Q : Int32 → St → Prop} (N k0 : Nat) (hN : N < 2147483648) (h0 : k0 ≤ N) (P : Nat → Prop) (p1 : Nat → Int32) (p2 : Nat → Int32) (p3 : Nat → Int32) (p4 : Nat → Int32) (p6 : Nat → Int32) (st : Nat → St) (hP : P k0) (step : ∀ (K36 : Int32 → Int32 → Int32 → Int32 → Int32 → Int32 → St → Prop) (k : Nat), k0 ≤ k → k ≤ N → P k → (k < N → P (k + 1) → K36 (p1 (k + 1)) (p2 (k + 1)) (p3 (k + 1)) (p4 (k + 1)) (Int32.ofNat (k + 1)) (p6 (k + 1)) (st (k + 1))) → wbX7_worthNow_36 K36 K148 Q (p1 k) (p2 k) (p3 k) (p4 k) (Int32.ofNat k) (p6 k) (st k)) : ∃ n : Nat, wlX7_worthNow_36 K148 Q n (p1 k0) (p2 k0) (p3 k0) (p4 k0) (Int32.ofNat k0) (p6 k0) (st k0) := by
  refine ilX7_worthNow_36 (fun x1 x2 x3 x4 x5 x6 f => ∃ k, k0 ≤ k ∧ k ≤ N ∧ P k ∧ x1 = p1 k ∧ x2 = p2 k ∧ x3 = p3 k ∧ x4 = p4 k ∧ x5 = Int32.ofNat k ∧ x6 = p6 k ∧ f = st k) (fun x1 x2 x3 x4 x5 x6 _ => N - x5.toNatClampNeg) ?_ _ _ _ _ _ _ _ ⟨k0, Nat.le_refl _, h0, hP, rfl, rfl, rfl, rfl, rfl, rfl, rfl⟩
  intro K x1 x2 x3 x4 x5 x6 f hI hK
  obtain ⟨k, h1, h2, h3, rfl, rfl, rfl, rfl, rfl, rfl, rfl⟩ := hI
  refine step K k h1 h2 h3 (fun h4 h5 => hK _ _ _ _ _ _ _ ⟨k + 1, by omega, by omega, h5, rfl, rfl, rfl, rfl, rfl, rfl, rfl⟩ ?_)
  show N - (Int32.ofNat (k + 1)).toNatClampNeg < N - (Int32.ofNat k).toNatClampNeg
  rw [n_clamp (by omega), n_clamp (by omega)]
  omega
theorem icX7_worthNow_36_6 {K148 : Int32 → Int32 → Int32 → Int32 → Int32 → St → Prop} {Q : Int32 → St → Prop} (N k0 : Nat) (hN : N < 2147483648) (h0 : k0 ≤ N) (P : Nat → Prop) (p1 : Nat → Int32) (p2 : Nat → Int32) (p3 : Nat → Int32) (p4 : Nat → Int32) (p5 : Nat → Int32) (st : Nat → St) (hP : P k0) (step : ∀ (K36 : Int32 → Int32 → Int32 → Int32 → Int32 → Int32 → St → Prop) (k : Nat), k0 ≤ k → k ≤ N → P k → (k < N → P (k + 1) → K36 (p1 (k + 1)) (p2 (k + 1)) (p3 (k + 1)) (p4 (k + 1)) (p5 (k + 1)) (Int32.ofNat (k + 1)) (st (k + 1))) → wbX7_worthNow_36 K36 K148 Q (p1 k) (p2 k) (p3 k) (p4 k) (p5 k) (Int32.ofNat k) (st k)) : ∃ n : Nat, wlX7_worthNow_36 K148 Q n (p1 k0) (p2 k0) (p3 k0) (p4 k0) (p5 k0) (Int32.ofNat k0) (st k0) := by
  refine ilX7_worthNow_36 (fun x1 x2 x3 x4 x5 x6 f => ∃ k, k0 ≤ k ∧ k ≤ N ∧ P k ∧ x1 = p1 k ∧ x2 = p2 k ∧ x3 = p3 k ∧ x4 = p4 k ∧ x5 = p5 k ∧ x6 = Int32.ofNat k ∧ f = st k) (fun x1 x2 x3 x4 x5 x6 _ => N - x6.toNatClampNeg) ?_ _ _ _ _ _ _ _ ⟨k0, Nat.le_refl _, h0, hP, rfl, rfl, rfl, rfl, rfl, rfl, rfl⟩
  intro K x1 x2 x3 x4 x5 x6 f hI hK
  obtain ⟨k, h1, h2, h3, rfl, rfl, rfl, rfl, rfl, rfl, rfl⟩ := hI
  refine step K k h1 h2 h3 (fun h4 h5 => hK _ _ _ _ _ _ _ ⟨k + 1, by omega, by omega, h5, rfl, rfl, rfl, rfl, rfl, rfl, rfl⟩ ?_)
  show N - (Int32.ofNat (k + 1)).toNatClampNeg < N - (Int32.ofNat k).toNatClampNeg
  rw [n_clamp (by omega), n_clamp (by omega)]
  omega
theorem ilX7_worthNow_4  {Q : Int32 → St → Prop} (Inv : Int32 → Int32 → Int32 → St → Prop) (meas : Int32 → Int32 → Int32 → St → Nat) (step : ∀ (K4 : Int32 → Int32 → Int32 → St → Prop) (x1 : Int32) (x2 : Int32) (x3 : Int32) (f : St), Inv x1 x2 x3 f → (∀ (y1 : Int32) (y2 : Int32) (y3 : Int32) (f' : St), Inv y1 y2 y3 f' → meas y1 y2 y3 f' < meas x1 x2 x3 f → K4 y1 y2 y3 f') → wbX7_worthNow_4 K4 Q x1 x2 x3 f) (x1 : Int32) (x2 : Int32) (x3 : Int32) (f : St) (h : Inv x1 x2 x3 f) : ∃ n : Nat, wlX7_worthNow_4  Q n x1 x2 x3 f := by
  have key : ∀ (n : Nat) (x1 : Int32) (x2 : Int32) (x3 : Int32) (f : St), Inv x1 x2 x3 f → meas x1 x2 x3 f < n → wlX7_worthNow_4  Q n x1 x2 x3 f := by
    intro n
    induction n with
    | zero => intro x1 x2 x3 f hI hm; exact absurd hm (Nat.not_lt_zero _)
    | succ n ih => intro x1 x2 x3 f hI hm; exact step _ x1 x2 x3 f hI (fun y1 y2 y3 f' hI' hlt => ih y1 y2 y3 f' hI' (Nat.lt_of_lt_of_le hlt (Nat.le_of_lt_succ hm)))
  exact ⟨_, key _ x1 x2 x3 f h (Nat.lt_succ_self _)⟩
theorem icX7_worthNow_4_1  {Q : Int32 → St → Prop} (N k0 : Nat) (hN : N < 2147483648) (h0 : k0 ≤ N) (P : Nat → Prop) (p2 : Nat → Int32) (p3 : Nat → Int32) (st : Nat → St) (hP : P k0) (step : ∀ (K4 : Int32 → Int32 → Int32 → St → Prop) (k : Nat), k0 ≤ k → k ≤ N → P k → (k < N → P (k + 1) → K4 (Int32.ofNat (k + 1)) (p2 (k + 1)) (p3 (k + 1)) (st (k + 1))) → wbX7_worthNow_4 K4 Q (Int32.ofNat k) (p2 k) (p3 k) (st k)) : ∃ n : Nat, wlX7_worthNow_4  Q n (Int32.ofNat k0) (p2 k0) (p3 k0) (st k0) := by
  refine ilX7_worthNow_4 (fun x1 x2 x3 f => ∃ k, k0 ≤ k ∧ k ≤ N ∧ P k ∧ x1 = Int32.ofNat k ∧ x2 = p2 k ∧ x3 = p3 k ∧ f = st k) (fun x1 x2 x3 _ => N - x1.toNatClampNeg) ?_ _ _ _ _ ⟨k0, Nat.le_refl _, h0, hP, rfl, rfl, rfl, rfl⟩
  intro K x1 x2 x3 f hI hK
  obtain ⟨k, h1, h2, h3, rfl, rfl, rfl, rfl⟩ := hI
  refine step K k h1 h2 h3 (fun h4 h5 => hK _ _ _ _ ⟨k + 1, by omega, by omega, h5, rfl, rfl, rfl, rfl⟩ ?_)
  show N - (Int32.ofNat (k + 1)).toNatClampNeg < N - (Int32.ofNat k).toNatClampNeg
  rw [n_clamp (by omega), n_clamp (by omega)]
  omega
theorem icX7_worthNow_4_2  {Q : Int32 → St → Prop} (N k0 : Nat) (hN : N < 2147483648) (h0 : k0 ≤ N) (P : Nat → Prop) (p1 : Nat → Int32) (p3 : Nat → Int32) (st : Nat → St) (hP : P k0) (step : ∀ (K4 : Int32 → Int32 → Int32 → St → Prop) (k : Nat), k0 ≤ k → k ≤ N → P k → (k < N → P (k + 1) → K4 (p1 (k + 1)) (Int32.ofNat (k + 1)) (p3 (k + 1)) (st (k + 1))) → wbX7_worthNow_4 K4 Q (p1 k) (Int32.ofNat k) (p3 k) (st k)) : ∃ n : Nat, wlX7_worthNow_4  Q n (p1 k0) (Int32.ofNat k0) (p3 k0) (st k0) := by
  refine ilX7_worthNow_4 (fun x1 x2 x3 f => ∃ k, k0 ≤ k ∧ k ≤ N ∧ P k ∧ x1 = p1 k ∧ x2 = Int32.ofNat k ∧ x3 = p3 k ∧ f = st k) (fun x1 x2 x3 _ => N - x2.toNatClampNeg) ?_ _ _ _ _ ⟨k0, Nat.le_refl _, h0, hP, rfl, rfl, rfl, rfl⟩
  intro K x1 x2 x3 f hI hK
  obtain ⟨k, h1, h2, h3, rfl, rfl, rfl, rfl⟩ := hI
  refine step K k h1 h2 h3 (fun h4 h5 => hK _ _ _ _ ⟨k + 1, by omega, by omega, h5, rfl, rfl, rfl, rfl⟩ ?_)
  show N - (Int32.ofNat (k + 1)).toNatClampNeg < N - (Int32.ofNat k).toNatClampNeg
  rw [n_clamp (by omega), n_clamp (by omega)]
  omega
theorem icX7_worthNow_4_3  {Q : Int32 → St → Prop} (N k0 : Nat) (hN : N < 2147483648) (h0 : k0 ≤ N) (P : Nat → Prop) (p1 : Nat → Int32) (p2 : Nat → Int32) (st : Nat → St) (hP : P k0) (step : ∀ (K4 : Int32 → Int32 → Int32 → St → Prop) (k : Nat), k0 ≤ k → k ≤ N → P k → (k < N → P (k + 1) → K4 (p1 (k + 1)) (p2 (k + 1)) (Int32.ofNat (k + 1)) (st (k + 1))) → wbX7_worthNow_4 K4 Q (p1 k) (p2 k) (Int32.ofNat k) (st k)) : ∃ n : Nat, wlX7_worthNow_4  Q n (p1 k0) (p2 k0) (Int32.ofNat k0) (st k0) := by
  refine ilX7_worthNow_4 (fun x1 x2 x3 f => ∃ k, k0 ≤ k ∧ k ≤ N ∧ P k ∧ x1 = p1 k ∧ x2 = p2 k ∧ x3 = Int32.ofNat k ∧ f = st k) (fun x1 x2 x3 _ => N - x3.toNatClampNeg) ?_ _ _ _ _ ⟨k0, Nat.le_refl _, h0, hP, rfl, rfl, rfl, rfl⟩
  intro K x1 x2 x3 f hI hK
  obtain ⟨k, h1, h2, h3, rfl, rfl, rfl, rfl⟩ := hI
  refine step K k h1 h2 h3 (fun h4 h5 => hK _ _ _ _ ⟨k + 1, by omega, by omega, h5, rfl, rfl, rfl, rfl⟩ ?_)
  show N - (Int32.ofNat (k + 1)).toNatClampNeg < N - (Int32.ofNat k).toNatClampNeg
  rw [n_clamp (by omega), n_clamp (by omega)]
  omega
theorem ilX7_worthAll_5  {Q : Int32 → St → Prop} (Inv : Int32 → Int32 → Int32 → Int32 → St → Prop) (meas : Int32 → Int32 → Int32 → Int32 → St → Nat) (step : ∀ (K5 : Int32 → Int32 → Int32 → Int32 → St → Prop) (x1 : Int32) (x2 : Int32) (x3 : Int32) (x4 : Int32) (f : St), Inv x1 x2 x3 x4 f → (∀ (y1 : Int32) (y2 : Int32) (y3 : Int32) (y4 : Int32) (f' : St), Inv y1 y2 y3 y4 f' → meas y1 y2 y3 y4 f' < meas x1 x2 x3 x4 f → K5 y1 y2 y3 y4 f') → wbX7_worthAll_5 K5 Q x1 x2 x3 x4 f) (x1 : Int32) (x2 : Int32) (x3 : Int32) (x4 : Int32) (f : St) (h : Inv x1 x2 x3 x4 f) : ∃ n : Nat, wlX7_worthAll_5  Q n x1 x2 x3 x4 f := by
  have key : ∀ (n : Nat) (x1 : Int32) (x2 : Int32) (x3 : Int32) (x4 : Int32) (f : St), Inv x1 x2 x3 x4 f → meas x1 x2 x3 x4 f < n → wlX7_worthAll_5  Q n x1 x2 x3 x4 f := by
    intro n
    induction n with
    | zero => intro x1 x2 x3 x4 f hI hm; exact absurd hm (Nat.not_lt_zero _)
    | succ n ih => intro x1 x2 x3 x4 f hI hm; exact step _ x1 x2 x3 x4 f hI (fun y1 y2 y3 y4 f' hI' hlt => ih y1 y2 y3 y4 f' hI' (Nat.lt_of_lt_of_le hlt (Nat.le_of_lt_succ hm)))
  exact ⟨_, key _ x1 x2 x3 x4 f h (Nat.lt_succ_self _)⟩
theorem icX7_worthAll_5_1  {Q : Int32 → St → Prop} (N k0 : Nat) (hN : N < 2147483648) (h0 : k0 ≤ N) (P : Nat → Prop) (p2 : Nat → Int32) (p3 : Nat → Int32) (p4 : Nat → Int32) (st : Nat → St) (hP : P k0) (step : ∀ (K5 : Int32 → Int32 → Int32 → Int32 → St → Prop) (k : Nat), k0 ≤ k → k ≤ N → P k → (k < N → P (k + 1) → K5 (Int32.ofNat (k + 1)) (p2 (k + 1)) (p3 (k + 1)) (p4 (k + 1)) (st (k + 1))) → wbX7_worthAll_5 K5 Q (Int32.ofNat k) (p2 k) (p3 k) (p4 k) (st k)) : ∃ n : Nat, wlX7_worthAll_5  Q n (Int32.ofNat k0) (p2 k0) (p3 k0) (p4 k0) (st k0) := by
  refine ilX7_worthAll_5 (fun x1 x2 x3 x4 f => ∃ k, k0 ≤ k ∧ k ≤ N ∧ P k ∧ x1 = Int32.ofNat k ∧ x2 = p2 k ∧ x3 = p3 k ∧ x4 = p4 k ∧ f = st k) (fun x1 x2 x3 x4 _ => N - x1.toNatClampNeg) ?_ _ _ _ _ _ ⟨k0, Nat.le_refl _, h0, hP, rfl, rfl, rfl, rfl, rfl⟩
  intro K x1 x2 x3 x4 f hI hK
  obtain ⟨k, h1, h2, h3, rfl, rfl, rfl, rfl, rfl⟩ := hI
  refine step K k h1 h2 h3 (fun h4 h5 => hK _ _ _ _ _ ⟨k + 1, by omega, by omega, h5, rfl, rfl, rfl, rfl, rfl⟩ ?_)
  show N - (Int32.ofNat (k + 1)).toNatClampNeg < N - (Int32.ofNat k).toNatClampNeg
  rw [n_clamp (by omega), n_clamp (by omega)]
  omega
theorem icX7_worthAll_5_2  {Q : Int32 → St → Prop} (N k0 : Nat) (hN : N < 2147483648) (h0 : k0 ≤ N) (P : Nat → Prop) (p1 : Nat → Int32) (p3 : Nat → Int32) (p4 : Nat → Int32) (st : Nat → St) (hP : P k0) (step : ∀ (K5 : Int32 → Int32 → Int32 → Int32 → St → Prop) (k : Nat), k0 ≤ k → k ≤ N → P k → (k < N → P (k + 1) → K5 (p1 (k + 1)) (Int32.ofNat (k + 1)) (p3 (k + 1)) (p4 (k + 1)) (st (k + 1))) → wbX7_worthAll_5 K5 Q (p1 k) (Int32.ofNat k) (p3 k) (p4 k) (st k)) : ∃ n : Nat, wlX7_worthAll_5  Q n (p1 k0) (Int32.ofNat k0) (p3 k0) (p4 k0) (st k0) := by
  refine ilX7_worthAll_5 (fun x1 x2 x3 x4 f => ∃ k, k0 ≤ k ∧ k ≤ N ∧ P k ∧ x1 = p1 k ∧ x2 = Int32.ofNat k ∧ x3 = p3 k ∧ x4 = p4 k ∧ f = st k) (fun x1 x2 x3 x4 _ => N - x2.toNatClampNeg) ?_ _ _ _ _ _ ⟨k0, Nat.le_refl _, h0, hP, rfl, rfl, rfl, rfl, rfl⟩
  intro K x1 x2 x3 x4 f hI hK
  obtain ⟨k, h1, h2, h3, rfl, rfl, rfl, rfl, rfl⟩ := hI
  refine step K k h1 h2 h3 (fun h4 h5 => hK _ _ _ _ _ ⟨k + 1, by omega, by omega, h5, rfl, rfl, rfl, rfl, rfl⟩ ?_)
  show N - (Int32.ofNat (k + 1)).toNatClampNeg < N - (Int32.ofNat k).toNatClampNeg
  rw [n_clamp (by omega), n_clamp (by omega)]
  omega
theorem icX7_worthAll_5_3  {Q : Int32 → St → Prop} (N k0 : Nat) (hN : N < 2147483648) (h0 : k0 ≤ N) (P : Nat → Prop) (p1 : Nat → Int32) (p2 : Nat → Int32) (p4 : Nat → Int32) (st : Nat → St) (hP : P k0) (step : ∀ (K5 : Int32 → Int32 → Int32 → Int32 → St → Prop) (k : Nat), k0 ≤ k → k ≤ N → P k → (k < N → P (k + 1) → K5 (p1 (k + 1)) (p2 (k + 1)) (Int32.ofNat (k + 1)) (p4 (k + 1)) (st (k + 1))) → wbX7_worthAll_5 K5 Q (p1 k) (p2 k) (Int32.ofNat k) (p4 k) (st k)) : ∃ n : Nat, wlX7_worthAll_5  Q n (p1 k0) (p2 k0) (Int32.ofNat k0) (p4 k0) (st k0) := by
  refine ilX7_worthAll_5 (fun x1 x2 x3 x4 f => ∃ k, k0 ≤ k ∧ k ≤ N ∧ P k ∧ x1 = p1 k ∧ x2 = p2 k ∧ x3 = Int32.ofNat k ∧ x4 = p4 k ∧ f = st k) (fun x1 x2 x3 x4 _ => N - x3.toNatClampNeg) ?_ _ _ _ _ _ ⟨k0, Nat.le_refl _, h0, hP, rfl, rfl, rfl, rfl, rfl⟩
  intro K x1 x2 x3 x4 f hI hK
  obtain ⟨k, h1, h2, h3, rfl, rfl, rfl, rfl, rfl⟩ := hI
  refine step K k h1 h2 h3 (fun h4 h5 => hK _ _ _ _ _ ⟨k + 1, by omega, by omega, h5, rfl, rfl, rfl, rfl, rfl⟩ ?_)
  show N - (Int32.ofNat (k + 1)).toNatClampNeg < N - (Int32.ofNat k).toNatClampNeg
  rw [n_clamp (by omega), n_clamp (by omega)]
  omega
theorem icX7_worthAll_5_4  {Q : Int32 → St → Prop} (N k0 : Nat) (hN : N < 2147483648) (h0 : k0 ≤ N) (P : Nat → Prop) (p1 : Nat → Int32) (p2 : Nat → Int32) (p3 : Nat → Int32) (st : Nat → St) (hP : P k0) (step : ∀ (K5 : Int32 → Int32 → Int32 → Int32 → St → Prop) (k : Nat), k0 ≤ k → k ≤ N → P k → (k < N → P (k + 1) → K5 (p1 (k + 1)) (p2 (k + 1)) (p3 (k + 1)) (Int32.ofNat (k + 1)) (st (k + 1))) → wbX7_worthAll_5 K5 Q (p1 k) (p2 k) (p3 k) (Int32.ofNat k) (st k)) : ∃ n : Nat, wlX7_worthAll_5  Q n (p1 k0) (p2 k0) (p3 k0) (Int32.ofNat k0) (st k0) := by
  refine ilX7_worthAll_5 (fun x1 x2 x3 x4 f => ∃ k, k0 ≤ k ∧ k ≤ N ∧ P k ∧ x1 = p1 k ∧ x2 = p2 k ∧ x3 = p3 k ∧ x4 = Int32.ofNat k ∧ f = st k) (fun x1 x2 x3 x4 _ => N - x4.toNatClampNeg) ?_ _ _ _ _ _ ⟨k0, Nat.le_refl _, h0, hP, rfl, rfl, rfl, rfl, rfl⟩
  intro K x1 x2 x3 x4 f hI hK
  obtain ⟨k, h1, h2, h3, rfl, rfl, rfl, rfl, rfl⟩ := hI
  refine step K k h1 h2 h3 (fun h4 h5 => hK _ _ _ _ _ ⟨k + 1, by omega, by omega, h5, rfl, rfl, rfl, rfl, rfl⟩ ?_)
  show N - (Int32.ofNat (k + 1)).toNatClampNeg < N - (Int32.ofNat k).toNatClampNeg
  rw [n_clamp (by omega), n_clamp (by omega)]
  omega
theorem ilX7_isFree_2  {Q : Int32 → St → Prop} (Inv : Int32 → Int32 → St → Prop) (meas : Int32 → Int32 → St → Nat) (step : ∀ (K2 : Int32 → Int32 → St → Prop) (x1 : Int32) (x2 : Int32) (f : St), Inv x1 x2 f → (∀ (y1 : Int32) (y2 : Int32) (f' : St), Inv y1 y2 f' → meas y1 y2 f' < meas x1 x2 f → K2 y1 y2 f') → wbX7_isFree_2 K2 Q x1 x2 f) (x1 : Int32) (x2 : Int32) (f : St) (h : Inv x1 x2 f) : ∃ n : Nat, wlX7_isFree_2  Q n x1 x2 f := by
  have key : ∀ (n : Nat) (x1 : Int32) (x2 : Int32) (f : St), Inv x1 x2 f → meas x1 x2 f < n → wlX7_isFree_2  Q n x1 x2 f := by
    intro n
    induction n with
    | zero => intro x1 x2 f hI hm; exact absurd hm (Nat.not_lt_zero _)
    | succ n ih => intro x1 x2 f hI hm; exact step _ x1 x2 f hI (fun y1 y2 f' hI' hlt => ih y1 y2 f' hI' (Nat.lt_of_lt_of_le hlt (Nat.le_of_lt_succ hm)))
  exact ⟨_, key _ x1 x2 f h (Nat.lt_succ_self _)⟩
theorem icX7_isFree_2_1  {Q : Int32 → St → Prop} (N k0 : Nat) (hN : N < 2147483648) (h0 : k0 ≤ N) (P : Nat → Prop) (p2 : Nat → Int32) (st : Nat → St) (hP : P k0) (step : ∀ (K2 : Int32 → Int32 → St → Prop) (k : Nat), k0 ≤ k → k ≤ N → P k → (k < N → P (k + 1) → K2 (Int32.ofNat (k + 1)) (p2 (k + 1)) (st (k + 1))) → wbX7_isFree_2 K2 Q (Int32.ofNat k) (p2 k) (st k)) : ∃ n : Nat, wlX7_isFree_2  Q n (Int32.ofNat k0) (p2 k0) (st k0) := by
  refine ilX7_isFree_2 (fun x1 x2 f => ∃ k, k0 ≤ k ∧ k ≤ N ∧ P k ∧ x1 = Int32.ofNat k ∧ x2 = p2 k ∧ f = st k) (fun x1 x2 _ => N - x1.toNatClampNeg) ?_ _ _ _ ⟨k0, Nat.le_refl _, h0, hP, rfl, rfl, rfl⟩
  intro K x1 x2 f hI hK
  obtain ⟨k, h1, h2, h3, rfl, rfl, rfl⟩ := hI
  refine step K k h1 h2 h3 (fun h4 h5 => hK _ _ _ ⟨k + 1, by omega, by omega, h5, rfl, rfl, rfl⟩ ?_)
  show N - (Int32.ofNat (k + 1)).toNatClampNeg < N - (Int32.ofNat k).toNatClampNeg
  rw [n_clamp (by omega), n_clamp (by omega)]
  omega
theorem icX7_isFree_2_2  {Q : Int32 → St → Prop} (N k0 : Nat) (hN : N < 2147483648) (h0 : k0 ≤ N) (P : Nat → Prop) (p1 : Nat → Int32) (st : Nat → St) (hP : P k0) (step : ∀ (K2 : Int32 → Int32 → St → Prop) (k : Nat), k0 ≤ k → k ≤ N → P k → (k < N → P (k + 1) → K2 (p1 (k + 1)) (Int32.ofNat (k + 1)) (st (k + 1))) → wbX7_isFree_2 K2 Q (p1 k) (Int32.ofNat k) (st k)) : ∃ n : Nat, wlX7_isFree_2  Q n (p1 k0) (Int32.ofNat k0) (st k0) := by
  refine ilX7_isFree_2 (fun x1 x2 f => ∃ k, k0 ≤ k ∧ k ≤ N ∧ P k ∧ x1 = p1 k ∧ x2 = Int32.ofNat k ∧ f = st k) (fun x1 x2 _ => N - x2.toNatClampNeg) ?_ _ _ _ ⟨k0, Nat.le_refl _, h0, hP, rfl, rfl, rfl⟩
  intro K x1 x2 f hI hK
  obtain ⟨k, h1, h2, h3, rfl, rfl, rfl⟩ := hI
  refine step K k h1 h2 h3 (fun h4 h5 => hK _ _ _ ⟨k + 1, by omega, by omega, h5, rfl, rfl, rfl⟩ ?_)
  show N - (Int32.ofNat (k + 1)).toNatClampNeg < N - (Int32.ofNat k).toNatClampNeg
  rw [n_clamp (by omega), n_clamp (by omega)]
  omega
theorem ilX7_nextWay_118 {K154 : Int32 → Int32 → St → Prop} {Q : Int32 → St → Prop} (Inv : Int32 → Int32 → St → Prop) (meas : Int32 → Int32 → St → Nat) (step : ∀ (K118 : Int32 → Int32 → St → Prop) (x1 : Int32) (x3 : Int32) (f : St), Inv x1 x3 f → (∀ (y1 : Int32) (y3 : Int32) (f' : St), Inv y1 y3 f' → meas y1 y3 f' < meas x1 x3 f → K118 y1 y3 f') → wbX7_nextWay_118 K118 K154 Q x1 x3 f) (x1 : Int32) (x3 : Int32) (f : St) (h : Inv x1 x3 f) : ∃ n : Nat, wlX7_nextWay_118 K154 Q n x1 x3 f := by
  have key : ∀ (n : Nat) (x1 : Int32) (x3 : Int32) (f : St), Inv x1 x3 f → meas x1 x3 f < n → wlX7_nextWay_118 K154 Q n x1 x3 f := by
    intro n
    induction n with
    | zero => intro x1 x3 f hI hm; exact absurd hm (Nat.not_lt_zero _)
    | succ n ih => intro x1 x3 f hI hm; exact step _ x1 x3 f hI (fun y1 y3 f' hI' hlt => ih y1 y3 f' hI' (Nat.lt_of_lt_of_le hlt (Nat.le_of_lt_succ hm)))
  exact ⟨_, key _ x1 x3 f h (Nat.lt_succ_self _)⟩
theorem icX7_nextWay_118_1 {K154 : Int32 → Int32 → St → Prop} {Q : Int32 → St → Prop} (N k0 : Nat) (hN : N < 2147483648) (h0 : k0 ≤ N) (P : Nat → Prop) (p3 : Nat → Int32) (st : Nat → St) (hP : P k0) (step : ∀ (K118 : Int32 → Int32 → St → Prop) (k : Nat), k0 ≤ k → k ≤ N → P k → (k < N → P (k + 1) → K118 (Int32.ofNat (k + 1)) (p3 (k + 1)) (st (k + 1))) → wbX7_nextWay_118 K118 K154 Q (Int32.ofNat k) (p3 k) (st k)) : ∃ n : Nat, wlX7_nextWay_118 K154 Q n (Int32.ofNat k0) (p3 k0) (st k0) := by
  refine ilX7_nextWay_118 (fun x1 x3 f => ∃ k, k0 ≤ k ∧ k ≤ N ∧ P k ∧ x1 = Int32.ofNat k ∧ x3 = p3 k ∧ f = st k) (fun x1 x3 _ => N - x1.toNatClampNeg) ?_ _ _ _ ⟨k0, Nat.le_refl _, h0, hP, rfl, rfl, rfl⟩
  intro K x1 x3 f hI hK
  obtain ⟨k, h1, h2, h3, rfl, rfl, rfl⟩ := hI
  refine step K k h1 h2 h3 (fun h4 h5 => hK _ _ _ ⟨k + 1, by omega, by omega, h5, rfl, rfl, rfl⟩ ?_)
  show N - (Int32.ofNat (k + 1)).toNatClampNeg < N - (Int32.ofNat k).toNatClampNeg
  rw [n_clamp (by omega), n_clamp (by omega)]
  omega
theorem icX7_nextWay_118_3 {K154 : Int32 → Int32 → St → Prop} {Q : Int32 → St → Prop} (N k0 : Nat) (hN : N < 2147483648) (h0 : k0 ≤ N) (P : Nat → Prop) (p1 : Nat → Int32) (st : Nat → St) (hP : P k0) (step : ∀ (K118 : Int32 → Int32 → St → Prop) (k : Nat), k0 ≤ k → k ≤ N → P k → (k < N → P (k + 1) → K118 (p1 (k + 1)) (Int32.ofNat (k + 1)) (st (k + 1))) → wbX7_nextWay_118 K118 K154 Q (p1 k) (Int32.ofNat k) (st k)) : ∃ n : Nat, wlX7_nextWay_118 K154 Q n (p1 k0) (Int32.ofNat k0) (st k0) := by
  refine ilX7_nextWay_118 (fun x1 x3 f => ∃ k, k0 ≤ k ∧ k ≤ N ∧ P k ∧ x1 = p1 k ∧ x3 = Int32.ofNat k ∧ f = st k) (fun x1 x3 _ => N - x3.toNatClampNeg) ?_ _ _ _ ⟨k0, Nat.le_refl _, h0, hP, rfl, rfl, rfl⟩
  intro K x1 x3 f hI hK
  obtain ⟨k, h1, h2, h3, rfl, rfl, rfl⟩ := hI
  refine step K k h1 h2 h3 (fun h4 h5 => hK _ _ _ ⟨k + 1, by omega, by omega, h5, rfl, rfl, rfl⟩ ?_)
  show N - (Int32.ofNat (k + 1)).toNatClampNeg < N - (Int32.ofNat k).toNatClampNeg
  rw [n_clamp (by omega), n_clamp (by omega)]
  omega
theorem ilX7_nextWay_48 {K213 : Int32 → St → Prop} {Q : Int32 → St → Prop} (Inv : Int32 → Int32 → Int32 → St → Prop) (meas : Int32 → Int32 → Int32 → St → Nat) (step : ∀ (K48 : Int32 → Int32 → Int32 → St → Prop) (x1 : Int32) (x3 : Int32) (x4 : Int32) (f : St), Inv x1 x3 x4 f → (∀ (y1 : Int32) (y3 : Int32) (y4 : Int32) (f' : St), Inv y1 y3 y4 f' → meas y1 y3 y4 f' < meas x1 x3 x4 f → K48 y1 y3 y4 f') → wbX7_nextWay_48 K48 K213 Q x1 x3 x4 f) (x1 : Int32) (x3 : Int32) (x4 : Int32) (f : St) (h : Inv x1 x3 x4 f) : ∃ n : Nat, wlX7_nextWay_48 K213 Q n x1 x3 x4 f := by
  have key : ∀ (n : Nat) (x1 : Int32) (x3 : Int32) (x4 : Int32) (f : St), Inv x1 x3 x4 f → meas x1 x3 x4 f < n → wlX7_nextWay_48 K213 Q n x1 x3 x4 f := by
    intro n
    induction n with
    | zero => intro x1 x3 x4 f hI hm; exact absurd hm (Nat.not_lt_zero _)
    | succ n ih => intro x1 x3 x4 f hI hm; exact step _ x1 x3 x4 f hI (fun y1 y3 y4 f' hI' hlt => ih y1 y3 y4 f' hI' (Nat.lt_of_lt_of_le hlt (Nat.le_of_lt_succ hm)))
  exact ⟨_, key _ x1 x3 x4 f h (Nat.lt_succ_self _)⟩
theorem icX7_nextWay_48_1 {K213 : Int32 → St → Prop} {Q : Int32 → St → Prop} (N k0 : Nat) (hN : N < 2147483648) (h0 : k0 ≤ N) (P : Nat → Prop) (p3 : Nat → Int32) (p4 : Nat → Int32) (st : Nat → St) (hP : P k0) (step : ∀ (K48 : Int32 → Int32 → Int32 → St → Prop) (k : Nat), k0 ≤ k → k ≤ N → P k → (k < N → P (k + 1) → K48 (Int32.ofNat (k + 1)) (p3 (k + 1)) (p4 (k + 1)) (st (k + 1))) → wbX7_nextWay_48 K48 K213 Q (Int32.ofNat k) (p3 k) (p4 k) (st k)) : ∃ n : Nat, wlX7_nextWay_48 K213 Q n (Int32.ofNat k0) (p3 k0) (p4 k0) (st k0) := by
  refine ilX7_nextWay_48 (fun x1 x3 x4 f => ∃ k, k0 ≤ k ∧ k ≤ N ∧ P k ∧ x1 = Int32.ofNat k ∧ x3 = p3 k ∧ x4 = p4 k ∧ f = st k) (fun x1 x3 x4 _ => N - x1.toNatClampNeg) ?_ _ _ _ _ ⟨k0, Nat.le_refl _, h0, hP, rfl, rfl, rfl, rfl⟩
  intro K x1 x3 x4 f hI hK
  obtain ⟨k, h1, h2, h3, rfl, rfl, rfl, rfl⟩ := hI
  refine step K k h1 h2 h3 (fun h4 h5 => hK _ _ _ _ ⟨k + 1, by omega, by omega, h5, rfl, rfl, rfl, rfl⟩ ?_)
  show N - (Int32.ofNat (k + 1)).toNatClampNeg < N - (Int32.ofNat k).toNatClampNeg
  rw [n_clamp (by omega), n_clamp (by omega)]
  omega
theorem icX7_nextWay_48_3 {K213 : Int32 → St → Prop} {Q : Int32 → St → Prop} (N k0 : Nat) (hN : N < 2147483648) (h0 : k0 ≤ N) (P : Nat → Prop) (p1 : Nat → Int32) (p4 : Nat → Int32) (st : Nat → St) (hP : P k0) (step : ∀ (K48 : Int32 → Int32 → Int32 → St → Prop) (k : Nat), k0 ≤ k → k ≤ N → P k → (k < N → P (k + 1) → K48 (p1 (k + 1)) (Int32.ofNat (k + 1)) (p4 (k + 1)) (st (k + 1))) → wbX7_nextWay_48 K48 K213 Q (p1 k) (Int32.ofNat k) (p4 k) (st k)) : ∃ n : Nat, wlX7_nextWay_48 K213 Q n (p1 k0) (Int32.ofNat k0) (p4 k0) (st k0) := by
  refine ilX7_nextWay_48 (fun x1 x3 x4 f => ∃ k, k0 ≤ k ∧ k ≤ N ∧ P k ∧ x1 = p1 k ∧ x3 = Int32.ofNat k ∧ x4 = p4 k ∧ f = st k) (fun x1 x3 x4 _ => N - x3.toNatClampNeg) ?_ _ _ _ _ ⟨k0, Nat.le_refl _, h0, hP, rfl, rfl, rfl, rfl⟩
  intro K x1 x3 x4 f hI hK
  obtain ⟨k, h1, h2, h3, rfl, rfl, rfl, rfl⟩ := hI
  refine step K k h1 h2 h3 (fun h4 h5 => hK _ _ _ _ ⟨k + 1, by omega, by omega, h5, rfl, rfl, rfl, rfl⟩ ?_)
  show N - (Int32.ofNat (k + 1)).toNatClampNeg < N - (Int32.ofNat k).toNatClampNeg
  rw [n_clamp (by omega), n_clamp (by omega)]
  omega
theorem icX7_nextWay_48_4 {K213 : Int32 → St → Prop} {Q : Int32 → St → Prop} (N k0 : Nat) (hN : N < 2147483648) (h0 : k0 ≤ N) (P : Nat → Prop) (p1 : Nat → Int32) (p3 : Nat → Int32) (st : Nat → St) (hP : P k0) (step : ∀ (K48 : Int32 → Int32 → Int32 → St → Prop) (k : Nat), k0 ≤ k → k ≤ N → P k → (k < N → P (k + 1) → K48 (p1 (k + 1)) (p3 (k + 1)) (Int32.ofNat (k + 1)) (st (k + 1))) → wbX7_nextWay_48 K48 K213 Q (p1 k) (p3 k) (Int32.ofNat k) (st k)) : ∃ n : Nat, wlX7_nextWay_48 K213 Q n (p1 k0) (p3 k0) (Int32.ofNat k0) (st k0) := by
  refine ilX7_nextWay_48 (fun x1 x3 x4 f => ∃ k, k0 ≤ k ∧ k ≤ N ∧ P k ∧ x1 = p1 k ∧ x3 = p3 k ∧ x4 = Int32.ofNat k ∧ f = st k) (fun x1 x3 x4 _ => N - x4.toNatClampNeg) ?_ _ _ _ _ ⟨k0, Nat.le_refl _, h0, hP, rfl, rfl, rfl, rfl⟩
  intro K x1 x3 x4 f hI hK
  obtain ⟨k, h1, h2, h3, rfl, rfl, rfl, rfl⟩ := hI
  refine step K k h1 h2 h3 (fun h4 h5 => hK _ _ _ _ ⟨k + 1, by omega, by omega, h5, rfl, rfl, rfl, rfl⟩ ?_)
  show N - (Int32.ofNat (k + 1)).toNatClampNeg < N - (Int32.ofNat k).toNatClampNeg
  rw [n_clamp (by omega), n_clamp (by omega)]
  omega
theorem ilX7_nextWay_25 {K48 : Int32 → Int32 → Int32 → St → Prop} {Q : Int32 → St → Prop} (Inv : Int32 → Int32 → Int32 → Int32 → St → Prop) (meas : Int32 → Int32 → Int32 → Int32 → St → Nat) (step : ∀ (K25 : Int32 → Int32 → Int32 → Int32 → St → Prop) (x1 : Int32) (x3 : Int32) (x4 : Int32) (x5 : Int32) (f : St), Inv x1 x3 x4 x5 f → (∀ (y1 : Int32) (y3 : Int32) (y4 : Int32) (y5 : Int32) (f' : St), Inv y1 y3 y4 y5 f' → meas y1 y3 y4 y5 f' < meas x1 x3 x4 x5 f → K25 y1 y3 y4 y5 f') → wbX7_nextWay_25 K25 K48 Q x1 x3 x4 x5 f) (x1 : Int32) (x3 : Int32) (x4 : Int32) (x5 : Int32) (f : St) (h : Inv x1 x3 x4 x5 f) : ∃ n : Nat, wlX7_nextWay_25 K48 Q n x1 x3 x4 x5 f := by
  have key : ∀ (n : Nat) (x1 : Int32) (x3 : Int32) (x4 : Int32) (x5 : Int32) (f : St), Inv x1 x3 x4 x5 f → meas x1 x3 x4 x5 f < n → wlX7_nextWay_25 K48 Q n x1 x3 x4 x5 f := by
    intro n
    induction n with
    | zero => intro x1 x3 x4 x5 f hI hm; exact absurd hm (Nat.not_lt_zero _)
    | succ n ih => intro x1 x3 x4 x5 f hI hm; exact step _ x1 x3 x4 x5 f hI (fun y1 y3 y4 y5 f' hI' hlt => ih y1 y3 y4 y5 f' hI' (Nat.lt_of_lt_of_le hlt (Nat.le_of_lt_succ hm)))
  exact ⟨_, key _ x1 x3 x4 x5 f h (Nat.lt_succ_self _)⟩
theorem icX7_nextWay_25_1 {K48 : Int32 → Int32 → Int32 → St → Prop} {Q : Int32 → St → Prop} (N k0 : Nat) (hN : N < 2147483648) (h0 : k0 ≤ N) (P : Nat → Prop) (p3 : Nat → Int32) (p4 : Nat → Int32) (p5 : Nat → Int32) (st : Nat → St) (hP : P k0) (step : ∀ (K25 : Int32 → Int32 → Int32 → Int32 → St → Prop) (k : Nat), k0 ≤ k → k ≤ N → P k → (k < N → P (k + 1) → K25 (Int32.ofNat (k + 1)) (p3 (k + 1)) (p4 (k + 1)) (p5 (k + 1)) (st (k + 1))) → wbX7_nextWay_25 K25 K48 Q (Int32.ofNat k) (p3 k) (p4 k) (p5 k) (st k)) : ∃ n : Nat, wlX7_nextWay_25 K48 Q n (Int32.ofNat k0) (p3 k0) (p4 k0) (p5 k0) (st k0) := by
  refine ilX7_nextWay_25 (fun x1 x3 x4 x5 f => ∃ k, k0 ≤ k ∧ k ≤ N ∧ P k ∧ x1 = Int32.ofNat k ∧ x3 = p3 k ∧ x4 = p4 k ∧ x5 = p5 k ∧ f = st k) (fun x1 x3 x4 x5 _ => N - x1.toNatClampNeg) ?_ _ _ _ _ _ ⟨k0, Nat.le_refl _, h0, hP, rfl, rfl, rfl, rfl, rfl⟩
  intro K x1 x3 x4 x5 f hI hK
  obtain ⟨k, h1, h2, h3, rfl, rfl, rfl, rfl, rfl⟩ := hI
  refine step K k h1 h2 h3 (fun h4 h5 => hK _ _ _ _ _ ⟨k + 1, by omega, by omega, h5, rfl, rfl, rfl, rfl, rfl⟩ ?_)
  show N - (Int32.ofNat (k + 1)).toNatClampNeg < N - (Int32.ofNat k).toNatClampNeg
  rw [n_clamp (by omega), n_clamp (by omega)]
  omega
theorem icX7_nextWay_25_3 {K48 : Int32 → Int32 → Int32 → St → Prop} {Q : Int32 → St → Prop} (N k0 : Nat) (hN : N < 2147483648) (h0 : k0 ≤ N) (P : Nat → Prop) (p1 : Nat → Int32) (p4 : Nat → Int32) (p5 : Nat → Int32) (st : Nat → St) (hP : P k0) (step : ∀ (K25 : Int32 → Int32 → Int32 → Int32 → St → Prop) (k : Nat), k0 ≤ k → k ≤ N → P k → (k < N → P (k + 1) → K25 (p1 (k + 1)) (Int32.ofNat (k + 1)) (p4 (k + 1)) (p5 (k + 1)) (st (k + 1))) → wbX7_nextWay_25 K25 K48 Q (p1 k) (Int32.ofNat k) (p4 k) (p5 k) (st k)) : ∃ n : Nat, wlX7_nextWay_25 K48 Q n (p1 k0) (Int32.ofNat k0) (p4 k0) (p5 k0) (st k0) := by
  refine ilX7_nextWay_25 (fun x1 x3 x4 x5 f => ∃ k, k0 ≤ k ∧ k ≤ N ∧ P k ∧ x1 = p1 k ∧ x3 = Int32.ofNat k ∧ x4 = p4 k ∧ x5 = p5 k ∧ f = st k) (fun x1 x3 x4 x5 _ => N - x3.toNatClampNeg) ?_ _ _ _ _ _ ⟨k0, Nat.le_refl _, h0, hP, rfl, rfl, rfl, rfl, rfl⟩
  intro K x1 x3 x4 x5 f hI hK
  obtain ⟨k, h1, h2, h3, rfl, rfl, rfl, rfl, rfl⟩ := hI
  refine step K k h1 h2 h3 (fun h4 h5 => hK _ _ _ _ _ ⟨k + 1, by omega, by omega, h5, rfl, rfl, rfl, rfl, rfl⟩ ?_)
  show N - (Int32.ofNat (k + 1)).toNatClampNeg < N - (Int32.ofNat k).toNatClampNeg
  rw [n_clamp (by omega), n_clamp (by omega)]
  omega
theorem icX7_nextWay_25_4 {K48 : Int32 → Int32 → Int32 → St → Prop} {Q : Int32 → St → Prop} (N k0 : Nat) (hN : N < 2147483648) (h0 : k0 ≤ N) (P : Nat → Prop) (p1 : Nat → Int32) (p3 : Nat → Int32) (p5 : Nat → Int32) (st : Nat → St) (hP : P k0) (step : ∀ (K25 : Int32 → Int32 → Int32 → Int32 → St → Prop) (k : Nat), k0 ≤ k → k ≤ N → P k → (k < N → P (k + 1) → K25 (p1 (k + 1)) (p3 (k + 1)) (Int32.ofNat (k + 1)) (p5 (k + 1)) (st (k + 1))) → wbX7_nextWay_25 K25 K48 Q (p1 k) (p3 k) (Int32.ofNat k) (p5 k) (st k)) : ∃ n : Nat, wlX7_nextWay_25 K48 Q n (p1 k0) (p3 k0) (Int32.ofNat k0) (p5 k0) (st k0) := by
  refine ilX7_nextWay_25 (fun x1 x3 x4 x5 f => ∃ k, k0 ≤ k ∧ k ≤ N ∧ P k ∧ x1 = p1 k ∧ x3 = p3 k ∧ x4 = Int32.ofNat k ∧ x5 = p5 k ∧ f = st k) (fun x1 x3 x4 x5 _ => N - x4.toNatClampNeg) ?_ _ _ _ _ _ ⟨k0, Nat.le_refl _, h0, hP, rfl, rfl, rfl, rfl, rfl⟩
  intro K x1 x3 x4 x5 f hI hK
  obtain ⟨k, h1, h2, h3, rfl, rfl, rfl, rfl, rfl⟩ := hI
  refine step K k h1 h2 h3 (fun h4 h5 => hK _ _ _ _ _ ⟨k + 1, by omega, by omega, h5, rfl, rfl, rfl, rfl, rfl⟩ ?_)
  show N - (Int32.ofNat (k + 1)).toNatClampNeg < N - (Int32.ofNat k).toNatClampNeg
  rw [n_clamp (by omega), n_clamp (by omega)]
  omega
theorem icX7_nextWay_25_5 {K48 : Int32 → Int32 → Int32 → St → Prop} {Q : Int32 → St → Prop} (N k0 : Nat) (hN : N < 2147483648) (h0 : k0 ≤ N) (P : Nat → Prop) (p1 : Nat → Int32) (p3 : Nat → Int32) (p4 : Nat → Int32) (st : Nat → St) (hP : P k0) (step : ∀ (K25 : Int32 → Int32 → Int32 → Int32 → St → Prop) (k : Nat), k0 ≤ k → k ≤ N → P k → (k < N → P (k + 1) → K25 (p1 (k + 1)) (p3 (k + 1)) (p4 (k + 1)) (Int32.ofNat (k + 1)) (st (k + 1))) → wbX7_nextWay_25 K25 K48 Q (p1 k) (p3 k) (p4 k) (Int32.ofNat k) (st k)) : ∃ n : Nat, wlX7_nextWay_25 K48 Q n (p1 k0) (p3 k0) (p4 k0) (Int32.ofNat k0) (st k0) := by
  refine ilX7_nextWay_25 (fun x1 x3 x4 x5 f => ∃ k, k0 ≤ k ∧ k ≤ N ∧ P k ∧ x1 = p1 k ∧ x3 = p3 k ∧ x4 = p4 k ∧ x5 = Int32.ofNat k ∧ f = st k) (fun x1 x3 x4 x5 _ => N - x5.toNatClampNeg) ?_ _ _ _ _ _ ⟨k0, Nat.le_refl _, h0, hP, rfl, rfl, rfl, rfl, rfl⟩
  intro K x1 x3 x4 x5 f hI hK
  obtain ⟨k, h1, h2, h3, rfl, rfl, rfl, rfl, rfl⟩ := hI
  refine step K k h1 h2 h3 (fun h4 h5 => hK _ _ _ _ _ ⟨k + 1, by omega, by omega, h5, rfl, rfl, rfl, rfl, rfl⟩ ?_)
  show N - (Int32.ofNat (k + 1)).toNatClampNeg < N - (Int32.ofNat k).toNatClampNeg
  rw [n_clamp (by omega), n_clamp (by omega)]
  omega
theorem ilX7_can_16  {Q : Int32 → St → Prop} (Inv : Int32 → Int32 → St → Prop) (meas : Int32 → Int32 → St → Nat) (step : ∀ (K16 : Int32 → Int32 → St → Prop) (x1 : Int32) (x2 : Int32) (f : St), Inv x1 x2 f → (∀ (y1 : Int32) (y2 : Int32) (f' : St), Inv y1 y2 f' → meas y1 y2 f' < meas x1 x2 f → K16 y1 y2 f') → wbX7_can_16 K16 Q x1 x2 f) (x1 : Int32) (x2 : Int32) (f : St) (h : Inv x1 x2 f) : ∃ n : Nat, wlX7_can_16  Q n x1 x2 f := by
  have key : ∀ (n : Nat) (x1 : Int32) (x2 : Int32) (f : St), Inv x1 x2 f → meas x1 x2 f < n → wlX7_can_16  Q n x1 x2 f := by
    intro n
    induction n with
    | zero => intro x1 x2 f hI hm; exact absurd hm (Nat.not_lt_zero _)
    | succ n ih => intro x1 x2 f hI hm; exact step _ x1 x2 f hI (fun y1 y2 f' hI' hlt => ih y1 y2 f' hI' (Nat.lt_of_lt_of_le hlt (Nat.le_of_lt_succ hm)))
  exact ⟨_, key _ x1 x2 f h (Nat.lt_succ_self _)⟩
theorem icX7_can_16_1  {Q : Int32 → St → Prop} (N k0 : Nat) (hN : N < 2147483648) (h0 : k0 ≤ N) (P : Nat → Prop) (p2 : Nat → Int32) (st : Nat → St) (hP : P k0) (step : ∀ (K16 : Int32 → Int32 → St → Prop) (k : Nat), k0 ≤ k → k ≤ N → P k → (k < N → P (k + 1) → K16 (Int32.ofNat (k + 1)) (p2 (k + 1)) (st (k + 1))) → wbX7_can_16 K16 Q (Int32.ofNat k) (p2 k) (st k)) : ∃ n : Nat, wlX7_can_16  Q n (Int32.ofNat k0) (p2 k0) (st k0) := by
  refine ilX7_can_16 (fun x1 x2 f => ∃ k, k0 ≤ k ∧ k ≤ N ∧ P k ∧ x1 = Int32.ofNat k ∧ x2 = p2 k ∧ f = st k) (fun x1 x2 _ => N - x1.toNatClampNeg) ?_ _ _ _ ⟨k0, Nat.le_refl _, h0, hP, rfl, rfl, rfl⟩
  intro K x1 x2 f hI hK
  obtain ⟨k, h1, h2, h3, rfl, rfl, rfl⟩ := hI
  refine step K k h1 h2 h3 (fun h4 h5 => hK _ _ _ ⟨k + 1, by omega, by omega, h5, rfl, rfl, rfl⟩ ?_)
  show N - (Int32.ofNat (k + 1)).toNatClampNeg < N - (Int32.ofNat k).toNatClampNeg
  rw [n_clamp (by omega), n_clamp (by omega)]
  omega
theorem icX7_can_16_2  {Q : Int32 → St → Prop} (N k0 : Nat) (hN : N < 2147483648) (h0 : k0 ≤ N) (P : Nat → Prop) (p1 : Nat → Int32) (st : Nat → St) (hP : P k0) (step : ∀ (K16 : Int32 → Int32 → St → Prop) (k : Nat), k0 ≤ k → k ≤ N → P k → (k < N → P (k + 1) → K16 (p1 (k + 1)) (Int32.ofNat (k + 1)) (st (k + 1))) → wbX7_can_16 K16 Q (p1 k) (Int32.ofNat k) (st k)) : ∃ n : Nat, wlX7_can_16  Q n (p1 k0) (Int32.ofNat k0) (st k0) := by
  refine ilX7_can_16 (fun x1 x2 f => ∃ k, k0 ≤ k ∧ k ≤ N ∧ P k ∧ x1 = p1 k ∧ x2 = Int32.ofNat k ∧ f = st k) (fun x1 x2 _ => N - x2.toNatClampNeg) ?_ _ _ _ ⟨k0, Nat.le_refl _, h0, hP, rfl, rfl, rfl⟩
  intro K x1 x2 f hI hK
  obtain ⟨k, h1, h2, h3, rfl, rfl, rfl⟩ := hI
  refine step K k h1 h2 h3 (fun h4 h5 => hK _ _ _ ⟨k + 1, by omega, by omega, h5, rfl, rfl, rfl⟩ ?_)
  show N - (Int32.ofNat (k + 1)).toNatClampNeg < N - (Int32.ofNat k).toNatClampNeg
  rw [n_clamp (by omega), n_clamp (by omega)]
  omega
theorem ilX7_dayIn_2  {Q : Int32 → St → Prop} (Inv : Int32 → Int32 → St → Prop) (meas : Int32 → Int32 → St → Nat) (step : ∀ (K2 : Int32 → Int32 → St → Prop) (x0 : Int32) (x1 : Int32) (f : St), Inv x0 x1 f → (∀ (y0 : Int32) (y1 : Int32) (f' : St), Inv y0 y1 f' → meas y0 y1 f' < meas x0 x1 f → K2 y0 y1 f') → wbX7_dayIn_2 K2 Q x0 x1 f) (x0 : Int32) (x1 : Int32) (f : St) (h : Inv x0 x1 f) : ∃ n : Nat, wlX7_dayIn_2  Q n x0 x1 f := by
  have key : ∀ (n : Nat) (x0 : Int32) (x1 : Int32) (f : St), Inv x0 x1 f → meas x0 x1 f < n → wlX7_dayIn_2  Q n x0 x1 f := by
    intro n
    induction n with
    | zero => intro x0 x1 f hI hm; exact absurd hm (Nat.not_lt_zero _)
    | succ n ih => intro x0 x1 f hI hm; exact step _ x0 x1 f hI (fun y0 y1 f' hI' hlt => ih y0 y1 f' hI' (Nat.lt_of_lt_of_le hlt (Nat.le_of_lt_succ hm)))
  exact ⟨_, key _ x0 x1 f h (Nat.lt_succ_self _)⟩
theorem icX7_dayIn_2_0  {Q : Int32 → St → Prop} (N k0 : Nat) (hN : N < 2147483648) (h0 : k0 ≤ N) (P : Nat → Prop) (p1 : Nat → Int32) (st : Nat → St) (hP : P k0) (step : ∀ (K2 : Int32 → Int32 → St → Prop) (k : Nat), k0 ≤ k → k ≤ N → P k → (k < N → P (k + 1) → K2 (Int32.ofNat (k + 1)) (p1 (k + 1)) (st (k + 1))) → wbX7_dayIn_2 K2 Q (Int32.ofNat k) (p1 k) (st k)) : ∃ n : Nat, wlX7_dayIn_2  Q n (Int32.ofNat k0) (p1 k0) (st k0) := by
  refine ilX7_dayIn_2 (fun x0 x1 f => ∃ k, k0 ≤ k ∧ k ≤ N ∧ P k ∧ x0 = Int32.ofNat k ∧ x1 = p1 k ∧ f = st k) (fun x0 x1 _ => N - x0.toNatClampNeg) ?_ _ _ _ ⟨k0, Nat.le_refl _, h0, hP, rfl, rfl, rfl⟩
  intro K x0 x1 f hI hK
  obtain ⟨k, h1, h2, h3, rfl, rfl, rfl⟩ := hI
  refine step K k h1 h2 h3 (fun h4 h5 => hK _ _ _ ⟨k + 1, by omega, by omega, h5, rfl, rfl, rfl⟩ ?_)
  show N - (Int32.ofNat (k + 1)).toNatClampNeg < N - (Int32.ofNat k).toNatClampNeg
  rw [n_clamp (by omega), n_clamp (by omega)]
  omega
theorem icX7_dayIn_2_1  {Q : Int32 → St → Prop} (N k0 : Nat) (hN : N < 2147483648) (h0 : k0 ≤ N) (P : Nat → Prop) (p0 : Nat → Int32) (st : Nat → St) (hP : P k0) (step : ∀ (K2 : Int32 → Int32 → St → Prop) (k : Nat), k0 ≤ k → k ≤ N → P k → (k < N → P (k + 1) → K2 (p0 (k + 1)) (Int32.ofNat (k + 1)) (st (k + 1))) → wbX7_dayIn_2 K2 Q (p0 k) (Int32.ofNat k) (st k)) : ∃ n : Nat, wlX7_dayIn_2  Q n (p0 k0) (Int32.ofNat k0) (st k0) := by
  refine ilX7_dayIn_2 (fun x0 x1 f => ∃ k, k0 ≤ k ∧ k ≤ N ∧ P k ∧ x0 = p0 k ∧ x1 = Int32.ofNat k ∧ f = st k) (fun x0 x1 _ => N - x1.toNatClampNeg) ?_ _ _ _ ⟨k0, Nat.le_refl _, h0, hP, rfl, rfl, rfl⟩
  intro K x0 x1 f hI hK
  obtain ⟨k, h1, h2, h3, rfl, rfl, rfl⟩ := hI
  refine step K k h1 h2 h3 (fun h4 h5 => hK _ _ _ ⟨k + 1, by omega, by omega, h5, rfl, rfl, rfl⟩ ?_)
  show N - (Int32.ofNat (k + 1)).toNatClampNeg < N - (Int32.ofNat k).toNatClampNeg
  rw [n_clamp (by omega), n_clamp (by omega)]
  omega
theorem ilX7_worthWay_49 {K150 : Int32 → Int32 → Int32 → Int32 → Int32 → St → Prop} {Q : Int32 → St → Prop} (Inv : Int32 → Int32 → Int32 → Int32 → Int32 → Int32 → Int32 → St → Prop) (meas : Int32 → Int32 → Int32 → Int32 → Int32 → Int32 → Int32 → St → Nat) (step : ∀ (K49 : Int32 → Int32 → Int32 → Int32 → Int32 → Int32 → Int32 → St → Prop) (x1 : Int32) (x2 : Int32) (x3 : Int32) (x4 : Int32) (x5 : Int32) (x6 : Int32) (x7 : Int32) (f : St), Inv x1 x2 x3 x4 x5 x6 x7 f → (∀ (y1 : Int32) (y2 : Int32) (y3 : Int32) (y4 : Int32) (y5 : Int32) (y6 : Int32) (y7 : Int32) (f' : St), Inv y1 y2 y3 y4 y5 y6 y7 f' → meas y1 y2 y3 y4 y5 y6 y7 f' < meas x1 x2 x3 x4 x5 x6 x7 f → K49 y1 y2 y3 y4 y5 y6 y7 f') → wbX7_worthWay_49 K49 K150 Q x1 x2 x3 x4 x5 x6 x7 f) (x1 : Int32) (x2 : Int32) (x3 : Int32) (x4 : Int32) (x5 : Int32) (x6 : Int32) (x7 : Int32) (f : St) (h : Inv x1 x2 x3 x4 x5 x6 x7 f) : ∃ n : Nat, wlX7_worthWay_49 K150 Q n x1 x2 x3 x4 x5 x6 x7 f := by
  have key : ∀ (n : Nat) (x1 : Int32) (x2 : Int32) (x3 : Int32) (x4 : Int32) (x5 : Int32) (x6 : Int32) (x7 : Int32) (f : St), Inv x1 x2 x3 x4 x5 x6 x7 f → meas x1 x2 x3 x4 x5 x6 x7 f < n → wlX7_worthWay_49 K150 Q n x1 x2 x3 x4 x5 x6 x7 f := by
    intro n
    induction n with
    | zero => intro x1 x2 x3 x4 x5 x6 x7 f hI hm; exact absurd hm (Nat.not_lt_zero _)
    | succ n ih => intro x1 x2 x3 x4 x5 x6 x7 f hI hm; exact step _ x1 x2 x3 x4 x5 x6 x7 f hI (fun y1 y2 y3 y4 y5 y6 y7 f' hI' hlt => ih y1 y2 y3 y4 y5 y6 y7 f' hI' (Nat.lt_of_lt_of_le hlt (Nat.le_of_lt_succ hm)))
  exact ⟨_, key _ x1 x2 x3 x4 x5 x6 x7 f h (Nat.lt_succ_self _)⟩
theorem icX7_worthWay_49_1 {K150 : Int32 → Int32 → Int32 → Int32 → Int32 → St → Prop} {Q : Int32 → St → Prop} (N k0 : Nat) (hN : N < 2147483648) (h0 : k0 ≤ N) (P : Nat → Prop) (p2 : Nat → Int32) (p3 : Nat → Int32) (p4 : Nat → Int32) (p5 : Nat → Int32) (p6 : Nat → Int32) (p7 : Nat → Int32) (st : Nat → St) (hP : P k0) (step : ∀ (K49 : Int32 → Int32 → Int32 → Int32 → Int32 → Int32 → Int32 → St → Prop) (k : Nat), k0 ≤ k → k ≤ N → P k → (k < N → P (k + 1) → K49 (Int32.ofNat (k + 1)) (p2 (k + 1)) (p3 (k + 1)) (p4 (k + 1)) (p5 (k + 1)) (p6 (k + 1)) (p7 (k + 1)) (st (k + 1))) → wbX7_worthWay_49 K49 K150 Q (Int32.ofNat k) (p2 k) (p3 k) (p4 k) (p5 k) (p6 k) (p7 k) (st k)) : ∃ n : Nat, wlX7_worthWay_49 K150 Q n (Int32.ofNat k0) (p2 k0) (p3 k0) (p4 k0) (p5 k0) (p6 k0) (p7 k0) (st k0) := by
  refine ilX7_worthWay_49 (fun x1 x2 x3 x4 x5 x6 x7 f => ∃ k, k0 ≤ k ∧ k ≤ N ∧ P k ∧ x1 = Int32.ofNat k ∧ x2 = p2 k ∧ x3 = p3 k ∧ x4 = p4 k ∧ x5 = p5 k ∧ x6 = p6 k ∧ x7 = p7 k ∧ f = st k) (fun x1 x2 x3 x4 x5 x6 x7 _ => N - x1.toNatClampNeg) ?_ _ _ _ _ _ _ _ _ ⟨k0, Nat.le_refl _, h0, hP, rfl, rfl, rfl, rfl, rfl, rfl, rfl, rfl⟩
  intro K x1 x2 x3 x4 x5 x6 x7 f hI hK
  obtain ⟨k, h1, h2, h3, rfl, rfl, rfl, rfl, rfl, rfl, rfl, rfl⟩ := hI
  refine step K k h1 h2 h3 (fun h4 h5 => hK _ _ _ _ _ _ _ _ ⟨k + 1, by omega, by omega, h5, rfl, rfl, rfl, rfl, rfl, rfl, rfl, rfl⟩ ?_)
  show N - (Int32.ofNat (k + 1)).toNatClampNeg < N - (Int32.ofNat k).toNatClampNeg
  rw [n_clamp (by omega), n_clamp (by omega)]
  omega
theorem icX7_worthWay_49_2 {K150 : Int32 → Int32 → Int32 → Int32 → Int32 → St → Prop} {Q : Int32 → St → Prop} (N k0 : Nat) (hN : N < 2147483648) (h0 : k0 ≤ N) (P : Nat → Prop) (p1 : Nat → Int32) (p3 : Nat → Int32) (p4 : Nat → Int32) (p5 : Nat → Int32) (p6 : Nat → Int32) (p7 : Nat → Int32) (st : Nat → St) (hP : P k0) (step : ∀ (K49 : Int32 → Int32 → Int32 → Int32 → Int32 → Int32 → Int32 → St → Prop) (k : Nat), k0 ≤ k → k ≤ N → P k → (k < N → P (k + 1) → K49 (p1 (k + 1)) (Int32.ofNat (k + 1)) (p3 (k + 1)) (p4 (k + 1)) (p5 (k + 1)) (p6 (k + 1)) (p7 (k + 1)) (st (k + 1))) → wbX7_worthWay_49 K49 K150 Q (p1 k) (Int32.ofNat k) (p3 k) (p4 k) (p5 k) (p6 k) (p7 k) (st k)) : ∃ n : Nat, wlX7_worthWay_49 K150 Q n (p1 k0) (Int32.ofNat k0) (p3 k0) (p4 k0) (p5 k0) (p6 k0) (p7 k0) (st k0) := by
  refine ilX7_worthWay_49 (fun x1 x2 x3 x4 x5 x6 x7 f => ∃ k, k0 ≤ k ∧ k ≤ N ∧ P k ∧ x1 = p1 k ∧ x2 = Int32.ofNat k ∧ x3 = p3 k ∧ x4 = p4 k ∧ x5 = p5 k ∧ x6 = p6 k ∧ x7 = p7 k ∧ f = st k) (fun x1 x2 x3 x4 x5 x6 x7 _ => N - x2.toNatClampNeg) ?_ _ _ _ _ _ _ _ _ ⟨k0, Nat.le_refl _, h0, hP, rfl, rfl, rfl, rfl, rfl, rfl, rfl, rfl⟩
  intro K x1 x2 x3 x4 x5 x6 x7 f hI hK
  obtain ⟨k, h1, h2, h3, rfl, rfl, rfl, rfl, rfl, rfl, rfl, rfl⟩ := hI
  refine step K k h1 h2 h3 (fun h4 h5 => hK _ _ _ _ _ _ _ _ ⟨k + 1, by omega, by omega, h5, rfl, rfl, rfl, rfl, rfl, rfl, rfl, rfl⟩ ?_)
  show N - (Int32.ofNat (k + 1)).toNatClampNeg < N - (Int32.ofNat k).toNatClampNeg
  rw [n_clamp (by omega), n_clamp (by omega)]
  omega
theorem icX7_worthWay_49_3 {K150 : Int32 → Int32 → Int32 → Int32 → Int32 → St → Prop} {Q : Int32 → St → Prop} (N k0 : Nat) (hN : N < 2147483648) (h0 : k0 ≤ N) (P : Nat → Prop) (p1 : Nat → Int32) (p2 : Nat → Int32) (p4 : Nat → Int32) (p5 : Nat → Int32) (p6 : Nat → Int32) (p7 : Nat → Int32) (st : Nat → St) (hP : P k0) (step : ∀ (K49 : Int32 → Int32 → Int32 → Int32 → Int32 → Int32 → Int32 → St → Prop) (k : Nat), k0 ≤ k → k ≤ N → P k → (k < N → P (k + 1) → K49 (p1 (k + 1)) (p2 (k + 1)) (Int32.ofNat (k + 1)) (p4 (k + 1)) (p5 (k + 1)) (p6 (k + 1)) (p7 (k + 1)) (st (k + 1))) → wbX7_worthWay_49 K49 K150 Q (p1 k) (p2 k) (Int32.ofNat k) (p4 k) (p5 k) (p6 k) (p7 k) (st k)) : ∃ n : Nat, wlX7_worthWay_49 K150 Q n (p1 k0) (p2 k0) (Int32.ofNat k0) (p4 k0) (p5 k0) (p6 k0) (p7 k0) (st k0) := by
  refine ilX7_worthWay_49 (fun x1 x2 x3 x4 x5 x6 x7 f => ∃ k, k0 ≤ k ∧ k ≤ N ∧ P k ∧ x1 = p1 k ∧ x2 = p2 k ∧ x3 = Int32.ofNat k ∧ x4 = p4 k ∧ x5 = p5 k ∧ x6 = p6 k ∧ x7 = p7 k ∧ f = st k) (fun x1 x2 x3 x4 x5 x6 x7 _ => N - x3.toNatClampNeg) ?_ _ _ _ _ _ _ _ _ ⟨k0, Nat.le_refl _, h0, hP, rfl, rfl, rfl, rfl, rfl, rfl, rfl, rfl⟩
  intro K x1 x2 x3 x4 x5 x6 x7 f hI hK
  obtain ⟨k, h1, h2, h3, rfl, rfl, rfl, rfl, rfl, rfl, rfl, rfl⟩ := hI
  refine step K k h1 h2 h3 (fun h4 h5 => hK _ _ _ _ _ _ _ _ ⟨k + 1, by omega, by omega, h5, rfl, rfl, rfl, rfl, rfl, rfl, rfl, rfl⟩ ?_)
  show N - (Int32.ofNat (k + 1)).toNatClampNeg < N - (Int32.ofNat k).toNatClampNeg
  rw [n_clamp (by omega), n_clamp (by omega)]
  omega
theorem icX7_worthWay_49_4 {K150 : Int32 → Int32 → Int32 → Int32 → Int32 → St → Prop} {Q : Int32 → St → Prop} (N k0 : Nat) (hN : N < 2147483648) (h0 : k0 ≤ N) (P : Nat → Prop) (p1 : Nat → Int32) (p2 : Nat → Int32) (p3 : Nat → Int32) (p5 : Nat → Int32) (p6 : Nat → Int32) (p7 : Nat → Int32) (st : Nat → St) (hP : P k0) (step : ∀ (K49 : Int32 → Int32 → Int32 → Int32 → Int32 → Int32 → Int32 → St → Prop) (k : Nat), k0 ≤ k → k ≤ N → P k → (k < N → P (k + 1) → K49 (p1 (k + 1)) (p2 (k + 1)) (p3 (k + 1)) (Int32.ofNat (k + 1)) (p5 (k + 1)) (p6 (k + 1)) (p7 (k + 1)) (st (k + 1))) → wbX7_worthWay_49 K49 K150 Q (p1 k) (p2 k) (p3 k) (Int32.ofNat k) (p5 k) (p6 k) (p7 k) (st k)) : ∃ n : Nat, wlX7_worthWay_49 K150 Q n (p1 k0) (p2 k0) (p3 k0) (Int32.ofNat k0) (p5 k0) (p6 k0) (p7 k0) (st k0) := by
  refine ilX7_worthWay_49 (fun x1 x2 x3 x4 x5 x6 x7 f => ∃ k, k0 ≤ k ∧ k ≤ N ∧ P k ∧ x1 = p1 k ∧ x2 = p2 k ∧ x3 = p3 k ∧ x4 = Int32.ofNat k ∧ x5 = p5 k ∧ x6 = p6 k ∧ x7 = p7 k ∧ f = st k) (fun x1 x2 x3 x4 x5 x6 x7 _ => N - x4.toNatClampNeg) ?_ _ _ _ _ _ _ _ _ ⟨k0, Nat.le_refl _, h0, hP, rfl, rfl, rfl, rfl, rfl, rfl, rfl, rfl⟩
  intro K x1 x2 x3 x4 x5 x6 x7 f hI hK
  obtain ⟨k, h1, h2, h3, rfl, rfl, rfl, rfl, rfl, rfl, rfl, rfl⟩ := hI
  refine step K k h1 h2 h3 (fun h4 h5 => hK _ _ _ _ _ _ _ _ ⟨k + 1, by omega, by omega, h5, rfl, rfl, rfl, rfl, rfl, rfl, rfl, rfl⟩ ?_)
  show N - (Int32.ofNat (k + 1)).toNatClampNeg < N - (Int32.ofNat k).toNatClampNeg
  rw [n_clamp (by omega), n_clamp (by omega)]
  omega
theorem icX7_worthWay_49_5 {K150 : Int32 → Int32 → Int32 → Int32 → Int32 → St → Prop} {Q : Int32 → St → Prop} (N k0 : Nat) (hN : N < 2147483648) (h0 : k0 ≤ N) (P : Nat → Prop) (p1 : Nat → Int32) (p2 : Nat → Int32) (p3 : Nat → Int32) (p4 : Nat → Int32) (p6 : Nat → Int32) (p7 : Nat → Int32) (st : Nat → St) (hP : P k0) (step : ∀ (K49 : Int32 → Int32 → Int32 → Int32 → Int32 → Int32 → Int32 → St → Prop) (k : Nat), k0 ≤ k → k ≤ N → P k → (k < N → P (k + 1) → K49 (p1 (k + 1)) (p2 (k + 1)) (p3 (k + 1)) (p4 (k + 1)) (Int32.ofNat (k + 1)) (p6 (k + 1)) (p7 (k + 1)) (st (k + 1))) → wbX7_worthWay_49 K49 K150 Q (p1 k) (p2 k) (p3 k) (p4 k) (Int32.ofNat k) (p6 k) (p7 k) (st k)) : ∃ n : Nat, wlX7_worthWay_49 K150 Q n (p1 k0) (p2 k0) (p3 k0) (p4 k0) (Int32.ofNat k0) (p6 k0) (p7 k0) (st k0) := by
  refine ilX7_worthWay_49 (fun x1 x2 x3 x4 x5 x6 x7 f => ∃ k, k0 ≤ k ∧ k ≤ N ∧ P k ∧ x1 = p1 k ∧ x2 = p2 k ∧ x3 = p3 k ∧ x4 = p4 k ∧ x5 = Int32.ofNat k ∧ x6 = p6 k ∧ x7 = p7 k ∧ f = st k) (fun x1 x2 x3 x4 x5 x6 x7 _ => N - x5.toNatClampNeg) ?_ _ _ _ _ _ _ _ _ ⟨k0, Nat.le_refl _, h0, hP, rfl, rfl, rfl, rfl, rfl, rfl, rfl, rfl⟩
  intro K x1 x2 x3 x4 x5 x6 x7 f hI hK
  obtain ⟨k, h1, h2, h3, rfl, rfl, rfl, rfl, rfl, rfl, rfl, rfl⟩ := hI
  refine step K k h1 h2 h3 (fun h4 h5 => hK _ _ _ _ _ _ _ _ ⟨k + 1, by omega, by omega, h5, rfl, rfl, rfl, rfl, rfl, rfl, rfl, rfl⟩ ?_)
  show N - (Int32.ofNat (k + 1)).toNatClampNeg < N - (Int32.ofNat k).toNatClampNeg
  rw [n_clamp (by omega), n_clamp (by omega)]
  omega
theorem icX7_worthWay_49_6 {K150 : Int32 → Int32 → Int32 → Int32 → Int32 → St → Prop} {Q : Int32 → St → Prop} (N k0 : Nat) (hN : N < 2147483648) (h0 : k0 ≤ N) (P : Nat → Prop) (p1 : Nat → Int32) (p2 : Nat → Int32) (p3 : Nat → Int32) (p4 : Nat → Int32) (p5 : Nat → Int32) (p7 : Nat → Int32) (st : Nat → St) (hP : P k0) (step : ∀ (K49 : Int32 → Int32 → Int32 → Int32 → Int32 → Int32 → Int32 → St → Prop) (k : Nat), k0 ≤ k → k ≤ N → P k → (k < N → P (k + 1) → K49 (p1 (k + 1)) (p2 (k + 1)) (p3 (k + 1)) (p4 (k + 1)) (p5 (k + 1)) (Int32.ofNat (k + 1)) (p7 (k + 1)) (st (k + 1))) → wbX7_worthWay_49 K49 K150 Q (p1 k) (p2 k) (p3 k) (p4 k) (p5 k) (Int32.ofNat k) (p7 k) (st k)) : ∃ n : Nat, wlX7_worthWay_49 K150 Q n (p1 k0) (p2 k0) (p3 k0) (p4 k0) (p5 k0) (Int32.ofNat k0) (p7 k0) (st k0) := by
  refine ilX7_worthWay_49 (fun x1 x2 x3 x4 x5 x6 x7 f => ∃ k, k0 ≤ k ∧ k ≤ N ∧ P k ∧ x1 = p1 k ∧ x2 = p2 k ∧ x3 = p3 k ∧ x4 = p4 k ∧ x5 = p5 k ∧ x6 = Int32.ofNat k ∧ x7 = p7 k ∧ f = st k) (fun x1 x2 x3 x4 x5 x6 x7 _ => N - x6.toNatClampNeg) ?_ _ _ _ _ _ _ _ _ ⟨k0, Nat.le_refl _, h0, hP, rfl, rfl, rfl, rfl, rfl, rfl, rfl, rfl⟩
  intro K x1 x2 x3 x4 x5 x6 x7 f hI hK
  obtain ⟨k, h1, h2, h3, rfl, rfl, rfl, rfl, rfl, rfl, rfl, rfl⟩ := hI
  refine step K k h1 h2 h3 (fun h4 h5 => hK _ _ _ _ _ _ _ _ ⟨k + 1, by omega, by omega, h5, rfl, rfl, rfl, rfl, rfl, rfl, rfl, rfl⟩ ?_)
  show N - (Int32.ofNat (k + 1)).toNatClampNeg < N - (Int32.ofNat k).toNatClampNeg
  rw [n_clamp (by omega), n_clamp (by omega)]
  omega
theorem icX7_worthWay_49_7 {K150 : Int32 → Int32 → Int32 → Int32 → Int32 → St → Prop} {Q : Int32 → St → Prop} (N k0 : Nat) (hN : N < 2147483648) (h0 : k0 ≤ N) (P : Nat → Prop) (p1 : Nat → Int32) (p2 : Nat → Int32) (p3 : Nat → Int32) (p4 : Nat → Int32) (p5 : Nat → Int32) (p6 : Nat → Int32) (st : Nat → St) (hP : P k0) (step : ∀ (K49 : Int32 → Int32 → Int32 → Int32 → Int32 → Int32 → Int32 → St → Prop) (k : Nat), k0 ≤ k → k ≤ N → P k → (k < N → P (k + 1) → K49 (p1 (k + 1)) (p2 (k + 1)) (p3 (k + 1)) (p4 (k + 1)) (p5 (k + 1)) (p6 (k + 1)) (Int32.ofNat (k + 1)) (st (k + 1))) → wbX7_worthWay_49 K49 K150 Q (p1 k) (p2 k) (p3 k) (p4 k) (p5 k) (p6 k) (Int32.ofNat k) (st k)) : ∃ n : Nat, wlX7_worthWay_49 K150 Q n (p1 k0) (p2 k0) (p3 k0) (p4 k0) (p5 k0) (p6 k0) (Int32.ofNat k0) (st k0) := by
  refine ilX7_worthWay_49 (fun x1 x2 x3 x4 x5 x6 x7 f => ∃ k, k0 ≤ k ∧ k ≤ N ∧ P k ∧ x1 = p1 k ∧ x2 = p2 k ∧ x3 = p3 k ∧ x4 = p4 k ∧ x5 = p5 k ∧ x6 = p6 k ∧ x7 = Int32.ofNat k ∧ f = st k) (fun x1 x2 x3 x4 x5 x6 x7 _ => N - x7.toNatClampNeg) ?_ _ _ _ _ _ _ _ _ ⟨k0, Nat.le_refl _, h0, hP, rfl, rfl, rfl, rfl, rfl, rfl, rfl, rfl⟩
  intro K x1 x2 x3 x4 x5 x6 x7 f hI hK
  obtain ⟨k, h1, h2, h3, rfl, rfl, rfl, rfl, rfl, rfl, rfl, rfl⟩ := hI
  refine step K k h1 h2 h3 (fun h4 h5 => hK _ _ _ _ _ _ _ _ ⟨k + 1, by omega, by omega, h5, rfl, rfl, rfl, rfl, rfl, rfl, rfl, rfl⟩ ?_)
  show N - (Int32.ofNat (k + 1)).toNatClampNeg < N - (Int32.ofNat k).toNatClampNeg
  rw [n_clamp (by omega), n_clamp (by omega)]
  omega
theorem ilX7_worthWay_4  {Q : Int32 → St → Prop} (Inv : Int32 → Int32 → St → Prop) (meas : Int32 → Int32 → St → Nat) (step : ∀ (K4 : Int32 → Int32 → St → Prop) (x1 : Int32) (x2 : Int32) (f : St), Inv x1 x2 f → (∀ (y1 : Int32) (y2 : Int32) (f' : St), Inv y1 y2 f' → meas y1 y2 f' < meas x1 x2 f → K4 y1 y2 f') → wbX7_worthWay_4 K4 Q x1 x2 f) (x1 : Int32) (x2 : Int32) (f : St) (h : Inv x1 x2 f) : ∃ n : Nat, wlX7_worthWay_4  Q n x1 x2 f := by
  have key : ∀ (n : Nat) (x1 : Int32) (x2 : Int32) (f : St), Inv x1 x2 f → meas x1 x2 f < n → wlX7_worthWay_4  Q n x1 x2 f := by
    intro n
    induction n with
    | zero => intro x1 x2 f hI hm; exact absurd hm (Nat.not_lt_zero _)
    | succ n ih => intro x1 x2 f hI hm; exact step _ x1 x2 f hI (fun y1 y2 f' hI' hlt => ih y1 y2 f' hI' (Nat.lt_of_lt_of_le hlt (Nat.le_of_lt_succ hm)))
  exact ⟨_, key _ x1 x2 f h (Nat.lt_succ_self _)⟩
theorem icX7_worthWay_4_1  {Q : Int32 → St → Prop} (N k0 : Nat) (hN : N < 2147483648) (h0 : k0 ≤ N) (P : Nat → Prop) (p2 : Nat → Int32) (st : Nat → St) (hP : P k0) (step : ∀ (K4 : Int32 → Int32 → St → Prop) (k : Nat), k0 ≤ k → k ≤ N → P k → (k < N → P (k + 1) → K4 (Int32.ofNat (k + 1)) (p2 (k + 1)) (st (k + 1))) → wbX7_worthWay_4 K4 Q (Int32.ofNat k) (p2 k) (st k)) : ∃ n : Nat, wlX7_worthWay_4  Q n (Int32.ofNat k0) (p2 k0) (st k0) := by
  refine ilX7_worthWay_4 (fun x1 x2 f => ∃ k, k0 ≤ k ∧ k ≤ N ∧ P k ∧ x1 = Int32.ofNat k ∧ x2 = p2 k ∧ f = st k) (fun x1 x2 _ => N - x1.toNatClampNeg) ?_ _ _ _ ⟨k0, Nat.le_refl _, h0, hP, rfl, rfl, rfl⟩
  intro K x1 x2 f hI hK
  obtain ⟨k, h1, h2, h3, rfl, rfl, rfl⟩ := hI
  refine step K k h1 h2 h3 (fun h4 h5 => hK _ _ _ ⟨k + 1, by omega, by omega, h5, rfl, rfl, rfl⟩ ?_)
  show N - (Int32.ofNat (k + 1)).toNatClampNeg < N - (Int32.ofNat k).toNatClampNeg
  rw [n_clamp (by omega), n_clamp (by omega)]
  omega
theorem icX7_worthWay_4_2  {Q : Int32 → St → Prop} (N k0 : Nat) (hN : N < 2147483648) (h0 : k0 ≤ N) (P : Nat → Prop) (p1 : Nat → Int32) (st : Nat → St) (hP : P k0) (step : ∀ (K4 : Int32 → Int32 → St → Prop) (k : Nat), k0 ≤ k → k ≤ N → P k → (k < N → P (k + 1) → K4 (p1 (k + 1)) (Int32.ofNat (k + 1)) (st (k + 1))) → wbX7_worthWay_4 K4 Q (p1 k) (Int32.ofNat k) (st k)) : ∃ n : Nat, wlX7_worthWay_4  Q n (p1 k0) (Int32.ofNat k0) (st k0) := by
  refine ilX7_worthWay_4 (fun x1 x2 f => ∃ k, k0 ≤ k ∧ k ≤ N ∧ P k ∧ x1 = p1 k ∧ x2 = Int32.ofNat k ∧ f = st k) (fun x1 x2 _ => N - x2.toNatClampNeg) ?_ _ _ _ ⟨k0, Nat.le_refl _, h0, hP, rfl, rfl, rfl⟩
  intro K x1 x2 f hI hK
  obtain ⟨k, h1, h2, h3, rfl, rfl, rfl⟩ := hI
  refine step K k h1 h2 h3 (fun h4 h5 => hK _ _ _ ⟨k + 1, by omega, by omega, h5, rfl, rfl, rfl⟩ ?_)
  show N - (Int32.ofNat (k + 1)).toNatClampNeg < N - (Int32.ofNat k).toNatClampNeg
  rw [n_clamp (by omega), n_clamp (by omega)]
  omega
theorem ilX7_others_4  {Q : Int32 → St → Prop} (Inv : Int32 → Int32 → Int32 → St → Prop) (meas : Int32 → Int32 → Int32 → St → Nat) (step : ∀ (K4 : Int32 → Int32 → Int32 → St → Prop) (x1 : Int32) (x2 : Int32) (x3 : Int32) (f : St), Inv x1 x2 x3 f → (∀ (y1 : Int32) (y2 : Int32) (y3 : Int32) (f' : St), Inv y1 y2 y3 f' → meas y1 y2 y3 f' < meas x1 x2 x3 f → K4 y1 y2 y3 f') → wbX7_others_4 K4 Q x1 x2 x3 f) (x1 : Int32) (x2 : Int32) (x3 : Int32) (f : St) (h : Inv x1 x2 x3 f) : ∃ n : Nat, wlX7_others_4  Q n x1 x2 x3 f := by
  have key : ∀ (n : Nat) (x1 : Int32) (x2 : Int32) (x3 : Int32) (f : St), Inv x1 x2 x3 f → meas x1 x2 x3 f < n → wlX7_others_4  Q n x1 x2 x3 f := by
    intro n
    induction n with
    | zero => intro x1 x2 x3 f hI hm; exact absurd hm (Nat.not_lt_zero _)
    | succ n ih => intro x1 x2 x3 f hI hm; exact step _ x1 x2 x3 f hI (fun y1 y2 y3 f' hI' hlt => ih y1 y2 y3 f' hI' (Nat.lt_of_lt_of_le hlt (Nat.le_of_lt_succ hm)))
  exact ⟨_, key _ x1 x2 x3 f h (Nat.lt_succ_self _)⟩
theorem icX7_others_4_1  {Q : Int32 → St → Prop} (N k0 : Nat) (hN : N < 2147483648) (h0 : k0 ≤ N) (P : Nat → Prop) (p2 : Nat → Int32) (p3 : Nat → Int32) (st : Nat → St) (hP : P k0) (step : ∀ (K4 : Int32 → Int32 → Int32 → St → Prop) (k : Nat), k0 ≤ k → k ≤ N → P k → (k < N → P (k + 1) → K4 (Int32.ofNat (k + 1)) (p2 (k + 1)) (p3 (k + 1)) (st (k + 1))) → wbX7_others_4 K4 Q (Int32.ofNat k) (p2 k) (p3 k) (st k)) : ∃ n : Nat, wlX7_others_4  Q n (Int32.ofNat k0) (p2 k0) (p3 k0) (st k0) := by
  refine ilX7_others_4 (fun x1 x2 x3 f => ∃ k, k0 ≤ k ∧ k ≤ N ∧ P k ∧ x1 = Int32.ofNat k ∧ x2 = p2 k ∧ x3 = p3 k ∧ f = st k) (fun x1 x2 x3 _ => N - x1.toNatClampNeg) ?_ _ _ _ _ ⟨k0, Nat.le_refl _, h0, hP, rfl, rfl, rfl, rfl⟩
  intro K x1 x2 x3 f hI hK
  obtain ⟨k, h1, h2, h3, rfl, rfl, rfl, rfl⟩ := hI
  refine step K k h1 h2 h3 (fun h4 h5 => hK _ _ _ _ ⟨k + 1, by omega, by omega, h5, rfl, rfl, rfl, rfl⟩ ?_)
  show N - (Int32.ofNat (k + 1)).toNatClampNeg < N - (Int32.ofNat k).toNatClampNeg
  rw [n_clamp (by omega), n_clamp (by omega)]
  omega
theorem icX7_others_4_2  {Q : Int32 → St → Prop} (N k0 : Nat) (hN : N < 2147483648) (h0 : k0 ≤ N) (P : Nat → Prop) (p1 : Nat → Int32) (p3 : Nat → Int32) (st : Nat → St) (hP : P k0) (step : ∀ (K4 : Int32 → Int32 → Int32 → St → Prop) (k : Nat), k0 ≤ k → k ≤ N → P k → (k < N → P (k + 1) → K4 (p1 (k + 1)) (Int32.ofNat (k + 1)) (p3 (k + 1)) (st (k + 1))) → wbX7_others_4 K4 Q (p1 k) (Int32.ofNat k) (p3 k) (st k)) : ∃ n : Nat, wlX7_others_4  Q n (p1 k0) (Int32.ofNat k0) (p3 k0) (st k0) := by
  refine ilX7_others_4 (fun x1 x2 x3 f => ∃ k, k0 ≤ k ∧ k ≤ N ∧ P k ∧ x1 = p1 k ∧ x2 = Int32.ofNat k ∧ x3 = p3 k ∧ f = st k) (fun x1 x2 x3 _ => N - x2.toNatClampNeg) ?_ _ _ _ _ ⟨k0, Nat.le_refl _, h0, hP, rfl, rfl, rfl, rfl⟩
  intro K x1 x2 x3 f hI hK
  obtain ⟨k, h1, h2, h3, rfl, rfl, rfl, rfl⟩ := hI
  refine step K k h1 h2 h3 (fun h4 h5 => hK _ _ _ _ ⟨k + 1, by omega, by omega, h5, rfl, rfl, rfl, rfl⟩ ?_)
  show N - (Int32.ofNat (k + 1)).toNatClampNeg < N - (Int32.ofNat k).toNatClampNeg
  rw [n_clamp (by omega), n_clamp (by omega)]
  omega
theorem icX7_others_4_3  {Q : Int32 → St → Prop} (N k0 : Nat) (hN : N < 2147483648) (h0 : k0 ≤ N) (P : Nat → Prop) (p1 : Nat → Int32) (p2 : Nat → Int32) (st : Nat → St) (hP : P k0) (step : ∀ (K4 : Int32 → Int32 → Int32 → St → Prop) (k : Nat), k0 ≤ k → k ≤ N → P k → (k < N → P (k + 1) → K4 (p1 (k + 1)) (p2 (k + 1)) (Int32.ofNat (k + 1)) (st (k + 1))) → wbX7_others_4 K4 Q (p1 k) (p2 k) (Int32.ofNat k) (st k)) : ∃ n : Nat, wlX7_others_4  Q n (p1 k0) (p2 k0) (Int32.ofNat k0) (st k0) := by
  refine ilX7_others_4 (fun x1 x2 x3 f => ∃ k, k0 ≤ k ∧ k ≤ N ∧ P k ∧ x1 = p1 k ∧ x2 = p2 k ∧ x3 = Int32.ofNat k ∧ f = st k) (fun x1 x2 x3 _ => N - x3.toNatClampNeg) ?_ _ _ _ _ ⟨k0, Nat.le_refl _, h0, hP, rfl, rfl, rfl, rfl⟩
  intro K x1 x2 x3 f hI hK
  obtain ⟨k, h1, h2, h3, rfl, rfl, rfl, rfl⟩ := hI
  refine step K k h1 h2 h3 (fun h4 h5 => hK _ _ _ _ ⟨k + 1, by omega, by omega, h5, rfl, rfl, rfl, rfl⟩ ?_)
  show N - (Int32.ofNat (k + 1)).toNatClampNeg < N - (Int32.ofNat k).toNatClampNeg
  rw [n_clamp (by omega), n_clamp (by omega)]
  omega
theorem ilX7_keeps_15  {Q : St → Prop} (Inv : Int32 → St → Prop) (meas : Int32 → St → Nat) (step : ∀ (K15 : Int32 → St → Prop) (x1 : Int32) (f : St), Inv x1 f → (∀ (y1 : Int32) (f' : St), Inv y1 f' → meas y1 f' < meas x1 f → K15 y1 f') → wbX7_keeps_15 K15 Q x1 f) (x1 : Int32) (f : St) (h : Inv x1 f) : ∃ n : Nat, wlX7_keeps_15  Q n x1 f := by
  have key : ∀ (n : Nat) (x1 : Int32) (f : St), Inv x1 f → meas x1 f < n → wlX7_keeps_15  Q n x1 f := by
    intro n
    induction n with
    | zero => intro x1 f hI hm; exact absurd hm (Nat.not_lt_zero _)
    | succ n ih => intro x1 f hI hm; exact step _ x1 f hI (fun y1 f' hI' hlt => ih y1 f' hI' (Nat.lt_of_lt_of_le hlt (Nat.le_of_lt_succ hm)))
  exact ⟨_, key _ x1 f h (Nat.lt_succ_self _)⟩
theorem icX7_keeps_15_1  {Q : St → Prop} (N k0 : Nat) (hN : N < 2147483648) (h0 : k0 ≤ N) (P : Nat → Prop)  (st : Nat → St) (hP : P k0) (step : ∀ (K15 : Int32 → St → Prop) (k : Nat), k0 ≤ k → k ≤ N → P k → (k < N → P (k + 1) → K15 (Int32.ofNat (k + 1)) (st (k + 1))) → wbX7_keeps_15 K15 Q (Int32.ofNat k) (st k)) : ∃ n : Nat, wlX7_keeps_15  Q n (Int32.ofNat k0) (st k0) := by
  refine ilX7_keeps_15 (fun x1 f => ∃ k, k0 ≤ k ∧ k ≤ N ∧ P k ∧ x1 = Int32.ofNat k ∧ f = st k) (fun x1 _ => N - x1.toNatClampNeg) ?_ _ _ ⟨k0, Nat.le_refl _, h0, hP, rfl, rfl⟩
  intro K x1 f hI hK
  obtain ⟨k, h1, h2, h3, rfl, rfl⟩ := hI
  refine step K k h1 h2 h3 (fun h4 h5 => hK _ _ ⟨k + 1, by omega, by omega, h5, rfl, rfl⟩ ?_)
  show N - (Int32.ofNat (k + 1)).toNatClampNeg < N - (Int32.ofNat k).toNatClampNeg
  rw [n_clamp (by omega), n_clamp (by omega)]
  omega
theorem ilX7_find_37 {K62 : Int32 → Int32 → St → Prop} {Q : Int64 → St → Prop} (Inv : Int32 → Int32 → Int32 → St → Prop) (meas : Int32 → Int32 → Int32 → St → Nat) (step : ∀ (K37 : Int32 → Int32 → Int32 → St → Prop) (x1 : Int32) (x2 : Int32) (x3 : Int32) (f : St), Inv x1 x2 x3 f → (∀ (y1 : Int32) (y2 : Int32) (y3 : Int32) (f' : St), Inv y1 y2 y3 f' → meas y1 y2 y3 f' < meas x1 x2 x3 f → K37 y1 y2 y3 f') → wbX7_find_37 K37 K62 Q x1 x2 x3 f) (x1 : Int32) (x2 : Int32) (x3 : Int32) (f : St) (h : Inv x1 x2 x3 f) : ∃ n : Nat, wlX7_find_37 K62 Q n x1 x2 x3 f := by
  have key : ∀ (n : Nat) (x1 : Int32) (x2 : Int32) (x3 : Int32) (f : St), Inv x1 x2 x3 f → meas x1 x2 x3 f < n → wlX7_find_37 K62 Q n x1 x2 x3 f := by
    intro n
    induction n with
    | zero => intro x1 x2 x3 f hI hm; exact absurd hm (Nat.not_lt_zero _)
    | succ n ih => intro x1 x2 x3 f hI hm; exact step _ x1 x2 x3 f hI (fun y1 y2 y3 f' hI' hlt => ih y1 y2 y3 f' hI' (Nat.lt_of_lt_of_le hlt (Nat.le_of_lt_succ hm)))
  exact ⟨_, key _ x1 x2 x3 f h (Nat.lt_succ_self _)⟩
theorem icX7_find_37_1 {K62 : Int32 → Int32 → St → Prop} {Q : Int64 → St → Prop} (N k0 : Nat) (hN : N < 2147483648) (h0 : k0 ≤ N) (P : Nat → Prop) (p2 : Nat → Int32) (p3 : Nat → Int32) (st : Nat → St) (hP : P k0) (step : ∀ (K37 : Int32 → Int32 → Int32 → St → Prop) (k : Nat), k0 ≤ k → k ≤ N → P k → (k < N → P (k + 1) → K37 (Int32.ofNat (k + 1)) (p2 (k + 1)) (p3 (k + 1)) (st (k + 1))) → wbX7_find_37 K37 K62 Q (Int32.ofNat k) (p2 k) (p3 k) (st k)) : ∃ n : Nat, wlX7_find_37 K62 Q n (Int32.ofNat k0) (p2 k0) (p3 k0) (st k0) := by
  refine ilX7_find_37 (fun x1 x2 x3 f => ∃ k, k0 ≤ k ∧ k ≤ N ∧ P k ∧ x1 = Int32.ofNat k ∧ x2 = p2 k ∧ x3 = p3 k ∧ f = st k) (fun x1 x2 x3 _ => N - x1.toNatClampNeg) ?_ _ _ _ _ ⟨k0, Nat.le_refl _, h0, hP, rfl, rfl, rfl, rfl⟩
  intro K x1 x2 x3 f hI hK
  obtain ⟨k, h1, h2, h3, rfl, rfl, rfl, rfl⟩ := hI
  refine step K k h1 h2 h3 (fun h4 h5 => hK _ _ _ _ ⟨k + 1, by omega, by omega, h5, rfl, rfl, rfl, rfl⟩ ?_)
  show N - (Int32.ofNat (k + 1)).toNatClampNeg < N - (Int32.ofNat k).toNatClampNeg
  rw [n_clamp (by omega), n_clamp (by omega)]
  omega
theorem icX7_find_37_2 {K62 : Int32 → Int32 → St → Prop} {Q : Int64 → St → Prop} (N k0 : Nat) (hN : N < 2147483648) (h0 : k0 ≤ N) (P : Nat → Prop) (p1 : Nat → Int32) (p3 : Nat → Int32) (st : Nat → St) (hP : P k0) (step : ∀ (K37 : Int32 → Int32 → Int32 → St → Prop) (k : Nat), k0 ≤ k → k ≤ N → P k → (k < N → P (k + 1) → K37 (p1 (k + 1)) (Int32.ofNat (k + 1)) (p3 (k + 1)) (st (k + 1))) → wbX7_find_37 K37 K62 Q (p1 k) (Int32.ofNat k) (p3 k) (st k)) : ∃ n : Nat, wlX7_find_37 K62 Q n (p1 k0) (Int32.ofNat k0) (p3 k0) (st k0) := by
  refine ilX7_find_37 (fun x1 x2 x3 f => ∃ k, k0 ≤ k ∧ k ≤ N ∧ P k ∧ x1 = p1 k ∧ x2 = Int32.ofNat k ∧ x3 = p3 k ∧ f = st k) (fun x1 x2 x3 _ => N - x2.toNatClampNeg) ?_ _ _ _ _ ⟨k0, Nat.le_refl _, h0, hP, rfl, rfl, rfl, rfl⟩
  intro K x1 x2 x3 f hI hK
  obtain ⟨k, h1, h2, h3, rfl, rfl, rfl, rfl⟩ := hI
  refine step K k h1 h2 h3 (fun h4 h5 => hK _ _ _ _ ⟨k + 1, by omega, by omega, h5, rfl, rfl, rfl, rfl⟩ ?_)
  show N - (Int32.ofNat (k + 1)).toNatClampNeg < N - (Int32.ofNat k).toNatClampNeg
  rw [n_clamp (by omega), n_clamp (by omega)]
  omega
theorem icX7_find_37_3 {K62 : Int32 → Int32 → St → Prop} {Q : Int64 → St → Prop} (N k0 : Nat) (hN : N < 2147483648) (h0 : k0 ≤ N) (P : Nat → Prop) (p1 : Nat → Int32) (p2 : Nat → Int32) (st : Nat → St) (hP : P k0) (step : ∀ (K37 : Int32 → Int32 → Int32 → St → Prop) (k : Nat), k0 ≤ k → k ≤ N → P k → (k < N → P (k + 1) → K37 (p1 (k + 1)) (p2 (k + 1)) (Int32.ofNat (k + 1)) (st (k + 1))) → wbX7_find_37 K37 K62 Q (p1 k) (p2 k) (Int32.ofNat k) (st k)) : ∃ n : Nat, wlX7_find_37 K62 Q n (p1 k0) (p2 k0) (Int32.ofNat k0) (st k0) := by
  refine ilX7_find_37 (fun x1 x2 x3 f => ∃ k, k0 ≤ k ∧ k ≤ N ∧ P k ∧ x1 = p1 k ∧ x2 = p2 k ∧ x3 = Int32.ofNat k ∧ f = st k) (fun x1 x2 x3 _ => N - x3.toNatClampNeg) ?_ _ _ _ _ ⟨k0, Nat.le_refl _, h0, hP, rfl, rfl, rfl, rfl⟩
  intro K x1 x2 x3 f hI hK
  obtain ⟨k, h1, h2, h3, rfl, rfl, rfl, rfl⟩ := hI
  refine step K k h1 h2 h3 (fun h4 h5 => hK _ _ _ _ ⟨k + 1, by omega, by omega, h5, rfl, rfl, rfl, rfl⟩ ?_)
  show N - (Int32.ofNat (k + 1)).toNatClampNeg < N - (Int32.ofNat k).toNatClampNeg
  rw [n_clamp (by omega), n_clamp (by omega)]
  omega
theorem ilX7_find_75 {K171 : Int32 → St → Prop} {Q : Int64 → St → Prop} (Inv : Int32 → Int32 → Int32 → Int32 → St → Prop) (meas : Int32 → Int32 → Int32 → Int32 → St → Nat) (step : ∀ (K75 : Int32 → Int32 → Int32 → Int32 → St → Prop) (x1 : Int32) (x2 : Int32) (x3 : Int32) (x4 : Int32) (f : St), Inv x1 x2 x3 x4 f → (∀ (y1 : Int32) (y2 : Int32) (y3 : Int32) (y4 : Int32) (f' : St), Inv y1 y2 y3 y4 f' → meas y1 y2 y3 y4 f' < meas x1 x2 x3 x4 f → K75 y1 y2 y3 y4 f') → wbX7_find_75 K75 K171 Q x1 x2 x3 x4 f) (x1 : Int32) (x2 : Int32) (x3 : Int32) (x4 : Int32) (f : St) (h : Inv x1 x2 x3 x4 f) : ∃ n : Nat, wlX7_find_75 K171 Q n x1 x2 x3 x4 f := by
  have key : ∀ (n : Nat) (x1 : Int32) (x2 : Int32) (x3 : Int32) (x4 : Int32) (f : St), Inv x1 x2 x3 x4 f → meas x1 x2 x3 x4 f < n → wlX7_find_75 K171 Q n x1 x2 x3 x4 f := by
    intro n
    induction n with
    | zero => intro x1 x2 x3 x4 f hI hm; exact absurd hm (Nat.not_lt_zero _)
    | succ n ih => intro x1 x2 x3 x4 f hI hm; exact step _ x1 x2 x3 x4 f hI (fun y1 y2 y3 y4 f' hI' hlt => ih y1 y2 y3 y4 f' hI' (Nat.lt_of_lt_of_le hlt (Nat.le_of_lt_succ hm)))
  exact ⟨_, key _ x1 x2 x3 x4 f h (Nat.lt_succ_self _)⟩
theorem icX7_find_75_1 {K171 : Int32 → St → Prop} {Q : Int64 → St → Prop} (N k0 : Nat) (hN : N < 2147483648) (h0 : k0 ≤ N) (P : Nat → Prop) (p2 : Nat → Int32) (p3 : Nat → Int32) (p4 : Nat → Int32) (st : Nat → St) (hP : P k0) (step : ∀ (K75 : Int32 → Int32 → Int32 → Int32 → St → Prop) (k : Nat), k0 ≤ k → k ≤ N → P k → (k < N → P (k + 1) → K75 (Int32.ofNat (k + 1)) (p2 (k + 1)) (p3 (k + 1)) (p4 (k + 1)) (st (k + 1))) → wbX7_find_75 K75 K171 Q (Int32.ofNat k) (p2 k) (p3 k) (p4 k) (st k)) : ∃ n : Nat, wlX7_find_75 K171 Q n (Int32.ofNat k0) (p2 k0) (p3 k0) (p4 k0) (st k0) := by
  refine ilX7_find_75 (fun x1 x2 x3 x4 f => ∃ k, k0 ≤ k ∧ k ≤ N ∧ P k ∧ x1 = Int32.ofNat k ∧ x2 = p2 k ∧ x3 = p3 k ∧ x4 = p4 k ∧ f = st k) (fun x1 x2 x3 x4 _ => N - x1.toNatClampNeg) ?_ _ _ _ _ _ ⟨k0, Nat.le_refl _, h0, hP, rfl, rfl, rfl, rfl, rfl⟩
  intro K x1 x2 x3 x4 f hI hK
  obtain ⟨k, h1, h2, h3, rfl, rfl, rfl, rfl, rfl⟩ := hI
  refine step K k h1 h2 h3 (fun h4 h5 => hK _ _ _ _ _ ⟨k + 1, by omega, by omega, h5, rfl, rfl, rfl, rfl, rfl⟩ ?_)
  show N - (Int32.ofNat (k + 1)).toNatClampNeg < N - (Int32.ofNat k).toNatClampNeg
  rw [n_clamp (by omega), n_clamp (by omega)]
  omega
theorem icX7_find_75_2 {K171 : Int32 → St → Prop} {Q : Int64 → St → Prop} (N k0 : Nat) (hN : N < 2147483648) (h0 : k0 ≤ N) (P : Nat → Prop) (p1 : Nat → Int32) (p3 : Nat → Int32) (p4 : Nat → Int32) (st : Nat → St) (hP : P k0) (step : ∀ (K75 : Int32 → Int32 → Int32 → Int32 → St → Prop) (k : Nat), k0 ≤ k → k ≤ N → P k → (k < N → P (k + 1) → K75 (p1 (k + 1)) (Int32.ofNat (k + 1)) (p3 (k + 1)) (p4 (k + 1)) (st (k + 1))) → wbX7_find_75 K75 K171 Q (p1 k) (Int32.ofNat k) (p3 k) (p4 k) (st k)) : ∃ n : Nat, wlX7_find_75 K171 Q n (p1 k0) (Int32.ofNat k0) (p3 k0) (p4 k0) (st k0) := by
  refine ilX7_find_75 (fun x1 x2 x3 x4 f => ∃ k, k0 ≤ k ∧ k ≤ N ∧ P k ∧ x1 = p1 k ∧ x2 = Int32.ofNat k ∧ x3 = p3 k ∧ x4 = p4 k ∧ f = st k) (fun x1 x2 x3 x4 _ => N - x2.toNatClampNeg) ?_ _ _ _ _ _ ⟨k0, Nat.le_refl _, h0, hP, rfl, rfl, rfl, rfl, rfl⟩
  intro K x1 x2 x3 x4 f hI hK
  obtain ⟨k, h1, h2, h3, rfl, rfl, rfl, rfl, rfl⟩ := hI
  refine step K k h1 h2 h3 (fun h4 h5 => hK _ _ _ _ _ ⟨k + 1, by omega, by omega, h5, rfl, rfl, rfl, rfl, rfl⟩ ?_)
  show N - (Int32.ofNat (k + 1)).toNatClampNeg < N - (Int32.ofNat k).toNatClampNeg
  rw [n_clamp (by omega), n_clamp (by omega)]
  omega
theorem icX7_find_75_3 {K171 : Int32 → St → Prop} {Q : Int64 → St → Prop} (N k0 : Nat) (hN : N < 2147483648) (h0 : k0 ≤ N) (P : Nat → Prop) (p1 : Nat → Int32) (p2 : Nat → Int32) (p4 : Nat → Int32) (st : Nat → St) (hP : P k0) (step : ∀ (K75 : Int32 → Int32 → Int32 → Int32 → St → Prop) (k : Nat), k0 ≤ k → k ≤ N → P k → (k < N → P (k + 1) → K75 (p1 (k + 1)) (p2 (k + 1)) (Int32.ofNat (k + 1)) (p4 (k + 1)) (st (k + 1))) → wbX7_find_75 K75 K171 Q (p1 k) (p2 k) (Int32.ofNat k) (p4 k) (st k)) : ∃ n : Nat, wlX7_find_75 K171 Q n (p1 k0) (p2 k0) (Int32.ofNat k0) (p4 k0) (st k0) := by
  refine ilX7_find_75 (fun x1 x2 x3 x4 f => ∃ k, k0 ≤ k ∧ k ≤ N ∧ P k ∧ x1 = p1 k ∧ x2 = p2 k ∧ x3 = Int32.ofNat k ∧ x4 = p4 k ∧ f = st k) (fun x1 x2 x3 x4 _ => N - x3.toNatClampNeg) ?_ _ _ _ _ _ ⟨k0, Nat.le_refl _, h0, hP, rfl, rfl, rfl, rfl, rfl⟩
  intro K x1 x2 x3 x4 f hI hK
  obtain ⟨k, h1, h2, h3, rfl, rfl, rfl, rfl, rfl⟩ := hI
  refine step K k h1 h2 h3 (fun h4 h5 => hK _ _ _ _ _ ⟨k + 1, by omega, by omega, h5, rfl, rfl, rfl, rfl, rfl⟩ ?_)
  show N - (Int32.ofNat (k + 1)).toNatClampNeg < N - (Int32.ofNat k).toNatClampNeg
  rw [n_clamp (by omega), n_clamp (by omega)]
  omega
theorem icX7_find_75_4 {K171 : Int32 → St → Prop} {Q : Int64 → St → Prop} (N k0 : Nat) (hN : N < 2147483648) (h0 : k0 ≤ N) (P : Nat → Prop) (p1 : Nat → Int32) (p2 : Nat → Int32) (p3 : Nat → Int32) (st : Nat → St) (hP : P k0) (step : ∀ (K75 : Int32 → Int32 → Int32 → Int32 → St → Prop) (k : Nat), k0 ≤ k → k ≤ N → P k → (k < N → P (k + 1) → K75 (p1 (k + 1)) (p2 (k + 1)) (p3 (k + 1)) (Int32.ofNat (k + 1)) (st (k + 1))) → wbX7_find_75 K75 K171 Q (p1 k) (p2 k) (p3 k) (Int32.ofNat k) (st k)) : ∃ n : Nat, wlX7_find_75 K171 Q n (p1 k0) (p2 k0) (p3 k0) (Int32.ofNat k0) (st k0) := by
  refine ilX7_find_75 (fun x1 x2 x3 x4 f => ∃ k, k0 ≤ k ∧ k ≤ N ∧ P k ∧ x1 = p1 k ∧ x2 = p2 k ∧ x3 = p3 k ∧ x4 = Int32.ofNat k ∧ f = st k) (fun x1 x2 x3 x4 _ => N - x4.toNatClampNeg) ?_ _ _ _ _ _ ⟨k0, Nat.le_refl _, h0, hP, rfl, rfl, rfl, rfl, rfl⟩
  intro K x1 x2 x3 x4 f hI hK
  obtain ⟨k, h1, h2, h3, rfl, rfl, rfl, rfl, rfl⟩ := hI
  refine step K k h1 h2 h3 (fun h4 h5 => hK _ _ _ _ _ ⟨k + 1, by omega, by omega, h5, rfl, rfl, rfl, rfl, rfl⟩ ?_)
  show N - (Int32.ofNat (k + 1)).toNatClampNeg < N - (Int32.ofNat k).toNatClampNeg
  rw [n_clamp (by omega), n_clamp (by omega)]
  omega
theorem ilX7_least_9  {Q : Int32 → St → Prop} (Inv : Int32 → Int32 → Int32 → St → Prop) (meas : Int32 → Int32 → Int32 → St → Nat) (step : ∀ (K9 : Int32 → Int32 → Int32 → St → Prop) (x1 : Int32) (x2 : Int32) (x3 : Int32) (f : St), Inv x1 x2 x3 f → (∀ (y1 : Int32) (y2 : Int32) (y3 : Int32) (f' : St), Inv y1 y2 y3 f' → meas y1 y2 y3 f' < meas x1 x2 x3 f → K9 y1 y2 y3 f') → wbX7_least_9 K9 Q x1 x2 x3 f) (x1 : Int32) (x2 : Int32) (x3 : Int32) (f : St) (h : Inv x1 x2 x3 f) : ∃ n : Nat, wlX7_least_9  Q n x1 x2 x3 f := by
  have key : ∀ (n : Nat) (x1 : Int32) (x2 : Int32) (x3 : Int32) (f : St), Inv x1 x2 x3 f → meas x1 x2 x3 f < n → wlX7_least_9  Q n x1 x2 x3 f := by
    intro n
    induction n with
    | zero => intro x1 x2 x3 f hI hm; exact absurd hm (Nat.not_lt_zero _)
    | succ n ih => intro x1 x2 x3 f hI hm; exact step _ x1 x2 x3 f hI (fun y1 y2 y3 f' hI' hlt => ih y1 y2 y3 f' hI' (Nat.lt_of_lt_of_le hlt (Nat.le_of_lt_succ hm)))
  exact ⟨_, key _ x1 x2 x3 f h (Nat.lt_succ_self _)⟩
theorem icX7_least_9_1  {Q : Int32 → St → Prop} (N k0 : Nat) (hN : N < 2147483648) (h0 : k0 ≤ N) (P : Nat → Prop) (p2 : Nat → Int32) (p3 : Nat → Int32) (st : Nat → St) (hP : P k0) (step : ∀ (K9 : Int32 → Int32 → Int32 → St → Prop) (k : Nat), k0 ≤ k → k ≤ N → P k → (k < N → P (k + 1) → K9 (Int32.ofNat (k + 1)) (p2 (k + 1)) (p3 (k + 1)) (st (k + 1))) → wbX7_least_9 K9 Q (Int32.ofNat k) (p2 k) (p3 k) (st k)) : ∃ n : Nat, wlX7_least_9  Q n (Int32.ofNat k0) (p2 k0) (p3 k0) (st k0) := by
  refine ilX7_least_9 (fun x1 x2 x3 f => ∃ k, k0 ≤ k ∧ k ≤ N ∧ P k ∧ x1 = Int32.ofNat k ∧ x2 = p2 k ∧ x3 = p3 k ∧ f = st k) (fun x1 x2 x3 _ => N - x1.toNatClampNeg) ?_ _ _ _ _ ⟨k0, Nat.le_refl _, h0, hP, rfl, rfl, rfl, rfl⟩
  intro K x1 x2 x3 f hI hK
  obtain ⟨k, h1, h2, h3, rfl, rfl, rfl, rfl⟩ := hI
  refine step K k h1 h2 h3 (fun h4 h5 => hK _ _ _ _ ⟨k + 1, by omega, by omega, h5, rfl, rfl, rfl, rfl⟩ ?_)
  show N - (Int32.ofNat (k + 1)).toNatClampNeg < N - (Int32.ofNat k).toNatClampNeg
  rw [n_clamp (by omega), n_clamp (by omega)]
  omega
theorem icX7_least_9_2  {Q : Int32 → St → Prop} (N k0 : Nat) (hN : N < 2147483648) (h0 : k0 ≤ N) (P : Nat → Prop) (p1 : Nat → Int32) (p3 : Nat → Int32) (st : Nat → St) (hP : P k0) (step : ∀ (K9 : Int32 → Int32 → Int32 → St → Prop) (k : Nat), k0 ≤ k → k ≤ N → P k → (k < N → P (k + 1) → K9 (p1 (k + 1)) (Int32.ofNat (k + 1)) (p3 (k + 1)) (st (k + 1))) → wbX7_least_9 K9 Q (p1 k) (Int32.ofNat k) (p3 k) (st k)) : ∃ n : Nat, wlX7_least_9  Q n (p1 k0) (Int32.ofNat k0) (p3 k0) (st k0) := by
  refine ilX7_least_9 (fun x1 x2 x3 f => ∃ k, k0 ≤ k ∧ k ≤ N ∧ P k ∧ x1 = p1 k ∧ x2 = Int32.ofNat k ∧ x3 = p3 k ∧ f = st k) (fun x1 x2 x3 _ => N - x2.toNatClampNeg) ?_ _ _ _ _ ⟨k0, Nat.le_refl _, h0, hP, rfl, rfl, rfl, rfl⟩
  intro K x1 x2 x3 f hI hK
  obtain ⟨k, h1, h2, h3, rfl, rfl, rfl, rfl⟩ := hI
  refine step K k h1 h2 h3 (fun h4 h5 => hK _ _ _ _ ⟨k + 1, by omega, by omega, h5, rfl, rfl, rfl, rfl⟩ ?_)
  show N - (Int32.ofNat (k + 1)).toNatClampNeg < N - (Int32.ofNat k).toNatClampNeg
  rw [n_clamp (by omega), n_clamp (by omega)]
  omega
theorem icX7_least_9_3  {Q : Int32 → St → Prop} (N k0 : Nat) (hN : N < 2147483648) (h0 : k0 ≤ N) (P : Nat → Prop) (p1 : Nat → Int32) (p2 : Nat → Int32) (st : Nat → St) (hP : P k0) (step : ∀ (K9 : Int32 → Int32 → Int32 → St → Prop) (k : Nat), k0 ≤ k → k ≤ N → P k → (k < N → P (k + 1) → K9 (p1 (k + 1)) (p2 (k + 1)) (Int32.ofNat (k + 1)) (st (k + 1))) → wbX7_least_9 K9 Q (p1 k) (p2 k) (Int32.ofNat k) (st k)) : ∃ n : Nat, wlX7_least_9  Q n (p1 k0) (p2 k0) (Int32.ofNat k0) (st k0) := by
  refine ilX7_least_9 (fun x1 x2 x3 f => ∃ k, k0 ≤ k ∧ k ≤ N ∧ P k ∧ x1 = p1 k ∧ x2 = p2 k ∧ x3 = Int32.ofNat k ∧ f = st k) (fun x1 x2 x3 _ => N - x3.toNatClampNeg) ?_ _ _ _ _ ⟨k0, Nat.le_refl _, h0, hP, rfl, rfl, rfl, rfl⟩
  intro K x1 x2 x3 f hI hK
  obtain ⟨k, h1, h2, h3, rfl, rfl, rfl, rfl⟩ := hI
  refine step K k h1 h2 h3 (fun h4 h5 => hK _ _ _ _ ⟨k + 1, by omega, by omega, h5, rfl, rfl, rfl, rfl⟩ ?_)
  show N - (Int32.ofNat (k + 1)).toNatClampNeg < N - (Int32.ofNat k).toNatClampNeg
  rw [n_clamp (by omega), n_clamp (by omega)]
  omega
theorem ilX7_ones_4  {Q : Int32 → St → Prop} (Inv : Int32 → Int32 → Int32 → St → Prop) (meas : Int32 → Int32 → Int32 → St → Nat) (step : ∀ (K4 : Int32 → Int32 → Int32 → St → Prop) (x0 : Int32) (x1 : Int32) (x2 : Int32) (f : St), Inv x0 x1 x2 f → (∀ (y0 : Int32) (y1 : Int32) (y2 : Int32) (f' : St), Inv y0 y1 y2 f' → meas y0 y1 y2 f' < meas x0 x1 x2 f → K4 y0 y1 y2 f') → wbX7_ones_4 K4 Q x0 x1 x2 f) (x0 : Int32) (x1 : Int32) (x2 : Int32) (f : St) (h : Inv x0 x1 x2 f) : ∃ n : Nat, wlX7_ones_4  Q n x0 x1 x2 f := by
  have key : ∀ (n : Nat) (x0 : Int32) (x1 : Int32) (x2 : Int32) (f : St), Inv x0 x1 x2 f → meas x0 x1 x2 f < n → wlX7_ones_4  Q n x0 x1 x2 f := by
    intro n
    induction n with
    | zero => intro x0 x1 x2 f hI hm; exact absurd hm (Nat.not_lt_zero _)
    | succ n ih => intro x0 x1 x2 f hI hm; exact step _ x0 x1 x2 f hI (fun y0 y1 y2 f' hI' hlt => ih y0 y1 y2 f' hI' (Nat.lt_of_lt_of_le hlt (Nat.le_of_lt_succ hm)))
  exact ⟨_, key _ x0 x1 x2 f h (Nat.lt_succ_self _)⟩
theorem icX7_ones_4_0  {Q : Int32 → St → Prop} (N k0 : Nat) (hN : N < 2147483648) (h0 : k0 ≤ N) (P : Nat → Prop) (p1 : Nat → Int32) (p2 : Nat → Int32) (st : Nat → St) (hP : P k0) (step : ∀ (K4 : Int32 → Int32 → Int32 → St → Prop) (k : Nat), k0 ≤ k → k ≤ N → P k → (k < N → P (k + 1) → K4 (Int32.ofNat (k + 1)) (p1 (k + 1)) (p2 (k + 1)) (st (k + 1))) → wbX7_ones_4 K4 Q (Int32.ofNat k) (p1 k) (p2 k) (st k)) : ∃ n : Nat, wlX7_ones_4  Q n (Int32.ofNat k0) (p1 k0) (p2 k0) (st k0) := by
  refine ilX7_ones_4 (fun x0 x1 x2 f => ∃ k, k0 ≤ k ∧ k ≤ N ∧ P k ∧ x0 = Int32.ofNat k ∧ x1 = p1 k ∧ x2 = p2 k ∧ f = st k) (fun x0 x1 x2 _ => N - x0.toNatClampNeg) ?_ _ _ _ _ ⟨k0, Nat.le_refl _, h0, hP, rfl, rfl, rfl, rfl⟩
  intro K x0 x1 x2 f hI hK
  obtain ⟨k, h1, h2, h3, rfl, rfl, rfl, rfl⟩ := hI
  refine step K k h1 h2 h3 (fun h4 h5 => hK _ _ _ _ ⟨k + 1, by omega, by omega, h5, rfl, rfl, rfl, rfl⟩ ?_)
  show N - (Int32.ofNat (k + 1)).toNatClampNeg < N - (Int32.ofNat k).toNatClampNeg
  rw [n_clamp (by omega), n_clamp (by omega)]
  omega
theorem icX7_ones_4_1  {Q : Int32 → St → Prop} (N k0 : Nat) (hN : N < 2147483648) (h0 : k0 ≤ N) (P : Nat → Prop) (p0 : Nat → Int32) (p2 : Nat → Int32) (st : Nat → St) (hP : P k0) (step : ∀ (K4 : Int32 → Int32 → Int32 → St → Prop) (k : Nat), k0 ≤ k → k ≤ N → P k → (k < N → P (k + 1) → K4 (p0 (k + 1)) (Int32.ofNat (k + 1)) (p2 (k + 1)) (st (k + 1))) → wbX7_ones_4 K4 Q (p0 k) (Int32.ofNat k) (p2 k) (st k)) : ∃ n : Nat, wlX7_ones_4  Q n (p0 k0) (Int32.ofNat k0) (p2 k0) (st k0) := by
  refine ilX7_ones_4 (fun x0 x1 x2 f => ∃ k, k0 ≤ k ∧ k ≤ N ∧ P k ∧ x0 = p0 k ∧ x1 = Int32.ofNat k ∧ x2 = p2 k ∧ f = st k) (fun x0 x1 x2 _ => N - x1.toNatClampNeg) ?_ _ _ _ _ ⟨k0, Nat.le_refl _, h0, hP, rfl, rfl, rfl, rfl⟩
  intro K x0 x1 x2 f hI hK
  obtain ⟨k, h1, h2, h3, rfl, rfl, rfl, rfl⟩ := hI
  refine step K k h1 h2 h3 (fun h4 h5 => hK _ _ _ _ ⟨k + 1, by omega, by omega, h5, rfl, rfl, rfl, rfl⟩ ?_)
  show N - (Int32.ofNat (k + 1)).toNatClampNeg < N - (Int32.ofNat k).toNatClampNeg
  rw [n_clamp (by omega), n_clamp (by omega)]
  omega
theorem icX7_ones_4_2  {Q : Int32 → St → Prop} (N k0 : Nat) (hN : N < 2147483648) (h0 : k0 ≤ N) (P : Nat → Prop) (p0 : Nat → Int32) (p1 : Nat → Int32) (st : Nat → St) (hP : P k0) (step : ∀ (K4 : Int32 → Int32 → Int32 → St → Prop) (k : Nat), k0 ≤ k → k ≤ N → P k → (k < N → P (k + 1) → K4 (p0 (k + 1)) (p1 (k + 1)) (Int32.ofNat (k + 1)) (st (k + 1))) → wbX7_ones_4 K4 Q (p0 k) (p1 k) (Int32.ofNat k) (st k)) : ∃ n : Nat, wlX7_ones_4  Q n (p0 k0) (p1 k0) (Int32.ofNat k0) (st k0) := by
  refine ilX7_ones_4 (fun x0 x1 x2 f => ∃ k, k0 ≤ k ∧ k ≤ N ∧ P k ∧ x0 = p0 k ∧ x1 = p1 k ∧ x2 = Int32.ofNat k ∧ f = st k) (fun x0 x1 x2 _ => N - x2.toNatClampNeg) ?_ _ _ _ _ ⟨k0, Nat.le_refl _, h0, hP, rfl, rfl, rfl, rfl⟩
  intro K x0 x1 x2 f hI hK
  obtain ⟨k, h1, h2, h3, rfl, rfl, rfl, rfl⟩ := hI
  refine step K k h1 h2 h3 (fun h4 h5 => hK _ _ _ _ ⟨k + 1, by omega, by omega, h5, rfl, rfl, rfl, rfl⟩ ?_)
  show N - (Int32.ofNat (k + 1)).toNatClampNeg < N - (Int32.ofNat k).toNatClampNeg
  rw [n_clamp (by omega), n_clamp (by omega)]
  omega
theorem ilX7_knot_8  {Q : Int32 → St → Prop} (Inv : Int32 → Int32 → St → Prop) (meas : Int32 → Int32 → St → Nat) (step : ∀ (K8 : Int32 → Int32 → St → Prop) (x1 : Int32) (x2 : Int32) (f : St), Inv x1 x2 f → (∀ (y1 : Int32) (y2 : Int32) (f' : St), Inv y1 y2 f' → meas y1 y2 f' < meas x1 x2 f → K8 y1 y2 f') → wbX7_knot_8 K8 Q x1 x2 f) (x1 : Int32) (x2 : Int32) (f : St) (h : Inv x1 x2 f) : ∃ n : Nat, wlX7_knot_8  Q n x1 x2 f := by
  have key : ∀ (n : Nat) (x1 : Int32) (x2 : Int32) (f : St), Inv x1 x2 f → meas x1 x2 f < n → wlX7_knot_8  Q n x1 x2 f := by
    intro n
    induction n with
    | zero => intro x1 x2 f hI hm; exact absurd hm (Nat.not_lt_zero _)
    | succ n ih => intro x1 x2 f hI hm; exact step _ x1 x2 f hI (fun y1 y2 f' hI' hlt => ih y1 y2 f' hI' (Nat.lt_of_lt_of_le hlt (Nat.le_of_lt_succ hm)))
  exact ⟨_, key _ x1 x2 f h (Nat.lt_succ_self _)⟩
theorem icX7_knot_8_1  {Q : Int32 → St → Prop} (N k0 : Nat) (hN : N < 2147483648) (h0 : k0 ≤ N) (P : Nat → Prop) (p2 : Nat → Int32) (st : Nat → St) (hP : P k0) (step : ∀ (K8 : Int32 → Int32 → St → Prop) (k : Nat), k0 ≤ k → k ≤ N → P k → (k < N → P (k + 1) → K8 (Int32.ofNat (k + 1)) (p2 (k + 1)) (st (k + 1))) → wbX7_knot_8 K8 Q (Int32.ofNat k) (p2 k) (st k)) : ∃ n : Nat, wlX7_knot_8  Q n (Int32.ofNat k0) (p2 k0) (st k0) := by
  refine ilX7_knot_8 (fun x1 x2 f => ∃ k, k0 ≤ k ∧ k ≤ N ∧ P k ∧ x1 = Int32.ofNat k ∧ x2 = p2 k ∧ f = st k) (fun x1 x2 _ => N - x1.toNatClampNeg) ?_ _ _ _ ⟨k0, Nat.le_refl _, h0, hP, rfl, rfl, rfl⟩
  intro K x1 x2 f hI hK
  obtain ⟨k, h1, h2, h3, rfl, rfl, rfl⟩ := hI
  refine step K k h1 h2 h3 (fun h4 h5 => hK _ _ _ ⟨k + 1, by omega, by omega, h5, rfl, rfl, rfl⟩ ?_)
  show N - (Int32.ofNat (k + 1)).toNatClampNeg < N - (Int32.ofNat k).toNatClampNeg
  rw [n_clamp (by omega), n_clamp (by omega)]
  omega
theorem icX7_knot_8_2  {Q : Int32 → St → Prop} (N k0 : Nat) (hN : N < 2147483648) (h0 : k0 ≤ N) (P : Nat → Prop) (p1 : Nat → Int32) (st : Nat → St) (hP : P k0) (step : ∀ (K8 : Int32 → Int32 → St → Prop) (k : Nat), k0 ≤ k → k ≤ N → P k → (k < N → P (k + 1) → K8 (p1 (k + 1)) (Int32.ofNat (k + 1)) (st (k + 1))) → wbX7_knot_8 K8 Q (p1 k) (Int32.ofNat k) (st k)) : ∃ n : Nat, wlX7_knot_8  Q n (p1 k0) (Int32.ofNat k0) (st k0) := by
  refine ilX7_knot_8 (fun x1 x2 f => ∃ k, k0 ≤ k ∧ k ≤ N ∧ P k ∧ x1 = p1 k ∧ x2 = Int32.ofNat k ∧ f = st k) (fun x1 x2 _ => N - x2.toNatClampNeg) ?_ _ _ _ ⟨k0, Nat.le_refl _, h0, hP, rfl, rfl, rfl⟩
  intro K x1 x2 f hI hK
  obtain ⟨k, h1, h2, h3, rfl, rfl, rfl⟩ := hI
  refine step K k h1 h2 h3 (fun h4 h5 => hK _ _ _ ⟨k + 1, by omega, by omega, h5, rfl, rfl, rfl⟩ ?_)
  show N - (Int32.ofNat (k + 1)).toNatClampNeg < N - (Int32.ofNat k).toNatClampNeg
  rw [n_clamp (by omega), n_clamp (by omega)]
  omega
theorem ilX7_room_67 {K104 : Int32 → Int32 → Int32 → Int32 → St → Prop} {Q : Int32 → St → Prop} (Inv : Int32 → Int32 → Int32 → Int32 → Int32 → St → Prop) (meas : Int32 → Int32 → Int32 → Int32 → Int32 → St → Nat) (step : ∀ (K67 : Int32 → Int32 → Int32 → Int32 → Int32 → St → Prop) (x2 : Int32) (x4 : Int32) (x5 : Int32) (x6 : Int32) (x7 : Int32) (f : St), Inv x2 x4 x5 x6 x7 f → (∀ (y2 : Int32) (y4 : Int32) (y5 : Int32) (y6 : Int32) (y7 : Int32) (f' : St), Inv y2 y4 y5 y6 y7 f' → meas y2 y4 y5 y6 y7 f' < meas x2 x4 x5 x6 x7 f → K67 y2 y4 y5 y6 y7 f') → wbX7_room_67 K67 K104 Q x2 x4 x5 x6 x7 f) (x2 : Int32) (x4 : Int32) (x5 : Int32) (x6 : Int32) (x7 : Int32) (f : St) (h : Inv x2 x4 x5 x6 x7 f) : ∃ n : Nat, wlX7_room_67 K104 Q n x2 x4 x5 x6 x7 f := by
  have key : ∀ (n : Nat) (x2 : Int32) (x4 : Int32) (x5 : Int32) (x6 : Int32) (x7 : Int32) (f : St), Inv x2 x4 x5 x6 x7 f → meas x2 x4 x5 x6 x7 f < n → wlX7_room_67 K104 Q n x2 x4 x5 x6 x7 f := by
    intro n
    induction n with
    | zero => intro x2 x4 x5 x6 x7 f hI hm; exact absurd hm (Nat.not_lt_zero _)
    | succ n ih => intro x2 x4 x5 x6 x7 f hI hm; exact step _ x2 x4 x5 x6 x7 f hI (fun y2 y4 y5 y6 y7 f' hI' hlt => ih y2 y4 y5 y6 y7 f' hI' (Nat.lt_of_lt_of_le hlt (Nat.le_of_lt_succ hm)))
  exact ⟨_, key _ x2 x4 x5 x6 x7 f h (Nat.lt_succ_self _)⟩
theorem icX7_room_67_2 {K104 : Int32 → Int32 → Int32 → Int32 → St → Prop} {Q : Int32 → St → Prop} (N k0 : Nat) (hN : N < 2147483648) (h0 : k0 ≤ N) (P : Nat → Prop) (p4 : Nat → Int32) (p5 : Nat → Int32) (p6 : Nat → Int32) (p7 : Nat → Int32) (st : Nat → St) (hP : P k0) (step : ∀ (K67 : Int32 → Int32 → Int32 → Int32 → Int32 → St → Prop) (k : Nat), k0 ≤ k → k ≤ N → P k → (k < N → P (k + 1) → K67 (Int32.ofNat (k + 1)) (p4 (k + 1)) (p5 (k + 1)) (p6 (k + 1)) (p7 (k + 1)) (st (k + 1))) → wbX7_room_67 K67 K104 Q (Int32.ofNat k) (p4 k) (p5 k) (p6 k) (p7 k) (st k)) : ∃ n : Nat, wlX7_room_67 K104 Q n (Int32.ofNat k0) (p4 k0) (p5 k0) (p6 k0) (p7 k0) (st k0) := by
  refine ilX7_room_67 (fun x2 x4 x5 x6 x7 f => ∃ k, k0 ≤ k ∧ k ≤ N ∧ P k ∧ x2 = Int32.ofNat k ∧ x4 = p4 k ∧ x5 = p5 k ∧ x6 = p6 k ∧ x7 = p7 k ∧ f = st k) (fun x2 x4 x5 x6 x7 _ => N - x2.toNatClampNeg) ?_ _ _ _ _ _ _ ⟨k0, Nat.le_refl _, h0, hP, rfl, rfl, rfl, rfl, rfl, rfl⟩
  intro K x2 x4 x5 x6 x7 f hI hK
  obtain ⟨k, h1, h2, h3, rfl, rfl, rfl, rfl, rfl, rfl⟩ := hI
  refine step K k h1 h2 h3 (fun h4 h5 => hK _ _ _ _ _ _ ⟨k + 1, by omega, by omega, h5, rfl, rfl, rfl, rfl, rfl, rfl⟩ ?_)
  show N - (Int32.ofNat (k + 1)).toNatClampNeg < N - (Int32.ofNat k).toNatClampNeg
  rw [n_clamp (by omega), n_clamp (by omega)]
  omega
theorem icX7_room_67_4 {K104 : Int32 → Int32 → Int32 → Int32 → St → Prop} {Q : Int32 → St → Prop} (N k0 : Nat) (hN : N < 2147483648) (h0 : k0 ≤ N) (P : Nat → Prop) (p2 : Nat → Int32) (p5 : Nat → Int32) (p6 : Nat → Int32) (p7 : Nat → Int32) (st : Nat → St) (hP : P k0) (step : ∀ (K67 : Int32 → Int32 → Int32 → Int32 → Int32 → St → Prop) (k : Nat), k0 ≤ k → k ≤ N → P k → (k < N → P (k + 1) → K67 (p2 (k + 1)) (Int32.ofNat (k + 1)) (p5 (k + 1)) (p6 (k + 1)) (p7 (k + 1)) (st (k + 1))) → wbX7_room_67 K67 K104 Q (p2 k) (Int32.ofNat k) (p5 k) (p6 k) (p7 k) (st k)) : ∃ n : Nat, wlX7_room_67 K104 Q n (p2 k0) (Int32.ofNat k0) (p5 k0) (p6 k0) (p7 k0) (st k0) := by
  refine ilX7_room_67 (fun x2 x4 x5 x6 x7 f => ∃ k, k0 ≤ k ∧ k ≤ N ∧ P k ∧ x2 = p2 k ∧ x4 = Int32.ofNat k ∧ x5 = p5 k ∧ x6 = p6 k ∧ x7 = p7 k ∧ f = st k) (fun x2 x4 x5 x6 x7 _ => N - x4.toNatClampNeg) ?_ _ _ _ _ _ _ ⟨k0, Nat.le_refl _, h0, hP, rfl, rfl, rfl, rfl, rfl, rfl⟩
  intro K x2 x4 x5 x6 x7 f hI hK
  obtain ⟨k, h1, h2, h3, rfl, rfl, rfl, rfl, rfl, rfl⟩ := hI
  refine step K k h1 h2 h3 (fun h4 h5 => hK _ _ _ _ _ _ ⟨k + 1, by omega, by omega, h5, rfl, rfl, rfl, rfl, rfl, rfl⟩ ?_)
  show N - (Int32.ofNat (k + 1)).toNatClampNeg < N - (Int32.ofNat k).toNatClampNeg
  rw [n_clamp (by omega), n_clamp (by omega)]
  omega
theorem icX7_room_67_5 {K104 : Int32 → Int32 → Int32 → Int32 → St → Prop} {Q : Int32 → St → Prop} (N k0 : Nat) (hN : N < 2147483648) (h0 : k0 ≤ N) (P : Nat → Prop) (p2 : Nat → Int32) (p4 : Nat → Int32) (p6 : Nat → Int32) (p7 : Nat → Int32) (st : Nat → St) (hP : P k0) (step : ∀ (K67 : Int32 → Int32 → Int32 → Int32 → Int32 → St → Prop) (k : Nat), k0 ≤ k → k ≤ N → P k → (k < N → P (k + 1) → K67 (p2 (k + 1)) (p4 (k + 1)) (Int32.ofNat (k + 1)) (p6 (k + 1)) (p7 (k + 1)) (st (k + 1))) → wbX7_room_67 K67 K104 Q (p2 k) (p4 k) (Int32.ofNat k) (p6 k) (p7 k) (st k)) : ∃ n : Nat, wlX7_room_67 K104 Q n (p2 k0) (p4 k0) (Int32.ofNat k0) (p6 k0) (p7 k0) (st k0) := by
  refine ilX7_room_67 (fun x2 x4 x5 x6 x7 f => ∃ k, k0 ≤ k ∧ k ≤ N ∧ P k ∧ x2 = p2 k ∧ x4 = p4 k ∧ x5 = Int32.ofNat k ∧ x6 = p6 k ∧ x7 = p7 k ∧ f = st k) (fun x2 x4 x5 x6 x7 _ => N - x5.toNatClampNeg) ?_ _ _ _ _ _ _ ⟨k0, Nat.le_refl _, h0, hP, rfl, rfl, rfl, rfl, rfl, rfl⟩
  intro K x2 x4 x5 x6 x7 f hI hK
  obtain ⟨k, h1, h2, h3, rfl, rfl, rfl, rfl, rfl, rfl⟩ := hI
  refine step K k h1 h2 h3 (fun h4 h5 => hK _ _ _ _ _ _ ⟨k + 1, by omega, by omega, h5, rfl, rfl, rfl, rfl, rfl, rfl⟩ ?_)
  show N - (Int32.ofNat (k + 1)).toNatClampNeg < N - (Int32.ofNat k).toNatClampNeg
  rw [n_clamp (by omega), n_clamp (by omega)]
  omega
theorem icX7_room_67_6 {K104 : Int32 → Int32 → Int32 → Int32 → St → Prop} {Q : Int32 → St → Prop} (N k0 : Nat) (hN : N < 2147483648) (h0 : k0 ≤ N) (P : Nat → Prop) (p2 : Nat → Int32) (p4 : Nat → Int32) (p5 : Nat → Int32) (p7 : Nat → Int32) (st : Nat → St) (hP : P k0) (step : ∀ (K67 : Int32 → Int32 → Int32 → Int32 → Int32 → St → Prop) (k : Nat), k0 ≤ k → k ≤ N → P k → (k < N → P (k + 1) → K67 (p2 (k + 1)) (p4 (k + 1)) (p5 (k + 1)) (Int32.ofNat (k + 1)) (p7 (k + 1)) (st (k + 1))) → wbX7_room_67 K67 K104 Q (p2 k) (p4 k) (p5 k) (Int32.ofNat k) (p7 k) (st k)) : ∃ n : Nat, wlX7_room_67 K104 Q n (p2 k0) (p4 k0) (p5 k0) (Int32.ofNat k0) (p7 k0) (st k0) := by
  refine ilX7_room_67 (fun x2 x4 x5 x6 x7 f => ∃ k, k0 ≤ k ∧ k ≤ N ∧ P k ∧ x2 = p2 k ∧ x4 = p4 k ∧ x5 = p5 k ∧ x6 = Int32.ofNat k ∧ x7 = p7 k ∧ f = st k) (fun x2 x4 x5 x6 x7 _ => N - x6.toNatClampNeg) ?_ _ _ _ _ _ _ ⟨k0, Nat.le_refl _, h0, hP, rfl, rfl, rfl, rfl, rfl, rfl⟩
  intro K x2 x4 x5 x6 x7 f hI hK
  obtain ⟨k, h1, h2, h3, rfl, rfl, rfl, rfl, rfl, rfl⟩ := hI
  refine step K k h1 h2 h3 (fun h4 h5 => hK _ _ _ _ _ _ ⟨k + 1, by omega, by omega, h5, rfl, rfl, rfl, rfl, rfl, rfl⟩ ?_)
  show N - (Int32.ofNat (k + 1)).toNatClampNeg < N - (Int32.ofNat k).toNatClampNeg
  rw [n_clamp (by omega), n_clamp (by omega)]
  omega
theorem icX7_room_67_7 {K104 : Int32 → Int32 → Int32 → Int32 → St → Prop} {Q : Int32 → St → Prop} (N k0 : Nat) (hN : N < 2147483648) (h0 : k0 ≤ N) (P : Nat → Prop) (p2 : Nat → Int32) (p4 : Nat → Int32) (p5 : Nat → Int32) (p6 : Nat → Int32) (st : Nat → St) (hP : P k0) (step : ∀ (K67 : Int32 → Int32 → Int32 → Int32 → Int32 → St → Prop) (k : Nat), k0 ≤ k → k ≤ N → P k → (k < N → P (k + 1) → K67 (p2 (k + 1)) (p4 (k + 1)) (p5 (k + 1)) (p6 (k + 1)) (Int32.ofNat (k + 1)) (st (k + 1))) → wbX7_room_67 K67 K104 Q (p2 k) (p4 k) (p5 k) (p6 k) (Int32.ofNat k) (st k)) : ∃ n : Nat, wlX7_room_67 K104 Q n (p2 k0) (p4 k0) (p5 k0) (p6 k0) (Int32.ofNat k0) (st k0) := by
  refine ilX7_room_67 (fun x2 x4 x5 x6 x7 f => ∃ k, k0 ≤ k ∧ k ≤ N ∧ P k ∧ x2 = p2 k ∧ x4 = p4 k ∧ x5 = p5 k ∧ x6 = p6 k ∧ x7 = Int32.ofNat k ∧ f = st k) (fun x2 x4 x5 x6 x7 _ => N - x7.toNatClampNeg) ?_ _ _ _ _ _ _ ⟨k0, Nat.le_refl _, h0, hP, rfl, rfl, rfl, rfl, rfl, rfl⟩
  intro K x2 x4 x5 x6 x7 f hI hK
  obtain ⟨k, h1, h2, h3, rfl, rfl, rfl, rfl, rfl, rfl⟩ := hI
  refine step K k h1 h2 h3 (fun h4 h5 => hK _ _ _ _ _ _ ⟨k + 1, by omega, by omega, h5, rfl, rfl, rfl, rfl, rfl, rfl⟩ ?_)
  show N - (Int32.ofNat (k + 1)).toNatClampNeg < N - (Int32.ofNat k).toNatClampNeg
  rw [n_clamp (by omega), n_clamp (by omega)]
  omega
theorem ilX7_room_42  {Q : Int32 → St → Prop} (Inv : Int32 → Int32 → Int32 → St → Prop) (meas : Int32 → Int32 → Int32 → St → Nat) (step : ∀ (K42 : Int32 → Int32 → Int32 → St → Prop) (x2 : Int32) (x4 : Int32) (x5 : Int32) (f : St), Inv x2 x4 x5 f → (∀ (y2 : Int32) (y4 : Int32) (y5 : Int32) (f' : St), Inv y2 y4 y5 f' → meas y2 y4 y5 f' < meas x2 x4 x5 f → K42 y2 y4 y5 f') → wbX7_room_42 K42 Q x2 x4 x5 f) (x2 : Int32) (x4 : Int32) (x5 : Int32) (f : St) (h : Inv x2 x4 x5 f) : ∃ n : Nat, wlX7_room_42  Q n x2 x4 x5 f := by
  have key : ∀ (n : Nat) (x2 : Int32) (x4 : Int32) (x5 : Int32) (f : St), Inv x2 x4 x5 f → meas x2 x4 x5 f < n → wlX7_room_42  Q n x2 x4 x5 f := by
    intro n
    induction n with
    | zero => intro x2 x4 x5 f hI hm; exact absurd hm (Nat.not_lt_zero _)
    | succ n ih => intro x2 x4 x5 f hI hm; exact step _ x2 x4 x5 f hI (fun y2 y4 y5 f' hI' hlt => ih y2 y4 y5 f' hI' (Nat.lt_of_lt_of_le hlt (Nat.le_of_lt_succ hm)))
  exact ⟨_, key _ x2 x4 x5 f h (Nat.lt_succ_self _)⟩
theorem icX7_room_42_2  {Q : Int32 → St → Prop} (N k0 : Nat) (hN : N < 2147483648) (h0 : k0 ≤ N) (P : Nat → Prop) (p4 : Nat → Int32) (p5 : Nat → Int32) (st : Nat → St) (hP : P k0) (step : ∀ (K42 : Int32 → Int32 → Int32 → St → Prop) (k : Nat), k0 ≤ k → k ≤ N → P k → (k < N → P (k + 1) → K42 (Int32.ofNat (k + 1)) (p4 (k + 1)) (p5 (k + 1)) (st (k + 1))) → wbX7_room_42 K42 Q (Int32.ofNat k) (p4 k) (p5 k) (st k)) : ∃ n : Nat, wlX7_room_42  Q n (Int32.ofNat k0) (p4 k0) (p5 k0) (st k0) := by
  refine ilX7_room_42 (fun x2 x4 x5 f => ∃ k, k0 ≤ k ∧ k ≤ N ∧ P k ∧ x2 = Int32.ofNat k ∧ x4 = p4 k ∧ x5 = p5 k ∧ f = st k) (fun x2 x4 x5 _ => N - x2.toNatClampNeg) ?_ _ _ _ _ ⟨k0, Nat.le_refl _, h0, hP, rfl, rfl, rfl, rfl⟩
  intro K x2 x4 x5 f hI hK
  obtain ⟨k, h1, h2, h3, rfl, rfl, rfl, rfl⟩ := hI
  refine step K k h1 h2 h3 (fun h4 h5 => hK _ _ _ _ ⟨k + 1, by omega, by omega, h5, rfl, rfl, rfl, rfl⟩ ?_)
  show N - (Int32.ofNat (k + 1)).toNatClampNeg < N - (Int32.ofNat k).toNatClampNeg
  rw [n_clamp (by omega), n_clamp (by omega)]
  omega
theorem icX7_room_42_4  {Q : Int32 → St → Prop} (N k0 : Nat) (hN : N < 2147483648) (h0 : k0 ≤ N) (P : Nat → Prop) (p2 : Nat → Int32) (p5 : Nat → Int32) (st : Nat → St) (hP : P k0) (step : ∀ (K42 : Int32 → Int32 → Int32 → St → Prop) (k : Nat), k0 ≤ k → k ≤ N → P k → (k < N → P (k + 1) → K42 (p2 (k + 1)) (Int32.ofNat (k + 1)) (p5 (k + 1)) (st (k + 1))) → wbX7_room_42 K42 Q (p2 k) (Int32.ofNat k) (p5 k) (st k)) : ∃ n : Nat, wlX7_room_42  Q n (p2 k0) (Int32.ofNat k0) (p5 k0) (st k0) := by
  refine ilX7_room_42 (fun x2 x4 x5 f => ∃ k, k0 ≤ k ∧ k ≤ N ∧ P k ∧ x2 = p2 k ∧ x4 = Int32.ofNat k ∧ x5 = p5 k ∧ f = st k) (fun x2 x4 x5 _ => N - x4.toNatClampNeg) ?_ _ _ _ _ ⟨k0, Nat.le_refl _, h0, hP, rfl, rfl, rfl, rfl⟩
  intro K x2 x4 x5 f hI hK
  obtain ⟨k, h1, h2, h3, rfl, rfl, rfl, rfl⟩ := hI
  refine step K k h1 h2 h3 (fun h4 h5 => hK _ _ _ _ ⟨k + 1, by omega, by omega, h5, rfl, rfl, rfl, rfl⟩ ?_)
  show N - (Int32.ofNat (k + 1)).toNatClampNeg < N - (Int32.ofNat k).toNatClampNeg
  rw [n_clamp (by omega), n_clamp (by omega)]
  omega
theorem icX7_room_42_5  {Q : Int32 → St → Prop} (N k0 : Nat) (hN : N < 2147483648) (h0 : k0 ≤ N) (P : Nat → Prop) (p2 : Nat → Int32) (p4 : Nat → Int32) (st : Nat → St) (hP : P k0) (step : ∀ (K42 : Int32 → Int32 → Int32 → St → Prop) (k : Nat), k0 ≤ k → k ≤ N → P k → (k < N → P (k + 1) → K42 (p2 (k + 1)) (p4 (k + 1)) (Int32.ofNat (k + 1)) (st (k + 1))) → wbX7_room_42 K42 Q (p2 k) (p4 k) (Int32.ofNat k) (st k)) : ∃ n : Nat, wlX7_room_42  Q n (p2 k0) (p4 k0) (Int32.ofNat k0) (st k0) := by
  refine ilX7_room_42 (fun x2 x4 x5 f => ∃ k, k0 ≤ k ∧ k ≤ N ∧ P k ∧ x2 = p2 k ∧ x4 = p4 k ∧ x5 = Int32.ofNat k ∧ f = st k) (fun x2 x4 x5 _ => N - x5.toNatClampNeg) ?_ _ _ _ _ ⟨k0, Nat.le_refl _, h0, hP, rfl, rfl, rfl, rfl⟩
  intro K x2 x4 x5 f hI hK
  obtain ⟨k, h1, h2, h3, rfl, rfl, rfl, rfl⟩ := hI
  refine step K k h1 h2 h3 (fun h4 h5 => hK _ _ _ _ ⟨k + 1, by omega, by omega, h5, rfl, rfl, rfl, rfl⟩ ?_)
  show N - (Int32.ofNat (k + 1)).toNatClampNeg < N - (Int32.ofNat k).toNatClampNeg
  rw [n_clamp (by omega), n_clamp (by omega)]
  omega
theorem ilX7_round_99 {K147 : Int32 → Int32 → Int32 → Int32 → Int32 → Int32 → Int32 → St → Prop} {Q : Int32 → St → Prop} (Inv : Int32 → Int32 → Int32 → Int32 → Int32 → Int32 → Int32 → Int32 → St → Prop) (meas : Int32 → Int32 → Int32 → Int32 → Int32 → Int32 → Int32 → Int32 → St → Nat) (step : ∀ (K99 : Int32 → Int32 → Int32 → Int32 → Int32 → Int32 → Int32 → Int32 → St → Prop) (x3 : Int32) (x4 : Int32) (x5 : Int32) (x6 : Int32) (x7 : Int32) (x8 : Int32) (x9 : Int32) (x10 : Int32) (f : St), Inv x3 x4 x5 x6 x7 x8 x9 x10 f → (∀ (y3 : Int32) (y4 : Int32) (y5 : Int32) (y6 : Int32) (y7 : Int32) (y8 : Int32) (y9 : Int32) (y10 : Int32) (f' : St), Inv y3 y4 y5 y6 y7 y8 y9 y10 f' → meas y3 y4 y5 y6 y7 y8 y9 y10 f' < meas x3 x4 x5 x6 x7 x8 x9 x10 f → K99 y3 y4 y5 y6 y7 y8 y9 y10 f') → wbX7_round_99 K99 K147 Q x3 x4 x5 x6 x7 x8 x9 x10 f) (x3 : Int32) (x4 : Int32) (x5 : Int32) (x6 : Int32) (x7 : Int32) (x8 : Int32) (x9 : Int32) (x10 : Int32) (f : St) (h : Inv x3 x4 x5 x6 x7 x8 x9 x10 f) : ∃ n : Nat, wlX7_round_99 K147 Q n x3 x4 x5 x6 x7 x8 x9 x10 f := by
  have key : ∀ (n : Nat) (x3 : Int32) (x4 : Int32) (x5 : Int32) (x6 : Int32) (x7 : Int32) (x8 : Int32) (x9 : Int32) (x10 : Int32) (f : St), Inv x3 x4 x5 x6 x7 x8 x9 x10 f → meas x3 x4 x5 x6 x7 x8 x9 x10 f < n → wlX7_round_99 K147 Q n x3 x4 x5 x6 x7 x8 x9 x10 f := by
    intro n
    induction n with
    | zero => intro x3 x4 x5 x6 x7 x8 x9 x10 f hI hm; exact absurd hm (Nat.not_lt_zero _)
    | succ n ih => intro x3 x4 x5 x6 x7 x8 x9 x10 f hI hm; exact step _ x3 x4 x5 x6 x7 x8 x9 x10 f hI (fun y3 y4 y5 y6 y7 y8 y9 y10 f' hI' hlt => ih y3 y4 y5 y6 y7 y8 y9 y10 f' hI' (Nat.lt_of_lt_of_le hlt (Nat.le_of_lt_succ hm)))
  exact ⟨_, key _ x3 x4 x5 x6 x7 x8 x9 x10 f h (Nat.lt_succ_self _)⟩
theorem icX7_round_99_3 {K147 : Int32 → Int32 → Int32 → Int32 → Int32 → Int32 → Int32 → St → Prop} {Q : Int32 → St → Prop} (N k0 : Nat) (hN : N < 2147483648) (h0 : k0 ≤ N) (P : Nat → Prop) (p4 : Nat → Int32) (p5 : Nat → Int32) (p6 : Nat → Int32) (p7 : Nat → Int32) (p8 : Nat → Int32) (p9 : Nat → Int32) (p10 : Nat → Int32) (st : Nat → St) (hP : P k0) (step : ∀ (K99 : Int32 → Int32 → Int32 → Int32 → Int32 → Int32 → Int32 → Int32 → St → Prop) (k : Nat), k0 ≤ k → k ≤ N → P k → (k < N → P (k + 1) → K99 (Int32.ofNat (k + 1)) (p4 (k + 1)) (p5 (k + 1)) (p6 (k + 1)) (p7 (k + 1)) (p8 (k + 1)) (p9 (k + 1)) (p10 (k + 1)) (st (k + 1))) → wbX7_round_99 K99 K147 Q (Int32.ofNat k) (p4 k) (p5 k) (p6 k) (p7 k) (p8 k) (p9 k) (p10 k) (st k)) : ∃ n : Nat, wlX7_round_99 K147 Q n (Int32.ofNat k0) (p4 k0) (p5 k0) (p6 k0) (p7 k0) (p8 k0) (p9 k0) (p10 k0) (st k0) := by
  refine ilX7_round_99 (fun x3 x4 x5 x6 x7 x8 x9 x10 f => ∃ k, k0 ≤ k ∧ k ≤ N ∧ P k ∧ x3 = Int32.ofNat k ∧ x4 = p4 k ∧ x5 = p5 k ∧ x6 = p6 k ∧ x7 = p7 k ∧ x8 = p8 k ∧ x9 = p9 k ∧ x10 = p10 k ∧ f = st k) (fun x3 x4 x5 x6 x7 x8 x9 x10 _ => N - x3.toNatClampNeg) ?_ _ _ _ _ _ _ _ _ _ ⟨k0, Nat.le_refl _, h0, hP, rfl, rfl, rfl, rfl, rfl, rfl, rfl, rfl, rfl⟩
  intro K x3 x4 x5 x6 x7 x8 x9 x10 f hI hK
  obtain ⟨k, h1, h2, h3, rfl, rfl, rfl, rfl, rfl, rfl, rfl, rfl, rfl⟩ := hI
  refine step K k h1 h2 h3 (fun h4 h5 => hK _ _ _ _ _ _ _ _ _ ⟨k + 1, by omega, by omega, h5, rfl, rfl, rfl, rfl, rfl, rfl, rfl, rfl, rfl⟩ ?_)
  show N - (Int32.ofNat (k + 1)).toNatClampNeg < N - (Int32.ofNat k).toNatClampNeg
  rw [n_clamp (by omega), n_clamp (by omega)]
  omega
theorem icX7_round_99_4 {K147 : Int32 → Int32 → Int32 → Int32 → Int32 → Int32 → Int32 → St → Prop} {Q : Int32 → St → Prop} (N k0 : Nat) (hN : N < 2147483648) (h0 : k0 ≤ N) (P : Nat → Prop) (p3 : Nat → Int32) (p5 : Nat → Int32) (p6 : Nat → Int32) (p7 : Nat → Int32) (p8 : Nat → Int32) (p9 : Nat → Int32) (p10 : Nat → Int32) (st : Nat → St) (hP : P k0) (step : ∀ (K99 : Int32 → Int32 → Int32 → Int32 → Int32 → Int32 → Int32 → Int32 → St → Prop) (k : Nat), k0 ≤ k → k ≤ N → P k → (k < N → P (k + 1) → K99 (p3 (k + 1)) (Int32.ofNat (k + 1)) (p5 (k + 1)) (p6 (k + 1)) (p7 (k + 1)) (p8 (k + 1)) (p9 (k + 1)) (p10 (k + 1)) (st (k + 1))) → wbX7_round_99 K99 K147 Q (p3 k) (Int32.ofNat k) (p5 k) (p6 k) (p7 k) (p8 k) (p9 k) (p10 k) (st k)) : ∃ n : Nat, wlX7_round_99 K147 Q n (p3 k0) (Int32.ofNat k0) (p5 k0) (p6 k0) (p7 k0) (p8 k0) (p9 k0) (p10 k0) (st k0) := by
  refine ilX7_round_99 (fun x3 x4 x5 x6 x7 x8 x9 x10 f => ∃ k, k0 ≤ k ∧ k ≤ N ∧ P k ∧ x3 = p3 k ∧ x4 = Int32.ofNat k ∧ x5 = p5 k ∧ x6 = p6 k ∧ x7 = p7 k ∧ x8 = p8 k ∧ x9 = p9 k ∧ x10 = p10 k ∧ f = st k) (fun x3 x4 x5 x6 x7 x8 x9 x10 _ => N - x4.toNatClampNeg) ?_ _ _ _ _ _ _ _ _ _ ⟨k0, Nat.le_refl _, h0, hP, rfl, rfl, rfl, rfl, rfl, rfl, rfl, rfl, rfl⟩
  intro K x3 x4 x5 x6 x7 x8 x9 x10 f hI hK
  obtain ⟨k, h1, h2, h3, rfl, rfl, rfl, rfl, rfl, rfl, rfl, rfl, rfl⟩ := hI
  refine step K k h1 h2 h3 (fun h4 h5 => hK _ _ _ _ _ _ _ _ _ ⟨k + 1, by omega, by omega, h5, rfl, rfl, rfl, rfl, rfl, rfl, rfl, rfl, rfl⟩ ?_)
  show N - (Int32.ofNat (k + 1)).toNatClampNeg < N - (Int32.ofNat k).toNatClampNeg
  rw [n_clamp (by omega), n_clamp (by omega)]
  omega
theorem icX7_round_99_5 {K147 : Int32 → Int32 → Int32 → Int32 → Int32 → Int32 → Int32 → St → Prop} {Q : Int32 → St → Prop} (N k0 : Nat) (hN : N < 2147483648) (h0 : k0 ≤ N) (P : Nat → Prop) (p3 : Nat → Int32) (p4 : Nat → Int32) (p6 : Nat → Int32) (p7 : Nat → Int32) (p8 : Nat → Int32) (p9 : Nat → Int32) (p10 : Nat → Int32) (st : Nat → St) (hP : P k0) (step : ∀ (K99 : Int32 → Int32 → Int32 → Int32 → Int32 → Int32 → Int32 → Int32 → St → Prop) (k : Nat), k0 ≤ k → k ≤ N → P k → (k < N → P (k + 1) → K99 (p3 (k + 1)) (p4 (k + 1)) (Int32.ofNat (k + 1)) (p6 (k + 1)) (p7 (k + 1)) (p8 (k + 1)) (p9 (k + 1)) (p10 (k + 1)) (st (k + 1))) → wbX7_round_99 K99 K147 Q (p3 k) (p4 k) (Int32.ofNat k) (p6 k) (p7 k) (p8 k) (p9 k) (p10 k) (st k)) : ∃ n : Nat, wlX7_round_99 K147 Q n (p3 k0) (p4 k0) (Int32.ofNat k0) (p6 k0) (p7 k0) (p8 k0) (p9 k0) (p10 k0) (st k0) := by
  refine ilX7_round_99 (fun x3 x4 x5 x6 x7 x8 x9 x10 f => ∃ k, k0 ≤ k ∧ k ≤ N ∧ P k ∧ x3 = p3 k ∧ x4 = p4 k ∧ x5 = Int32.ofNat k ∧ x6 = p6 k ∧ x7 = p7 k ∧ x8 = p8 k ∧ x9 = p9 k ∧ x10 = p10 k ∧ f = st k) (fun x3 x4 x5 x6 x7 x8 x9 x10 _ => N - x5.toNatClampNeg) ?_ _ _ _ _ _ _ _ _ _ ⟨k0, Nat.le_refl _, h0, hP, rfl, rfl, rfl, rfl, rfl, rfl, rfl, rfl, rfl⟩
  intro K x3 x4 x5 x6 x7 x8 x9 x10 f hI hK
  obtain ⟨k, h1, h2, h3, rfl, rfl, rfl, rfl, rfl, rfl, rfl, rfl, rfl⟩ := hI
  refine step K k h1 h2 h3 (fun h4 h5 => hK _ _ _ _ _ _ _ _ _ ⟨k + 1, by omega, by omega, h5, rfl, rfl, rfl, rfl, rfl, rfl, rfl, rfl, rfl⟩ ?_)
  show N - (Int32.ofNat (k + 1)).toNatClampNeg < N - (Int32.ofNat k).toNatClampNeg
  rw [n_clamp (by omega), n_clamp (by omega)]
  omega
theorem icX7_round_99_6 {K147 : Int32 → Int32 → Int32 → Int32 → Int32 → Int32 → Int32 → St → Prop} {Q : Int32 → St → Prop} (N k0 : Nat) (hN : N < 2147483648) (h0 : k0 ≤ N) (P : Nat → Prop) (p3 : Nat → Int32) (p4 : Nat → Int32) (p5 : Nat → Int32) (p7 : Nat → Int32) (p8 : Nat → Int32) (p9 : Nat → Int32) (p10 : Nat → Int32) (st : Nat → St) (hP : P k0) (step : ∀ (K99 : Int32 → Int32 → Int32 → Int32 → Int32 → Int32 → Int32 → Int32 → St → Prop) (k : Nat), k0 ≤ k → k ≤ N → P k → (k < N → P (k + 1) → K99 (p3 (k + 1)) (p4 (k + 1)) (p5 (k + 1)) (Int32.ofNat (k + 1)) (p7 (k + 1)) (p8 (k + 1)) (p9 (k + 1)) (p10 (k + 1)) (st (k + 1))) → wbX7_round_99 K99 K147 Q (p3 k) (p4 k) (p5 k) (Int32.ofNat k) (p7 k) (p8 k) (p9 k) (p10 k) (st k)) : ∃ n : Nat, wlX7_round_99 K147 Q n (p3 k0) (p4 k0) (p5 k0) (Int32.ofNat k0) (p7 k0) (p8 k0) (p9 k0) (p10 k0) (st k0) := by
  refine ilX7_round_99 (fun x3 x4 x5 x6 x7 x8 x9 x10 f => ∃ k, k0 ≤ k ∧ k ≤ N ∧ P k ∧ x3 = p3 k ∧ x4 = p4 k ∧ x5 = p5 k ∧ x6 = Int32.ofNat k ∧ x7 = p7 k ∧ x8 = p8 k ∧ x9 = p9 k ∧ x10 = p10 k ∧ f = st k) (fun x3 x4 x5 x6 x7 x8 x9 x10 _ => N - x6.toNatClampNeg) ?_ _ _ _ _ _ _ _ _ _ ⟨k0, Nat.le_refl _, h0, hP, rfl, rfl, rfl, rfl, rfl, rfl, rfl, rfl, rfl⟩
  intro K x3 x4 x5 x6 x7 x8 x9 x10 f hI hK
  obtain ⟨k, h1, h2, h3, rfl, rfl, rfl, rfl, rfl, rfl, rfl, rfl, rfl⟩ := hI
  refine step K k h1 h2 h3 (fun h4 h5 => hK _ _ _ _ _ _ _ _ _ ⟨k + 1, by omega, by omega, h5, rfl, rfl, rfl, rfl, rfl, rfl, rfl, rfl, rfl⟩ ?_)
  show N - (Int32.ofNat (k + 1)).toNatClampNeg < N - (Int32.ofNat k).toNatClampNeg
  rw [n_clamp (by omega), n_clamp (by omega)]
  omega
theorem icX7_round_99_7 {K147 : Int32 → Int32 → Int32 → Int32 → Int32 → Int32 → Int32 → St → Prop} {Q : Int32 → St → Prop} (N k0 : Nat) (hN : N < 2147483648) (h0 : k0 ≤ N) (P : Nat → Prop) (p3 : Nat → Int32) (p4 : Nat → Int32) (p5 : Nat → Int32) (p6 : Nat → Int32) (p8 : Nat → Int32) (p9 : Nat → Int32) (p10 : Nat → Int32) (st : Nat → St) (hP : P k0) (step : ∀ (K99 : Int32 → Int32 → Int32 → Int32 → Int32 → Int32 → Int32 → Int32 → St → Prop) (k : Nat), k0 ≤ k → k ≤ N → P k → (k < N → P (k + 1) → K99 (p3 (k + 1)) (p4 (k + 1)) (p5 (k + 1)) (p6 (k + 1)) (Int32.ofNat (k + 1)) (p8 (k + 1)) (p9 (k + 1)) (p10 (k + 1)) (st (k + 1))) → wbX7_round_99 K99 K147 Q (p3 k) (p4 k) (p5 k) (p6 k) (Int32.ofNat k) (p8 k) (p9 k) (p10 k) (st k)) : ∃ n : Nat, wlX7_round_99 K147 Q n (p3 k0) (p4 k0) (p5 k0) (p6 k0) (Int32.ofNat k0) (p8 k0) (p9 k0) (p10 k0) (st k0) := by
  refine ilX7_round_99 (fun x3 x4 x5 x6 x7 x8 x9 x10 f => ∃ k, k0 ≤ k ∧ k ≤ N ∧ P k ∧ x3 = p3 k ∧ x4 = p4 k ∧ x5 = p5 k ∧ x6 = p6 k ∧ x7 = Int32.ofNat k ∧ x8 = p8 k ∧ x9 = p9 k ∧ x10 = p10 k ∧ f = st k) (fun x3 x4 x5 x6 x7 x8 x9 x10 _ => N - x7.toNatClampNeg) ?_ _ _ _ _ _ _ _ _ _ ⟨k0, Nat.le_refl _, h0, hP, rfl, rfl, rfl, rfl, rfl, rfl, rfl, rfl, rfl⟩
  intro K x3 x4 x5 x6 x7 x8 x9 x10 f hI hK
  obtain ⟨k, h1, h2, h3, rfl, rfl, rfl, rfl, rfl, rfl, rfl, rfl, rfl⟩ := hI
  refine step K k h1 h2 h3 (fun h4 h5 => hK _ _ _ _ _ _ _ _ _ ⟨k + 1, by omega, by omega, h5, rfl, rfl, rfl, rfl, rfl, rfl, rfl, rfl, rfl⟩ ?_)
  show N - (Int32.ofNat (k + 1)).toNatClampNeg < N - (Int32.ofNat k).toNatClampNeg
  rw [n_clamp (by omega), n_clamp (by omega)]
  omega
theorem icX7_round_99_8 {K147 : Int32 → Int32 → Int32 → Int32 → Int32 → Int32 → Int32 → St → Prop} {Q : Int32 → St → Prop} (N k0 : Nat) (hN : N < 2147483648) (h0 : k0 ≤ N) (P : Nat → Prop) (p3 : Nat → Int32) (p4 : Nat → Int32) (p5 : Nat → Int32) (p6 : Nat → Int32) (p7 : Nat → Int32) (p9 : Nat → Int32) (p10 : Nat → Int32) (st : Nat → St) (hP : P k0) (step : ∀ (K99 : Int32 → Int32 → Int32 → Int32 → Int32 → Int32 → Int32 → Int32 → St → Prop) (k : Nat), k0 ≤ k → k ≤ N → P k → (k < N → P (k + 1) → K99 (p3 (k + 1)) (p4 (k + 1)) (p5 (k + 1)) (p6 (k + 1)) (p7 (k + 1)) (Int32.ofNat (k + 1)) (p9 (k + 1)) (p10 (k + 1)) (st (k + 1))) → wbX7_round_99 K99 K147 Q (p3 k) (p4 k) (p5 k) (p6 k) (p7 k) (Int32.ofNat k) (p9 k) (p10 k) (st k)) : ∃ n : Nat, wlX7_round_99 K147 Q n (p3 k0) (p4 k0) (p5 k0) (p6 k0) (p7 k0) (Int32.ofNat k0) (p9 k0) (p10 k0) (st k0) := by
  refine ilX7_round_99 (fun x3 x4 x5 x6 x7 x8 x9 x10 f => ∃ k, k0 ≤ k ∧ k ≤ N ∧ P k ∧ x3 = p3 k ∧ x4 = p4 k ∧ x5 = p5 k ∧ x6 = p6 k ∧ x7 = p7 k ∧ x8 = Int32.ofNat k ∧ x9 = p9 k ∧ x10 = p10 k ∧ f = st k) (fun x3 x4 x5 x6 x7 x8 x9 x10 _ => N - x8.toNatClampNeg) ?_ _ _ _ _ _ _ _ _ _ ⟨k0, Nat.le_refl _, h0, hP, rfl, rfl, rfl, rfl, rfl, rfl, rfl, rfl, rfl⟩
  intro K x3 x4 x5 x6 x7 x8 x9 x10 f hI hK
  obtain ⟨k, h1, h2, h3, rfl, rfl, rfl, rfl, rfl, rfl, rfl, rfl, rfl⟩ := hI
  refine step K k h1 h2 h3 (fun h4 h5 => hK _ _ _ _ _ _ _ _ _ ⟨k + 1, by omega, by omega, h5, rfl, rfl, rfl, rfl, rfl, rfl, rfl, rfl, rfl⟩ ?_)
  show N - (Int32.ofNat (k + 1)).toNatClampNeg < N - (Int32.ofNat k).toNatClampNeg
  rw [n_clamp (by omega), n_clamp (by omega)]
  omega
theorem icX7_round_99_9 {K147 : Int32 → Int32 → Int32 → Int32 → Int32 → Int32 → Int32 → St → Prop} {Q : Int32 → St → Prop} (N k0 : Nat) (hN : N < 2147483648) (h0 : k0 ≤ N) (P : Nat → Prop) (p3 : Nat → Int32) (p4 : Nat → Int32) (p5 : Nat → Int32) (p6 : Nat → Int32) (p7 : Nat → Int32) (p8 : Nat → Int32) (p10 : Nat → Int32) (st : Nat → St) (hP : P k0) (step : ∀ (K99 : Int32 → Int32 → Int32 → Int32 → Int32 → Int32 → Int32 → Int32 → St → Prop) (k : Nat), k0 ≤ k → k ≤ N → P k → (k < N → P (k + 1) → K99 (p3 (k + 1)) (p4 (k + 1)) (p5 (k + 1)) (p6 (k + 1)) (p7 (k + 1)) (p8 (k + 1)) (Int32.ofNat (k + 1)) (p10 (k + 1)) (st (k + 1))) → wbX7_round_99 K99 K147 Q (p3 k) (p4 k) (p5 k) (p6 k) (p7 k) (p8 k) (Int32.ofNat k) (p10 k) (st k)) : ∃ n : Nat, wlX7_round_99 K147 Q n (p3 k0) (p4 k0) (p5 k0) (p6 k0) (p7 k0) (p8 k0) (Int32.ofNat k0) (p10 k0) (st k0) := by
  refine ilX7_round_99 (fun x3 x4 x5 x6 x7 x8 x9 x10 f => ∃ k, k0 ≤ k ∧ k ≤ N ∧ P k ∧ x3 = p3 k ∧ x4 = p4 k ∧ x5 = p5 k ∧ x6 = p6 k ∧ x7 = p7 k ∧ x8 = p8 k ∧ x9 = Int32.ofNat k ∧ x10 = p10 k ∧ f = st k) (fun x3 x4 x5 x6 x7 x8 x9 x10 _ => N - x9.toNatClampNeg) ?_ _ _ _ _ _ _ _ _ _ ⟨k0, Nat.le_refl _, h0, hP, rfl, rfl, rfl, rfl, rfl, rfl, rfl, rfl, rfl⟩
  intro K x3 x4 x5 x6 x7 x8 x9 x10 f hI hK
  obtain ⟨k, h1, h2, h3, rfl, rfl, rfl, rfl, rfl, rfl, rfl, rfl, rfl⟩ := hI
  refine step K k h1 h2 h3 (fun h4 h5 => hK _ _ _ _ _ _ _ _ _ ⟨k + 1, by omega, by omega, h5, rfl, rfl, rfl, rfl, rfl, rfl, rfl, rfl, rfl⟩ ?_)
  show N - (Int32.ofNat (k + 1)).toNatClampNeg < N - (Int32.ofNat k).toNatClampNeg
  rw [n_clamp (by omega), n_clamp (by omega)]
  omega
theorem icX7_round_99_10 {K147 : Int32 → Int32 → Int32 → Int32 → Int32 → Int32 → Int32 → St → Prop} {Q : Int32 → St → Prop} (N k0 : Nat) (hN : N < 2147483648) (h0 : k0 ≤ N) (P : Nat → Prop) (p3 : Nat → Int32) (p4 : Nat → Int32) (p5 : Nat → Int32) (p6 : Nat → Int32) (p7 : Nat → Int32) (p8 : Nat → Int32) (p9 : Nat → Int32) (st : Nat → St) (hP : P k0) (step : ∀ (K99 : Int32 → Int32 → Int32 → Int32 → Int32 → Int32 → Int32 → Int32 → St → Prop) (k : Nat), k0 ≤ k → k ≤ N → P k → (k < N → P (k + 1) → K99 (p3 (k + 1)) (p4 (k + 1)) (p5 (k + 1)) (p6 (k + 1)) (p7 (k + 1)) (p8 (k + 1)) (p9 (k + 1)) (Int32.ofNat (k + 1)) (st (k + 1))) → wbX7_round_99 K99 K147 Q (p3 k) (p4 k) (p5 k) (p6 k) (p7 k) (p8 k) (p9 k) (Int32.ofNat k) (st k)) : ∃ n : Nat, wlX7_round_99 K147 Q n (p3 k0) (p4 k0) (p5 k0) (p6 k0) (p7 k0) (p8 k0) (p9 k0) (Int32.ofNat k0) (st k0) := by
  refine ilX7_round_99 (fun x3 x4 x5 x6 x7 x8 x9 x10 f => ∃ k, k0 ≤ k ∧ k ≤ N ∧ P k ∧ x3 = p3 k ∧ x4 = p4 k ∧ x5 = p5 k ∧ x6 = p6 k ∧ x7 = p7 k ∧ x8 = p8 k ∧ x9 = p9 k ∧ x10 = Int32.ofNat k ∧ f = st k) (fun x3 x4 x5 x6 x7 x8 x9 x10 _ => N - x10.toNatClampNeg) ?_ _ _ _ _ _ _ _ _ _ ⟨k0, Nat.le_refl _, h0, hP, rfl, rfl, rfl, rfl, rfl, rfl, rfl, rfl, rfl⟩
  intro K x3 x4 x5 x6 x7 x8 x9 x10 f hI hK
  obtain ⟨k, h1, h2, h3, rfl, rfl, rfl, rfl, rfl, rfl, rfl, rfl, rfl⟩ := hI
  refine step K k h1 h2 h3 (fun h4 h5 => hK _ _ _ _ _ _ _ _ _ ⟨k + 1, by omega, by omega, h5, rfl, rfl, rfl, rfl, rfl, rfl, rfl, rfl, rfl⟩ ?_)
  show N - (Int32.ofNat (k + 1)).toNatClampNeg < N - (Int32.ofNat k).toNatClampNeg
  rw [n_clamp (by omega), n_clamp (by omega)]
  omega
theorem ilX7_round_86 {K175 : Int32 → Int32 → Int32 → Int32 → Int32 → St → Prop} {Q : Int32 → St → Prop} (Inv : Int32 → Int32 → Int32 → Int32 → Int32 → Int32 → St → Prop) (meas : Int32 → Int32 → Int32 → Int32 → Int32 → Int32 → St → Nat) (step : ∀ (K86 : Int32 → Int32 → Int32 → Int32 → Int32 → Int32 → St → Prop) (x3 : Int32) (x4 : Int32) (x5 : Int32) (x6 : Int32) (x7 : Int32) (x8 : Int32) (f : St), Inv x3 x4 x5 x6 x7 x8 f → (∀ (y3 : Int32) (y4 : Int32) (y5 : Int32) (y6 : Int32) (y7 : Int32) (y8 : Int32) (f' : St), Inv y3 y4 y5 y6 y7 y8 f' → meas y3 y4 y5 y6 y7 y8 f' < meas x3 x4 x5 x6 x7 x8 f → K86 y3 y4 y5 y6 y7 y8 f') → wbX7_round_86 K86 K175 Q x3 x4 x5 x6 x7 x8 f) (x3 : Int32) (x4 : Int32) (x5 : Int32) (x6 : Int32) (x7 : Int32) (x8 : Int32) (f : St) (h : Inv x3 x4 x5 x6 x7 x8 f) : ∃ n : Nat, wlX7_round_86 K175 Q n x3 x4 x5 x6 x7 x8 f := by
  have key : ∀ (n : Nat) (x3 : Int32) (x4 : Int32) (x5 : Int32) (x6 : Int32) (x7 : Int32) (x8 : Int32) (f : St), Inv x3 x4 x5 x6 x7 x8 f → meas x3 x4 x5 x6 x7 x8 f < n → wlX7_round_86 K175 Q n x3 x4 x5 x6 x7 x8 f := by
    intro n
    induction n with
    | zero => intro x3 x4 x5 x6 x7 x8 f hI hm; exact absurd hm (Nat.not_lt_zero _)
    | succ n ih => intro x3 x4 x5 x6 x7 x8 f hI hm; exact step _ x3 x4 x5 x6 x7 x8 f hI (fun y3 y4 y5 y6 y7 y8 f' hI' hlt => ih y3 y4 y5 y6 y7 y8 f' hI' (Nat.lt_of_lt_of_le hlt (Nat.le_of_lt_succ hm)))
  exact ⟨_, key _ x3 x4 x5 x6 x7 x8 f h (Nat.lt_succ_self _)⟩
theorem icX7_round_86_3 {K175 : Int32 → Int32 → Int32 → Int32 → Int32 → St → Prop} {Q : Int32 → St → Prop} (N k0 : Nat) (hN : N < 2147483648) (h0 : k0 ≤ N) (P : Nat → Prop) (p4 : Nat → Int32) (p5 : Nat → Int32) (p6 : Nat → Int32) (p7 : Nat → Int32) (p8 : Nat → Int32) (st : Nat → St) (hP : P k0) (step : ∀ (K86 : Int32 → Int32 → Int32 → Int32 → Int32 → Int32 → St → Prop) (k : Nat), k0 ≤ k → k ≤ N → P k → (k < N → P (k + 1) → K86 (Int32.ofNat (k + 1)) (p4 (k + 1)) (p5 (k + 1)) (p6 (k + 1)) (p7 (k + 1)) (p8 (k + 1)) (st (k + 1))) → wbX7_round_86 K86 K175 Q (Int32.ofNat k) (p4 k) (p5 k) (p6 k) (p7 k) (p8 k) (st k)) : ∃ n : Nat, wlX7_round_86 K175 Q n (Int32.ofNat k0) (p4 k0) (p5 k0) (p6 k0) (p7 k0) (p8 k0) (st k0) := by
  refine ilX7_round_86 (fun x3 x4 x5 x6 x7 x8 f => ∃ k, k0 ≤ k ∧ k ≤ N ∧ P k ∧ x3 = Int32.ofNat k ∧ x4 = p4 k ∧ x5 = p5 k ∧ x6 = p6 k ∧ x7 = p7 k ∧ x8 = p8 k ∧ f = st k) (fun x3 x4 x5 x6 x7 x8 _ => N - x3.toNatClampNeg) ?_ _ _ _ _ _ _ _ ⟨k0, Nat.le_refl _, h0, hP, rfl, rfl, rfl, rfl, rfl, rfl, rfl⟩
  intro K x3 x4 x5 x6 x7 x8 f hI hK
  obtain ⟨k, h1, h2, h3, rfl, rfl, rfl, rfl, rfl, rfl, rfl⟩ := hI
  refine step K k h1 h2 h3 (fun h4 h5 => hK _ _ _ _ _ _ _ ⟨k + 1, by omega, by omega, h5, rfl, rfl, rfl, rfl, rfl, rfl, rfl⟩ ?_)
  show N - (Int32.ofNat (k + 1)).toNatClampNeg < N - (Int32.ofNat k).toNatClampNeg
  rw [n_clamp (by omega), n_clamp (by omega)]
  omega
theorem icX7_round_86_4 {K175 : Int32 → Int32 → Int32 → Int32 → Int32 → St → Prop} {Q : Int32 → St → Prop} (N k0 : Nat) (hN : N < 2147483648) (h0 : k0 ≤ N) (P : Nat → Prop) (p3 : Nat → Int32) (p5 : Nat → Int32) (p6 : Nat → Int32) (p7 : Nat → Int32) (p8 : Nat → Int32) (st : Nat → St) (hP : P k0) (step : ∀ (K86 : Int32 → Int32 → Int32 → Int32 → Int32 → Int32 → St → Prop) (k : Nat), k0 ≤ k → k ≤ N → P k → (k < N → P (k + 1) → K86 (p3 (k + 1)) (Int32.ofNat (k + 1)) (p5 (k + 1)) (p6 (k + 1)) (p7 (k + 1)) (p8 (k + 1)) (st (k + 1))) → wbX7_round_86 K86 K175 Q (p3 k) (Int32.ofNat k) (p5 k) (p6 k) (p7 k) (p8 k) (st k)) : ∃ n : Nat, wlX7_round_86 K175 Q n (p3 k0) (Int32.ofNat k0) (p5 k0) (p6 k0) (p7 k0) (p8 k0) (st k0) := by
  refine ilX7_round_86 (fun x3 x4 x5 x6 x7 x8 f => ∃ k, k0 ≤ k ∧ k ≤ N ∧ P k ∧ x3 = p3 k ∧ x4 = Int32.ofNat k ∧ x5 = p5 k ∧ x6 = p6 k ∧ x7 = p7 k ∧ x8 = p8 k ∧ f = st k) (fun x3 x4 x5 x6 x7 x8 _ => N - x4.toNatClampNeg) ?_ _ _ _ _ _ _ _ ⟨k0, Nat.le_refl _, h0, hP, rfl, rfl, rfl, rfl, rfl, rfl, rfl⟩
  intro K x3 x4 x5 x6 x7 x8 f hI hK
  obtain ⟨k, h1, h2, h3, rfl, rfl, rfl, rfl, rfl, rfl, rfl⟩ := hI
  refine step K k h1 h2 h3 (fun h4 h5 => hK _ _ _ _ _ _ _ ⟨k + 1, by omega, by omega, h5, rfl, rfl, rfl, rfl, rfl, rfl, rfl⟩ ?_)
  show N - (Int32.ofNat (k + 1)).toNatClampNeg < N - (Int32.ofNat k).toNatClampNeg
  rw [n_clamp (by omega), n_clamp (by omega)]
  omega
theorem icX7_round_86_5 {K175 : Int32 → Int32 → Int32 → Int32 → Int32 → St → Prop} {Q : Int32 → St → Prop} (N k0 : Nat) (hN : N < 2147483648) (h0 : k0 ≤ N) (P : Nat → Prop) (p3 : Nat → Int32) (p4 : Nat → Int32) (p6 : Nat → Int32) (p7 : Nat → Int32) (p8 : Nat → Int32) (st : Nat → St) (hP : P k0) (step : ∀ (K86 : Int32 → Int32 → Int32 → Int32 → Int32 → Int32 → St → Prop) (k : Nat), k0 ≤ k → k ≤ N → P k → (k < N → P (k + 1) → K86 (p3 (k + 1)) (p4 (k + 1)) (Int32.ofNat (k + 1)) (p6 (k + 1)) (p7 (k + 1)) (p8 (k + 1)) (st (k + 1))) → wbX7_round_86 K86 K175 Q (p3 k) (p4 k) (Int32.ofNat k) (p6 k) (p7 k) (p8 k) (st k)) : ∃ n : Nat, wlX7_round_86 K175 Q n (p3 k0) (p4 k0) (Int32.ofNat k0) (p6 k0) (p7 k0) (p8 k0) (st k0) := by
  refine ilX7_round_86 (fun x3 x4 x5 x6 x7 x8 f => ∃ k, k0 ≤ k ∧ k ≤ N ∧ P k ∧ x3 = p3 k ∧ x4 = p4 k ∧ x5 = Int32.ofNat k ∧ x6 = p6 k ∧ x7 = p7 k ∧ x8 = p8 k ∧ f = st k) (fun x3 x4 x5 x6 x7 x8 _ => N - x5.toNatClampNeg) ?_ _ _ _ _ _ _ _ ⟨k0, Nat.le_refl _, h0, hP, rfl, rfl, rfl, rfl, rfl, rfl, rfl⟩
  intro K x3 x4 x5 x6 x7 x8 f hI hK
  obtain ⟨k, h1, h2, h3, rfl, rfl, rfl, rfl, rfl, rfl, rfl⟩ := hI
  refine step K k h1 h2 h3 (fun h4 h5 => hK _ _ _ _ _ _ _ ⟨k + 1, by omega, by omega, h5, rfl, rfl, rfl, rfl, rfl, rfl, rfl⟩ ?_)
  show N - (Int32.ofNat (k + 1)).toNatClampNeg < N - (Int32.ofNat k).toNatClampNeg
  rw [n_clamp (by omega), n_clamp (by omega)]
  omega
theorem icX7_round_86_6 {K175 : Int32 → Int32 → Int32 → Int32 → Int32 → St → Prop} {Q : Int32 → St → Prop} (N k0 : Nat) (hN : N < 2147483648) (h0 : k0 ≤ N) (P : Nat → Prop) (p3 : Nat → Int32) (p4 : Nat → Int32) (p5 : Nat → Int32) (p7 : Nat → Int32) (p8 : Nat → Int32) (st : Nat → St) (hP : P k0) (step : ∀ (K86 : Int32 → Int32 → Int32 → Int32 → Int32 → Int32 → St → Prop) (k : Nat), k0 ≤ k → k ≤ N → P k → (k < N → P (k + 1) → K86 (p3 (k + 1)) (p4 (k + 1)) (p5 (k + 1)) (Int32.ofNat (k + 1)) (p7 (k + 1)) (p8 (k + 1)) (st (k + 1))) → wbX7_round_86 K86 K175 Q (p3 k) (p4 k) (p5 k) (Int32.ofNat k) (p7 k) (p8 k) (st k)) : ∃ n : Nat, wlX7_round_86 K175 Q n (p3 k0) (p4 k0) (p5 k0) (Int32.ofNat k0) (p7 k0) (p8 k0) (st k0) := by
  refine ilX7_round_86 (fun x3 x4 x5 x6 x7 x8 f => ∃ k, k0 ≤ k ∧ k ≤ N ∧ P k ∧ x3 = p3 k ∧ x4 = p4 k ∧ x5 = p5 k ∧ x6 = Int32.ofNat k ∧ x7 = p7 k ∧ x8 = p8 k ∧ f = st k) (fun x3 x4 x5 x6 x7 x8 _ => N - x6.toNatClampNeg) ?_ _ _ _ _ _ _ _ ⟨k0, Nat.le_refl _, h0, hP, rfl, rfl, rfl, rfl, rfl, rfl, rfl⟩
  intro K x3 x4 x5 x6 x7 x8 f hI hK
  obtain ⟨k, h1, h2, h3, rfl, rfl, rfl, rfl, rfl, rfl, rfl⟩ := hI
  refine step K k h1 h2 h3 (fun h4 h5 => hK _ _ _ _ _ _ _ ⟨k + 1, by omega, by omega, h5, rfl, rfl, rfl, rfl, rfl, rfl, rfl⟩ ?_)
  show N - (Int32.ofNat (k + 1)).toNatClampNeg < N - (Int32.ofNat k).toNatClampNeg
  rw [n_clamp (by omega), n_clamp (by omega)]
  omega
theorem icX7_round_86_7 {K175 : Int32 → Int32 → Int32 → Int32 → Int32 → St → Prop} {Q : Int32 → St → Prop} (N k0 : Nat) (hN : N < 2147483648) (h0 : k0 ≤ N) (P : Nat → Prop) (p3 : Nat → Int32) (p4 : Nat → Int32) (p5 : Nat → Int32) (p6 : Nat → Int32) (p8 : Nat → Int32) (st : Nat → St) (hP : P k0) (step : ∀ (K86 : Int32 → Int32 → Int32 → Int32 → Int32 → Int32 → St → Prop) (k : Nat), k0 ≤ k → k ≤ N → P k → (k < N → P (k + 1) → K86 (p3 (k + 1)) (p4 (k + 1)) (p5 (k + 1)) (p6 (k + 1)) (Int32.ofNat (k + 1)) (p8 (k + 1)) (st (k + 1))) → wbX7_round_86 K86 K175 Q (p3 k) (p4 k) (p5 k) (p6 k) (Int32.ofNat k) (p8 k) (st k)) : ∃ n : Nat, wlX7_round_86 K175 Q n (p3 k0) (p4 k0) (p5 k0) (p6 k0) (Int32.ofNat k0) (p8 k0) (st k0) := by
  refine ilX7_round_86 (fun x3 x4 x5 x6 x7 x8 f => ∃ k, k0 ≤ k ∧ k ≤ N ∧ P k ∧ x3 = p3 k ∧ x4 = p4 k ∧ x5 = p5 k ∧ x6 = p6 k ∧ x7 = Int32.ofNat k ∧ x8 = p8 k ∧ f = st k) (fun x3 x4 x5 x6 x7 x8 _ => N - x7.toNatClampNeg) ?_ _ _ _ _ _ _ _ ⟨k0, Nat.le_refl _, h0, hP, rfl, rfl, rfl, rfl, rfl, rfl, rfl⟩
  intro K x3 x4 x5 x6 x7 x8 f hI hK
  obtain ⟨k, h1, h2, h3, rfl, rfl, rfl, rfl, rfl, rfl, rfl⟩ := hI
  refine step K k h1 h2 h3 (fun h4 h5 => hK _ _ _ _ _ _ _ ⟨k + 1, by omega, by omega, h5, rfl, rfl, rfl, rfl, rfl, rfl, rfl⟩ ?_)
  show N - (Int32.ofNat (k + 1)).toNatClampNeg < N - (Int32.ofNat k).toNatClampNeg
  rw [n_clamp (by omega), n_clamp (by omega)]
  omega
theorem icX7_round_86_8 {K175 : Int32 → Int32 → Int32 → Int32 → Int32 → St → Prop} {Q : Int32 → St → Prop} (N k0 : Nat) (hN : N < 2147483648) (h0 : k0 ≤ N) (P : Nat → Prop) (p3 : Nat → Int32) (p4 : Nat → Int32) (p5 : Nat → Int32) (p6 : Nat → Int32) (p7 : Nat → Int32) (st : Nat → St) (hP : P k0) (step : ∀ (K86 : Int32 → Int32 → Int32 → Int32 → Int32 → Int32 → St → Prop) (k : Nat), k0 ≤ k → k ≤ N → P k → (k < N → P (k + 1) → K86 (p3 (k + 1)) (p4 (k + 1)) (p5 (k + 1)) (p6 (k + 1)) (p7 (k + 1)) (Int32.ofNat (k + 1)) (st (k + 1))) → wbX7_round_86 K86 K175 Q (p3 k) (p4 k) (p5 k) (p6 k) (p7 k) (Int32.ofNat k) (st k)) : ∃ n : Nat, wlX7_round_86 K175 Q n (p3 k0) (p4 k0) (p5 k0) (p6 k0) (p7 k0) (Int32.ofNat k0) (st k0) := by
  refine ilX7_round_86 (fun x3 x4 x5 x6 x7 x8 f => ∃ k, k0 ≤ k ∧ k ≤ N ∧ P k ∧ x3 = p3 k ∧ x4 = p4 k ∧ x5 = p5 k ∧ x6 = p6 k ∧ x7 = p7 k ∧ x8 = Int32.ofNat k ∧ f = st k) (fun x3 x4 x5 x6 x7 x8 _ => N - x8.toNatClampNeg) ?_ _ _ _ _ _ _ _ ⟨k0, Nat.le_refl _, h0, hP, rfl, rfl, rfl, rfl, rfl, rfl, rfl⟩
  intro K x3 x4 x5 x6 x7 x8 f hI hK
  obtain ⟨k, h1, h2, h3, rfl, rfl, rfl, rfl, rfl, rfl, rfl⟩ := hI
  refine step K k h1 h2 h3 (fun h4 h5 => hK _ _ _ _ _ _ _ ⟨k + 1, by omega, by omega, h5, rfl, rfl, rfl, rfl, rfl, rfl, rfl⟩ ?_)
  show N - (Int32.ofNat (k + 1)).toNatClampNeg < N - (Int32.ofNat k).toNatClampNeg
  rw [n_clamp (by omega), n_clamp (by omega)]
  omega
theorem ilX7_round_74 {K181 : Int32 → Int32 → Int32 → Int32 → St → Prop} {Q : Int32 → St → Prop} (Inv : Int32 → Int32 → Int32 → Int32 → Int32 → St → Prop) (meas : Int32 → Int32 → Int32 → Int32 → Int32 → St → Nat) (step : ∀ (K74 : Int32 → Int32 → Int32 → Int32 → Int32 → St → Prop) (x3 : Int32) (x4 : Int32) (x5 : Int32) (x6 : Int32) (x7 : Int32) (f : St), Inv x3 x4 x5 x6 x7 f → (∀ (y3 : Int32) (y4 : Int32) (y5 : Int32) (y6 : Int32) (y7 : Int32) (f' : St), Inv y3 y4 y5 y6 y7 f' → meas y3 y4 y5 y6 y7 f' < meas x3 x4 x5 x6 x7 f → K74 y3 y4 y5 y6 y7 f') → wbX7_round_74 K74 K181 Q x3 x4 x5 x6 x7 f) (x3 : Int32) (x4 : Int32) (x5 : Int32) (x6 : Int32) (x7 : Int32) (f : St) (h : Inv x3 x4 x5 x6 x7 f) : ∃ n : Nat, wlX7_round_74 K181 Q n x3 x4 x5 x6 x7 f := by
  have key : ∀ (n : Nat) (x3 : Int32) (x4 : Int32) (x5 : Int32) (x6 : Int32) (x7 : Int32) (f : St), Inv x3 x4 x5 x6 x7 f → meas x3 x4 x5 x6 x7 f < n → wlX7_round_74 K181 Q n x3 x4 x5 x6 x7 f := by
    intro n
    induction n with
    | zero => intro x3 x4 x5 x6 x7 f hI hm; exact absurd hm (Nat.not_lt_zero _)
    | succ n ih => intro x3 x4 x5 x6 x7 f hI hm; exact step _ x3 x4 x5 x6 x7 f hI (fun y3 y4 y5 y6 y7 f' hI' hlt => ih y3 y4 y5 y6 y7 f' hI' (Nat.lt_of_lt_of_le hlt (Nat.le_of_lt_succ hm)))
  exact ⟨_, key _ x3 x4 x5 x6 x7 f h (Nat.lt_succ_self _)⟩
theorem icX7_round_74_3 {K181 : Int32 → Int32 → Int32 → Int32 → St → Prop} {Q : Int32 → St → Prop} (N k0 : Nat) (hN : N < 2147483648) (h0 : k0 ≤ N) (P : Nat → Prop) (p4 : Nat → Int32) (p5 : Nat → Int32) (p6 : Nat → Int32) (p7 : Nat → Int32) (st : Nat → St) (hP : P k0) (step : ∀ (K74 : Int32 → Int32 → Int32 → Int32 → Int32 → St → Prop) (k : Nat), k0 ≤ k → k ≤ N → P k → (k < N → P (k + 1) → K74 (Int32.ofNat (k + 1)) (p4 (k + 1)) (p5 (k + 1)) (p6 (k + 1)) (p7 (k + 1)) (st (k + 1))) → wbX7_round_74 K74 K181 Q (Int32.ofNat k) (p4 k) (p5 k) (p6 k) (p7 k) (st k)) : ∃ n : Nat, wlX7_round_74 K181 Q n (Int32.ofNat k0) (p4 k0) (p5 k0) (p6 k0) (p7 k0) (st k0) := by
  refine ilX7_round_74 (fun x3 x4 x5 x6 x7 f => ∃ k, k0 ≤ k ∧ k ≤ N ∧ P k ∧ x3 = Int32.ofNat k ∧ x4 = p4 k ∧ x5 = p5 k ∧ x6 = p6 k ∧ x7 = p7 k ∧ f = st k) (fun x3 x4 x5 x6 x7 _ => N - x3.toNatClampNeg) ?_ _ _ _ _ _ _ ⟨k0, Nat.le_refl _, h0, hP, rfl, rfl, rfl, rfl, rfl, rfl⟩
  intro K x3 x4 x5 x6 x7 f hI hK
  obtain ⟨k, h1, h2, h3, rfl, rfl, rfl, rfl, rfl, rfl⟩ := hI
  refine step K k h1 h2 h3 (fun h4 h5 => hK _ _ _ _ _ _ ⟨k + 1, by omega, by omega, h5, rfl, rfl, rfl, rfl, rfl, rfl⟩ ?_)
  show N - (Int32.ofNat (k + 1)).toNatClampNeg < N - (Int32.ofNat k).toNatClampNeg
  rw [n_clamp (by omega), n_clamp (by omega)]
  omega
theorem icX7_round_74_4 {K181 : Int32 → Int32 → Int32 → Int32 → St → Prop} {Q : Int32 → St → Prop} (N k0 : Nat) (hN : N < 2147483648) (h0 : k0 ≤ N) (P : Nat → Prop) (p3 : Nat → Int32) (p5 : Nat → Int32) (p6 : Nat → Int32) (p7 : Nat → Int32) (st : Nat → St) (hP : P k0) (step : ∀ (K74 : Int32 → Int32 → Int32 → Int32 → Int32 → St → Prop) (k : Nat), k0 ≤ k → k ≤ N → P k → (k < N → P (k + 1) → K74 (p3 (k + 1)) (Int32.ofNat (k + 1)) (p5 (k + 1)) (p6 (k + 1)) (p7 (k + 1)) (st (k + 1))) → wbX7_round_74 K74 K181 Q (p3 k) (Int32.ofNat k) (p5 k) (p6 k) (p7 k) (st k)) : ∃ n : Nat, wlX7_round_74 K181 Q n (p3 k0) (Int32.ofNat k0) (p5 k0) (p6 k0) (p7 k0) (st k0) := by
  refine ilX7_round_74 (fun x3 x4 x5 x6 x7 f => ∃ k, k0 ≤ k ∧ k ≤ N ∧ P k ∧ x3 = p3 k ∧ x4 = Int32.ofNat k ∧ x5 = p5 k ∧ x6 = p6 k ∧ x7 = p7 k ∧ f = st k) (fun x3 x4 x5 x6 x7 _ => N - x4.toNatClampNeg) ?_ _ _ _ _ _ _ ⟨k0, Nat.le_refl _, h0, hP, rfl, rfl, rfl, rfl, rfl, rfl⟩
  intro K x3 x4 x5 x6 x7 f hI hK
  obtain ⟨k, h1, h2, h3, rfl, rfl, rfl, rfl, rfl, rfl⟩ := hI
  refine step K k h1 h2 h3 (fun h4 h5 => hK _ _ _ _ _ _ ⟨k + 1, by omega, by omega, h5, rfl, rfl, rfl, rfl, rfl, rfl⟩ ?_)
  show N - (Int32.ofNat (k + 1)).toNatClampNeg < N - (Int32.ofNat k).toNatClampNeg
  rw [n_clamp (by omega), n_clamp (by omega)]
  omega
theorem icX7_round_74_5 {K181 : Int32 → Int32 → Int32 → Int32 → St → Prop} {Q : Int32 → St → Prop} (N k0 : Nat) (hN : N < 2147483648) (h0 : k0 ≤ N) (P : Nat → Prop) (p3 : Nat → Int32) (p4 : Nat → Int32) (p6 : Nat → Int32) (p7 : Nat → Int32) (st : Nat → St) (hP : P k0) (step : ∀ (K74 : Int32 → Int32 → Int32 → Int32 → Int32 → St → Prop) (k : Nat), k0 ≤ k → k ≤ N → P k → (k < N → P (k + 1) → K74 (p3 (k + 1)) (p4 (k + 1)) (Int32.ofNat (k + 1)) (p6 (k + 1)) (p7 (k + 1)) (st (k + 1))) → wbX7_round_74 K74 K181 Q (p3 k) (p4 k) (Int32.ofNat k) (p6 k) (p7 k) (st k)) : ∃ n : Nat, wlX7_round_74 K181 Q n (p3 k0) (p4 k0) (Int32.ofNat k0) (p6 k0) (p7 k0) (st k0) := by
  refine ilX7_round_74 (fun x3 x4 x5 x6 x7 f => ∃ k, k0 ≤ k ∧ k ≤ N ∧ P k ∧ x3 = p3 k ∧ x4 = p4 k ∧ x5 = Int32.ofNat k ∧ x6 = p6 k ∧ x7 = p7 k ∧ f = st k) (fun x3 x4 x5 x6 x7 _ => N - x5.toNatClampNeg) ?_ _ _ _ _ _ _ ⟨k0, Nat.le_refl _, h0, hP, rfl, rfl, rfl, rfl, rfl, rfl⟩
  intro K x3 x4 x5 x6 x7 f hI hK
  obtain ⟨k, h1, h2, h3, rfl, rfl, rfl, rfl, rfl, rfl⟩ := hI
  refine step K k h1 h2 h3 (fun h4 h5 => hK _ _ _ _ _ _ ⟨k + 1, by omega, by omega, h5, rfl, rfl, rfl, rfl, rfl, rfl⟩ ?_)
  show N - (Int32.ofNat (k + 1)).toNatClampNeg < N - (Int32.ofNat k).toNatClampNeg
  rw [n_clamp (by omega), n_clamp (by omega)]
  omega
theorem icX7_round_74_6 {K181 : Int32 → Int32 → Int32 → Int32 → St → Prop} {Q : Int32 → St → Prop} (N k0 : Nat) (hN : N < 2147483648) (h0 : k0 ≤ N) (P : Nat → Prop) (p3 : Nat → Int32) (p4 : Nat → Int32) (p5 : Nat → Int32) (p7 : Nat → Int32) (st : Nat → St) (hP : P k0) (step : ∀ (K74 : Int32 → Int32 → Int32 → Int32 → Int32 → St → Prop) (k : Nat), k0 ≤ k → k ≤ N → P k → (k < N → P (k + 1) → K74 (p3 (k + 1)) (p4 (k + 1)) (p5 (k + 1)) (Int32.ofNat (k + 1)) (p7 (k + 1)) (st (k + 1))) → wbX7_round_74 K74 K181 Q (p3 k) (p4 k) (p5 k) (Int32.ofNat k) (p7 k) (st k)) : ∃ n : Nat, wlX7_round_74 K181 Q n (p3 k0) (p4 k0) (p5 k0) (Int32.ofNat k0) (p7 k0) (st k0) := by
  refine ilX7_round_74 (fun x3 x4 x5 x6 x7 f => ∃ k, k0 ≤ k ∧ k ≤ N ∧ P k ∧ x3 = p3 k ∧ x4 = p4 k ∧ x5 = p5 k ∧ x6 = Int32.ofNat k ∧ x7 = p7 k ∧ f = st k) (fun x3 x4 x5 x6 x7 _ => N - x6.toNatClampNeg) ?_ _ _ _ _ _ _ ⟨k0, Nat.le_refl _, h0, hP, rfl, rfl, rfl, rfl, rfl, rfl⟩
  intro K x3 x4 x5 x6 x7 f hI hK
  obtain ⟨k, h1, h2, h3, rfl, rfl, rfl, rfl, rfl, rfl⟩ := hI
  refine step K k h1 h2 h3 (fun h4 h5 => hK _ _ _ _ _ _ ⟨k + 1, by omega, by omega, h5, rfl, rfl, rfl, rfl, rfl, rfl⟩ ?_)
  show N - (Int32.ofNat (k + 1)).toNatClampNeg < N - (Int32.ofNat k).toNatClampNeg
  rw [n_clamp (by omega), n_clamp (by omega)]
  omega
theorem icX7_round_74_7 {K181 : Int32 → Int32 → Int32 → Int32 → St → Prop} {Q : Int32 → St → Prop} (N k0 : Nat) (hN : N < 2147483648) (h0 : k0 ≤ N) (P : Nat → Prop) (p3 : Nat → Int32) (p4 : Nat → Int32) (p5 : Nat → Int32) (p6 : Nat → Int32) (st : Nat → St) (hP : P k0) (step : ∀ (K74 : Int32 → Int32 → Int32 → Int32 → Int32 → St → Prop) (k : Nat), k0 ≤ k → k ≤ N → P k → (k < N → P (k + 1) → K74 (p3 (k + 1)) (p4 (k + 1)) (p5 (k + 1)) (p6 (k + 1)) (Int32.ofNat (k + 1)) (st (k + 1))) → wbX7_round_74 K74 K181 Q (p3 k) (p4 k) (p5 k) (p6 k) (Int32.ofNat k) (st k)) : ∃ n : Nat, wlX7_round_74 K181 Q n (p3 k0) (p4 k0) (p5 k0) (p6 k0) (Int32.ofNat k0) (st k0) := by
  refine ilX7_round_74 (fun x3 x4 x5 x6 x7 f => ∃ k, k0 ≤ k ∧ k ≤ N ∧ P k ∧ x3 = p3 k ∧ x4 = p4 k ∧ x5 = p5 k ∧ x6 = p6 k ∧ x7 = Int32.ofNat k ∧ f = st k) (fun x3 x4 x5 x6 x7 _ => N - x7.toNatClampNeg) ?_ _ _ _ _ _ _ ⟨k0, Nat.le_refl _, h0, hP, rfl, rfl, rfl, rfl, rfl, rfl⟩
  intro K x3 x4 x5 x6 x7 f hI hK
  obtain ⟨k, h1, h2, h3, rfl, rfl, rfl, rfl, rfl, rfl⟩ := hI
  refine step K k h1 h2 h3 (fun h4 h5 => hK _ _ _ _ _ _ ⟨k + 1, by omega, by omega, h5, rfl, rfl, rfl, rfl, rfl, rfl⟩ ?_)
  show N - (Int32.ofNat (k + 1)).toNatClampNeg < N - (Int32.ofNat k).toNatClampNeg
  rw [n_clamp (by omega), n_clamp (by omega)]
  omega
theorem ilX7_round_66 {K187 : Int32 → Int32 → Int32 → St → Prop} {Q : Int32 → St → Prop} (Inv : Int32 → Int32 → Int32 → Int32 → St → Prop) (meas : Int32 → Int32 → Int32 → Int32 → St → Nat) (step : ∀ (K66 : Int32 → Int32 → Int32 → Int32 → St → Prop) (x3 : Int32) (x4 : Int32) (x5 : Int32) (x6 : Int32) (f : St), Inv x3 x4 x5 x6 f → (∀ (y3 : Int32) (y4 : Int32) (y5 : Int32) (y6 : Int32) (f' : St), Inv y3 y4 y5 y6 f' → meas y3 y4 y5 y6 f' < meas x3 x4 x5 x6 f → K66 y3 y4 y5 y6 f') → wbX7_round_66 K66 K187 Q x3 x4 x5 x6 f) (x3 : Int32) (x4 : Int32) (x5 : Int32) (x6 : Int32) (f : St) (h : Inv x3 x4 x5 x6 f) : ∃ n : Nat, wlX7_round_66 K187 Q n x3 x4 x5 x6 f := by
  have key : ∀ (n : Nat) (x3 : Int32) (x4 : Int32) (x5 : Int32) (x6 : Int32) (f : St), Inv x3 x4 x5 x6 f → meas x3 x4 x5 x6 f < n → wlX7_round_66 K187 Q n x3 x4 x5 x6 f := by
    intro n
    induction n with
    | zero => intro x3 x4 x5 x6 f hI hm; exact absurd hm (Nat.not_lt_zero _)
    | succ n ih => intro x3 x4 x5 x6 f hI hm; exact step _ x3 x4 x5 x6 f hI (fun y3 y4 y5 y6 f' hI' hlt => ih y3 y4 y5 y6 f' hI' (Nat.lt_of_lt_of_le hlt (Nat.le_of_lt_succ hm)))
  exact ⟨_, key _ x3 x4 x5 x6 f h (Nat.lt_succ_self _)⟩
theorem icX7_round_66_3 {K187 : Int32 → Int32 → Int32 → St → Prop} {Q : Int32 → St → Prop} (N k0 : Nat) (hN : N < 2147483648) (h0 : k0 ≤ N) (P : Nat → Prop) (p4 : Nat → Int32) (p5 : Nat → Int32) (p6 : Nat → Int32) (st : Nat → St) (hP : P k0) (step : ∀ (K66 : Int32 → Int32 → Int32 → Int32 → St → Prop) (k : Nat), k0 ≤ k → k ≤ N → P k → (k < N → P (k + 1) → K66 (Int32.ofNat (k + 1)) (p4 (k + 1)) (p5 (k + 1)) (p6 (k + 1)) (st (k + 1))) → wbX7_round_66 K66 K187 Q (Int32.ofNat k) (p4 k) (p5 k) (p6 k) (st k)) : ∃ n : Nat, wlX7_round_66 K187 Q n (Int32.ofNat k0) (p4 k0) (p5 k0) (p6 k0) (st k0) := by
  refine ilX7_round_66 (fun x3 x4 x5 x6 f => ∃ k, k0 ≤ k ∧ k ≤ N ∧ P k ∧ x3 = Int32.ofNat k ∧ x4 = p4 k ∧ x5 = p5 k ∧ x6 = p6 k ∧ f = st k) (fun x3 x4 x5 x6 _ => N - x3.toNatClampNeg) ?_ _ _ _ _ _ ⟨k0, Nat.le_refl _, h0, hP, rfl, rfl, rfl, rfl, rfl⟩
  intro K x3 x4 x5 x6 f hI hK
  obtain ⟨k, h1, h2, h3, rfl, rfl, rfl, rfl, rfl⟩ := hI
  refine step K k h1 h2 h3 (fun h4 h5 => hK _ _ _ _ _ ⟨k + 1, by omega, by omega, h5, rfl, rfl, rfl, rfl, rfl⟩ ?_)
  show N - (Int32.ofNat (k + 1)).toNatClampNeg < N - (Int32.ofNat k).toNatClampNeg
  rw [n_clamp (by omega), n_clamp (by omega)]
  omega
theorem icX7_round_66_4 {K187 : Int32 → Int32 → Int32 → St → Prop} {Q : Int32 → St → Prop} (N k0 : Nat) (hN : N < 2147483648) (h0 : k0 ≤ N) (P : Nat → Prop) (p3 : Nat → Int32) (p5 : Nat → Int32) (p6 : Nat → Int32) (st : Nat → St) (hP : P k0) (step : ∀ (K66 : Int32 → Int32 → Int32 → Int32 → St → Prop) (k : Nat), k0 ≤ k → k ≤ N → P k → (k < N → P (k + 1) → K66 (p3 (k + 1)) (Int32.ofNat (k + 1)) (p5 (k + 1)) (p6 (k + 1)) (st (k + 1))) → wbX7_round_66 K66 K187 Q (p3 k) (Int32.ofNat k) (p5 k) (p6 k) (st k)) : ∃ n : Nat, wlX7_round_66 K187 Q n (p3 k0) (Int32.ofNat k0) (p5 k0) (p6 k0) (st k0) := by
  refine ilX7_round_66 (fun x3 x4 x5 x6 f => ∃ k, k0 ≤ k ∧ k ≤ N ∧ P k ∧ x3 = p3 k ∧ x4 = Int32.ofNat k ∧ x5 = p5 k ∧ x6 = p6 k ∧ f = st k) (fun x3 x4 x5 x6 _ => N - x4.toNatClampNeg) ?_ _ _ _ _ _ ⟨k0, Nat.le_refl _, h0, hP, rfl, rfl, rfl, rfl, rfl⟩
  intro K x3 x4 x5 x6 f hI hK
  obtain ⟨k, h1, h2, h3, rfl, rfl, rfl, rfl, rfl⟩ := hI
  refine step K k h1 h2 h3 (fun h4 h5 => hK _ _ _ _ _ ⟨k + 1, by omega, by omega, h5, rfl, rfl, rfl, rfl, rfl⟩ ?_)
  show N - (Int32.ofNat (k + 1)).toNatClampNeg < N - (Int32.ofNat k).toNatClampNeg
  rw [n_clamp (by omega), n_clamp (by omega)]
  omega
theorem icX7_round_66_5 {K187 : Int32 → Int32 → Int32 → St → Prop} {Q : Int32 → St → Prop} (N k0 : Nat) (hN : N < 2147483648) (h0 : k0 ≤ N) (P : Nat → Prop) (p3 : Nat → Int32) (p4 : Nat → Int32) (p6 : Nat → Int32) (st : Nat → St) (hP : P k0) (step : ∀ (K66 : Int32 → Int32 → Int32 → Int32 → St → Prop) (k : Nat), k0 ≤ k → k ≤ N → P k → (k < N → P (k + 1) → K66 (p3 (k + 1)) (p4 (k + 1)) (Int32.ofNat (k + 1)) (p6 (k + 1)) (st (k + 1))) → wbX7_round_66 K66 K187 Q (p3 k) (p4 k) (Int32.ofNat k) (p6 k) (st k)) : ∃ n : Nat, wlX7_round_66 K187 Q n (p3 k0) (p4 k0) (Int32.ofNat k0) (p6 k0) (st k0) := by
  refine ilX7_round_66 (fun x3 x4 x5 x6 f => ∃ k, k0 ≤ k ∧ k ≤ N ∧ P k ∧ x3 = p3 k ∧ x4 = p4 k ∧ x5 = Int32.ofNat k ∧ x6 = p6 k ∧ f = st k) (fun x3 x4 x5 x6 _ => N - x5.toNatClampNeg) ?_ _ _ _ _ _ ⟨k0, Nat.le_refl _, h0, hP, rfl, rfl, rfl, rfl, rfl⟩
  intro K x3 x4 x5 x6 f hI hK
  obtain ⟨k, h1, h2, h3, rfl, rfl, rfl, rfl, rfl⟩ := hI
  refine step K k h1 h2 h3 (fun h4 h5 => hK _ _ _ _ _ ⟨k + 1, by omega, by omega, h5, rfl, rfl, rfl, rfl, rfl⟩ ?_)
  show N - (Int32.ofNat (k + 1)).toNatClampNeg < N - (Int32.ofNat k).toNatClampNeg
  rw [n_clamp (by omega), n_clamp (by omega)]
  omega
theorem icX7_round_66_6 {K187 : Int32 → Int32 → Int32 → St → Prop} {Q : Int32 → St → Prop} (N k0 : Nat) (hN : N < 2147483648) (h0 : k0 ≤ N) (P : Nat → Prop) (p3 : Nat → Int32) (p4 : Nat → Int32) (p5 : Nat → Int32) (st : Nat → St) (hP : P k0) (step : ∀ (K66 : Int32 → Int32 → Int32 → Int32 → St → Prop) (k : Nat), k0 ≤ k → k ≤ N → P k → (k < N → P (k + 1) → K66 (p3 (k + 1)) (p4 (k + 1)) (p5 (k + 1)) (Int32.ofNat (k + 1)) (st (k + 1))) → wbX7_round_66 K66 K187 Q (p3 k) (p4 k) (p5 k) (Int32.ofNat k) (st k)) : ∃ n : Nat, wlX7_round_66 K187 Q n (p3 k0) (p4 k0) (p5 k0) (Int32.ofNat k0) (st k0) := by
  refine ilX7_round_66 (fun x3 x4 x5 x6 f => ∃ k, k0 ≤ k ∧ k ≤ N ∧ P k ∧ x3 = p3 k ∧ x4 = p4 k ∧ x5 = p5 k ∧ x6 = Int32.ofNat k ∧ f = st k) (fun x3 x4 x5 x6 _ => N - x6.toNatClampNeg) ?_ _ _ _ _ _ ⟨k0, Nat.le_refl _, h0, hP, rfl, rfl, rfl, rfl, rfl⟩
  intro K x3 x4 x5 x6 f hI hK
  obtain ⟨k, h1, h2, h3, rfl, rfl, rfl, rfl, rfl⟩ := hI
  refine step K k h1 h2 h3 (fun h4 h5 => hK _ _ _ _ _ ⟨k + 1, by omega, by omega, h5, rfl, rfl, rfl, rfl, rfl⟩ ?_)
  show N - (Int32.ofNat (k + 1)).toNatClampNeg < N - (Int32.ofNat k).toNatClampNeg
  rw [n_clamp (by omega), n_clamp (by omega)]
  omega
theorem ilX7_round_217 {K261 : Int32 → Int32 → Int32 → Int32 → Int32 → Int32 → St → Prop} {Q : Int32 → St → Prop} (Inv : Int32 → Int32 → Int32 → Int32 → Int32 → Int32 → Int32 → St → Prop) (meas : Int32 → Int32 → Int32 → Int32 → Int32 → Int32 → Int32 → St → Nat) (step : ∀ (K217 : Int32 → Int32 → Int32 → Int32 → Int32 → Int32 → Int32 → St → Prop) (x3 : Int32) (x4 : Int32) (x5 : Int32) (x6 : Int32) (x7 : Int32) (x8 : Int32) (x9 : Int32) (f : St), Inv x3 x4 x5 x6 x7 x8 x9 f → (∀ (y3 : Int32) (y4 : Int32) (y5 : Int32) (y6 : Int32) (y7 : Int32) (y8 : Int32) (y9 : Int32) (f' : St), Inv y3 y4 y5 y6 y7 y8 y9 f' → meas y3 y4 y5 y6 y7 y8 y9 f' < meas x3 x4 x5 x6 x7 x8 x9 f → K217 y3 y4 y5 y6 y7 y8 y9 f') → wbX7_round_217 K217 K261 Q x3 x4 x5 x6 x7 x8 x9 f) (x3 : Int32) (x4 : Int32) (x5 : Int32) (x6 : Int32) (x7 : Int32) (x8 : Int32) (x9 : Int32) (f : St) (h : Inv x3 x4 x5 x6 x7 x8 x9 f) : ∃ n : Nat, wlX7_round_217 K261 Q n x3 x4 x5 x6 x7 x8 x9 f := by
  have key : ∀ (n : Nat) (x3 : Int32) (x4 : Int32) (x5 : Int32) (x6 : Int32) (x7 : Int32) (x8 : Int32) (x9 : Int32) (f : St), Inv x3 x4 x5 x6 x7 x8 x9 f → meas x3 x4 x5 x6 x7 x8 x9 f < n → wlX7_round_217 K261 Q n x3 x4 x5 x6 x7 x8 x9 f := by
    intro n
    induction n with
    | zero => intro x3 x4 x5 x6 x7 x8 x9 f hI hm; exact absurd hm (Nat.not_lt_zero _)
    | succ n ih => intro x3 x4 x5 x6 x7 x8 x9 f hI hm; exact step _ x3 x4 x5 x6 x7 x8 x9 f hI (fun y3 y4 y5 y6 y7 y8 y9 f' hI' hlt => ih y3 y4 y5 y6 y7 y8 y9 f' hI' (Nat.lt_of_lt_of_le hlt (Nat.le_of_lt_succ hm)))
  exact ⟨_, key _ x3 x4 x5 x6 x7 x8 x9 f h (Nat.lt_succ_self _)⟩
theorem icX7_round_217_3 {K261 : Int32 → Int32 → Int32 → Int32 → Int32 → Int32 → St → Prop} {Q : Int32 → St → Prop} (N k0 : Nat) (hN : N < 2147483648) (h0 : k0 ≤ N) (P : Nat → Prop) (p4 : Nat → Int32) (p5 : Nat → Int32) (p6 : Nat → Int32) (p7 : Nat → Int32) (p8 : Nat → Int32) (p9 : Nat → Int32) (st : Nat → St) (hP : P k0) (step : ∀ (K217 : Int32 → Int32 → Int32 → Int32 → Int32 → Int32 → Int32 → St → Prop) (k : Nat), k0 ≤ k → k ≤ N → P k → (k < N → P (k + 1) → K217 (Int32.ofNat (k + 1)) (p4 (k + 1)) (p5 (k + 1)) (p6 (k + 1)) (p7 (k + 1)) (p8 (k + 1)) (p9 (k + 1)) (st (k + 1))) → wbX7_round_217 K217 K261 Q (Int32.ofNat k) (p4 k) (p5 k) (p6 k) (p7 k) (p8 k) (p9 k) (st k)) : ∃ n : Nat, wlX7_round_217 K261 Q n (Int32.ofNat k0) (p4 k0) (p5 k0) (p6 k0) (p7 k0) (p8 k0) (p9 k0) (st k0) := by
  refine ilX7_round_217 (fun x3 x4 x5 x6 x7 x8 x9 f => ∃ k, k0 ≤ k ∧ k ≤ N ∧ P k ∧ x3 = Int32.ofNat k ∧ x4 = p4 k ∧ x5 = p5 k ∧ x6 = p6 k ∧ x7 = p7 k ∧ x8 = p8 k ∧ x9 = p9 k ∧ f = st k) (fun x3 x4 x5 x6 x7 x8 x9 _ => N - x3.toNatClampNeg) ?_ _ _ _ _ _ _ _ _ ⟨k0, Nat.le_refl _, h0, hP, rfl, rfl, rfl, rfl, rfl, rfl, rfl, rfl⟩
  intro K x3 x4 x5 x6 x7 x8 x9 f hI hK
  obtain ⟨k, h1, h2, h3, rfl, rfl, rfl, rfl, rfl, rfl, rfl, rfl⟩ := hI
  refine step K k h1 h2 h3 (fun h4 h5 => hK _ _ _ _ _ _ _ _ ⟨k + 1, by omega, by omega, h5, rfl, rfl, rfl, rfl, rfl, rfl, rfl, rfl⟩ ?_)
  show N - (Int32.ofNat (k + 1)).toNatClampNeg < N - (Int32.ofNat k).toNatClampNeg
  rw [n_clamp (by omega), n_clamp (by omega)]
  omega
theorem icX7_round_217_4 {K261 : Int32 → Int32 → Int32 → Int32 → Int32 → Int32 → St → Prop} {Q : Int32 → St → Prop} (N k0 : Nat) (hN : N < 2147483648) (h0 : k0 ≤ N) (P : Nat → Prop) (p3 : Nat → Int32) (p5 : Nat → Int32) (p6 : Nat → Int32) (p7 : Nat → Int32) (p8 : Nat → Int32) (p9 : Nat → Int32) (st : Nat → St) (hP : P k0) (step : ∀ (K217 : Int32 → Int32 → Int32 → Int32 → Int32 → Int32 → Int32 → St → Prop) (k : Nat), k0 ≤ k → k ≤ N → P k → (k < N → P (k + 1) → K217 (p3 (k + 1)) (Int32.ofNat (k + 1)) (p5 (k + 1)) (p6 (k + 1)) (p7 (k + 1)) (p8 (k + 1)) (p9 (k + 1)) (st (k + 1))) → wbX7_round_217 K217 K261 Q (p3 k) (Int32.ofNat k) (p5 k) (p6 k) (p7 k) (p8 k) (p9 k) (st k)) : ∃ n : Nat, wlX7_round_217 K261 Q n (p3 k0) (Int32.ofNat k0) (p5 k0) (p6 k0) (p7 k0) (p8 k0) (p9 k0) (st k0) := by
  refine ilX7_round_217 (fun x3 x4 x5 x6 x7 x8 x9 f => ∃ k, k0 ≤ k ∧ k ≤ N ∧ P k ∧ x3 = p3 k ∧ x4 = Int32.ofNat k ∧ x5 = p5 k ∧ x6 = p6 k ∧ x7 = p7 k ∧ x8 = p8 k ∧ x9 = p9 k ∧ f = st k) (fun x3 x4 x5 x6 x7 x8 x9 _ => N - x4.toNatClampNeg) ?_ _ _ _ _ _ _ _ _ ⟨k0, Nat.le_refl _, h0, hP, rfl, rfl, rfl, rfl, rfl, rfl, rfl, rfl⟩
  intro K x3 x4 x5 x6 x7 x8 x9 f hI hK
  obtain ⟨k, h1, h2, h3, rfl, rfl, rfl, rfl, rfl, rfl, rfl, rfl⟩ := hI
  refine step K k h1 h2 h3 (fun h4 h5 => hK _ _ _ _ _ _ _ _ ⟨k + 1, by omega, by omega, h5, rfl, rfl, rfl, rfl, rfl, rfl, rfl, rfl⟩ ?_)
  show N - (Int32.ofNat (k + 1)).toNatClampNeg < N - (Int32.ofNat k).toNatClampNeg
  rw [n_clamp (by omega), n_clamp (by omega)]
  omega
theorem icX7_round_217_5 {K261 : Int32 → Int32 → Int32 → Int32 → Int32 → Int32 → St → Prop} {Q : Int32 → St → Prop} (N k0 : Nat) (hN : N < 2147483648) (h0 : k0 ≤ N) (P : Nat → Prop) (p3 : Nat → Int32) (p4 : Nat → Int32) (p6 : Nat → Int32) (p7 : Nat → Int32) (p8 : Nat → Int32) (p9 : Nat → Int32) (st : Nat → St) (hP : P k0) (step : ∀ (K217 : Int32 → Int32 → Int32 → Int32 → Int32 → Int32 → Int32 → St → Prop) (k : Nat), k0 ≤ k → k ≤ N → P k → (k < N → P (k + 1) → K217 (p3 (k + 1)) (p4 (k + 1)) (Int32.ofNat (k + 1)) (p6 (k + 1)) (p7 (k + 1)) (p8 (k + 1)) (p9 (k + 1)) (st (k + 1))) → wbX7_round_217 K217 K261 Q (p3 k) (p4 k) (Int32.ofNat k) (p6 k) (p7 k) (p8 k) (p9 k) (st k)) : ∃ n : Nat, wlX7_round_217 K261 Q n (p3 k0) (p4 k0) (Int32.ofNat k0) (p6 k0) (p7 k0) (p8 k0) (p9 k0) (st k0) := by
  refine ilX7_round_217 (fun x3 x4 x5 x6 x7 x8 x9 f => ∃ k, k0 ≤ k ∧ k ≤ N ∧ P k ∧ x3 = p3 k ∧ x4 = p4 k ∧ x5 = Int32.ofNat k ∧ x6 = p6 k ∧ x7 = p7 k ∧ x8 = p8 k ∧ x9 = p9 k ∧ f = st k) (fun x3 x4 x5 x6 x7 x8 x9 _ => N - x5.toNatClampNeg) ?_ _ _ _ _ _ _ _ _ ⟨k0, Nat.le_refl _, h0, hP, rfl, rfl, rfl, rfl, rfl, rfl, rfl, rfl⟩
  intro K x3 x4 x5 x6 x7 x8 x9 f hI hK
  obtain ⟨k, h1, h2, h3, rfl, rfl, rfl, rfl, rfl, rfl, rfl, rfl⟩ := hI
  refine step K k h1 h2 h3 (fun h4 h5 => hK _ _ _ _ _ _ _ _ ⟨k + 1, by omega, by omega, h5, rfl, rfl, rfl, rfl, rfl, rfl, rfl, rfl⟩ ?_)
  show N - (Int32.ofNat (k + 1)).toNatClampNeg < N - (Int32.ofNat k).toNatClampNeg
  rw [n_clamp (by omega), n_clamp (by omega)]
  omega
theorem icX7_round_217_6 {K261 : Int32 → Int32 → Int32 → Int32 → Int32 → Int32 → St → Prop} {Q : Int32 → St → Prop} (N k0 : Nat) (hN : N < 2147483648) (h0 : k0 ≤ N) (P : Nat → Prop) (p3 : Nat → Int32) (p4 : Nat → Int32) (p5 : Nat → Int32) (p7 : Nat → Int32) (p8 : Nat → Int32) (p9 : Nat → Int32) (st : Nat → St) (hP : P k0) (step : ∀ (K217 : Int32 → Int32 → Int32 → Int32 → Int32 → Int32 → Int32 → St → Prop) (k : Nat), k0 ≤ k → k ≤ N → P k → (k < N → P (k + 1) → K217 (p3 (k + 1)) (p4 (k + 1)) (p5 (k + 1)) (Int32.ofNat (k + 1)) (p7 (k + 1)) (p8 (k + 1)) (p9 (k + 1)) (st (k + 1))) → wbX7_round_217 K217 K261 Q (p3 k) (p4 k) (p5 k) (Int32.ofNat k) (p7 k) (p8 k) (p9 k) (st k)) : ∃ n : Nat, wlX7_round_217 K261 Q n (p3 k0) (p4 k0) (p5 k0) (Int32.ofNat k0) (p7 k0) (p8 k0) (p9 k0) (st k0) := by
  refine ilX7_round_217 (fun x3 x4 x5 x6 x7 x8 x9 f => ∃ k, k0 ≤ k ∧ k ≤ N ∧ P k ∧ x3 = p3 k ∧ x4 = p4 k ∧ x5 = p5 k ∧ x6 = Int32.ofNat k ∧ x7 = p7 k ∧ x8 = p8 k ∧ x9 = p9 k ∧ f = st k) (fun x3 x4 x5 x6 x7 x8 x9 _ => N - x6.toNatClampNeg) ?_ _ _ _ _ _ _ _ _ ⟨k0, Nat.le_refl _, h0, hP, rfl, rfl, rfl, rfl, rfl, rfl, rfl, rfl⟩
  intro K x3 x4 x5 x6 x7 x8 x9 f hI hK
  obtain ⟨k, h1, h2, h3, rfl, rfl, rfl, rfl, rfl, rfl, rfl, rfl⟩ := hI
  refine step K k h1 h2 h3 (fun h4 h5 => hK _ _ _ _ _ _ _ _ ⟨k + 1, by omega, by omega, h5, rfl, rfl, rfl, rfl, rfl, rfl, rfl, rfl⟩ ?_)
  show N - (Int32.ofNat (k + 1)).toNatClampNeg < N - (Int32.ofNat k).toNatClampNeg
  rw [n_clamp (by omega), n_clamp (by omega)]
  omega
theorem icX7_round_217_7 {K261 : Int32 → Int32 → Int32 → Int32 → Int32 → Int32 → St → Prop} {Q : Int32 → St → Prop} (N k0 : Nat) (hN : N < 2147483648) (h0 : k0 ≤ N) (P : Nat → Prop) (p3 : Nat → Int32) (p4 : Nat → Int32) (p5 : Nat → Int32) (p6 : Nat → Int32) (p8 : Nat → Int32) (p9 : Nat → Int32) (st : Nat → St) (hP : P k0) (step : ∀ (K217 : Int32 → Int32 → Int32 → Int32 → Int32 → Int32 → Int32 → St → Prop) (k : Nat), k0 ≤ k → k ≤ N → P k → (k < N → P (k + 1) → K217 (p3 (k + 1)) (p4 (k + 1)) (p5 (k + 1)) (p6 (k + 1)) (Int32.ofNat (k + 1)) (p8 (k + 1)) (p9 (k + 1)) (st (k + 1))) → wbX7_round_217 K217 K261 Q (p3 k) (p4 k) (p5 k) (p6 k) (Int32.ofNat k) (p8 k) (p9 k) (st k)) : ∃ n : Nat, wlX7_round_217 K261 Q n (p3 k0) (p4 k0) (p5 k0) (p6 k0) (Int32.ofNat k0) (p8 k0) (p9 k0) (st k0) := by
  refine ilX7_round_217 (fun x3 x4 x5 x6 x7 x8 x9 f => ∃ k, k0 ≤ k ∧ k ≤ N ∧ P k ∧ x3 = p3 k ∧ x4 = p4 k ∧ x5 = p5 k ∧ x6 = p6 k ∧ x7 = Int32.ofNat k ∧ x8 = p8 k ∧ x9 = p9 k ∧ f = st k) (fun x3 x4 x5 x6 x7 x8 x9 _ => N - x7.toNatClampNeg) ?_ _ _ _ _ _ _ _ _ ⟨k0, Nat.le_refl _, h0, hP, rfl, rfl, rfl, rfl, rfl, rfl, rfl, rfl⟩
  intro K x3 x4 x5 x6 x7 x8 x9 f hI hK
  obtain ⟨k, h1, h2, h3, rfl, rfl, rfl, rfl, rfl, rfl, rfl, rfl⟩ := hI
  refine step K k h1 h2 h3 (fun h4 h5 => hK _ _ _ _ _ _ _ _ ⟨k + 1, by omega, by omega, h5, rfl, rfl, rfl, rfl, rfl, rfl, rfl, rfl⟩ ?_)
  show N - (Int32.ofNat (k + 1)).toNatClampNeg < N - (Int32.ofNat k).toNatClampNeg
  rw [n_clamp (by omega), n_clamp (by omega)]
  omega
theorem icX7_round_217_8 {K261 : Int32 → Int32 → Int32 → Int32 → Int32 → Int32 → St → Prop} {Q : Int32 → St → Prop} (N k0 : Nat) (hN : N < 2147483648) (h0 : k0 ≤ N) (P : Nat → Prop) (p3 : Nat → Int32) (p4 : Nat → Int32) (p5 : Nat → Int32) (p6 : Nat → Int32) (p7 : Nat → Int32) (p9 : Nat → Int32) (st : Nat → St) (hP : P k0) (step : ∀ (K217 : Int32 → Int32 → Int32 → Int32 → Int32 → Int32 → Int32 → St → Prop) (k : Nat), k0 ≤ k → k ≤ N → P k → (k < N → P (k + 1) → K217 (p3 (k + 1)) (p4 (k + 1)) (p5 (k + 1)) (p6 (k + 1)) (p7 (k + 1)) (Int32.ofNat (k + 1)) (p9 (k + 1)) (st (k + 1))) → wbX7_round_217 K217 K261 Q (p3 k) (p4 k) (p5 k) (p6 k) (p7 k) (Int32.ofNat k) (p9 k) (st k)) : ∃ n : Nat, wlX7_round_217 K261 Q n (p3 k0) (p4 k0) (p5 k0) (p6 k0) (p7 k0) (Int32.ofNat k0) (p9 k0) (st k0) := by
  refine ilX7_round_217 (fun x3 x4 x5 x6 x7 x8 x9 f => ∃ k, k0 ≤ k ∧ k ≤ N ∧ P k ∧ x3 = p3 k ∧ x4 = p4 k ∧ x5 = p5 k ∧ x6 = p6 k ∧ x7 = p7 k ∧ x8 = Int32.ofNat k ∧ x9 = p9 k ∧ f = st k) (fun x3 x4 x5 x6 x7 x8 x9 _ => N - x8.toNatClampNeg) ?_ _ _ _ _ _ _ _ _ ⟨k0, Nat.le_refl _, h0, hP, rfl, rfl, rfl, rfl, rfl, rfl, rfl, rfl⟩
  intro K x3 x4 x5 x6 x7 x8 x9 f hI hK
  obtain ⟨k, h1, h2, h3, rfl, rfl, rfl, rfl, rfl, rfl, rfl, rfl⟩ := hI
  refine step K k h1 h2 h3 (fun h4 h5 => hK _ _ _ _ _ _ _ _ ⟨k + 1, by omega, by omega, h5, rfl, rfl, rfl, rfl, rfl, rfl, rfl, rfl⟩ ?_)
  show N - (Int32.ofNat (k + 1)).toNatClampNeg < N - (Int32.ofNat k).toNatClampNeg
  rw [n_clamp (by omega), n_clamp (by omega)]
  omega
theorem icX7_round_217_9 {K261 : Int32 → Int32 → Int32 → Int32 → Int32 → Int32 → St → Prop} {Q : Int32 → St → Prop} (N k0 : Nat) (hN : N < 2147483648) (h0 : k0 ≤ N) (P : Nat → Prop) (p3 : Nat → Int32) (p4 : Nat → Int32) (p5 : Nat → Int32) (p6 : Nat → Int32) (p7 : Nat → Int32) (p8 : Nat → Int32) (st : Nat → St) (hP : P k0) (step : ∀ (K217 : Int32 → Int32 → Int32 → Int32 → Int32 → Int32 → Int32 → St → Prop) (k : Nat), k0 ≤ k → k ≤ N → P k → (k < N → P (k + 1) → K217 (p3 (k + 1)) (p4 (k + 1)) (p5 (k + 1)) (p6 (k + 1)) (p7 (k + 1)) (p8 (k + 1)) (Int32.ofNat (k + 1)) (st (k + 1))) → wbX7_round_217 K217 K261 Q (p3 k) (p4 k) (p5 k) (p6 k) (p7 k) (p8 k) (Int32.ofNat k) (st k)) : ∃ n : Nat, wlX7_round_217 K261 Q n (p3 k0) (p4 k0) (p5 k0) (p6 k0) (p7 k0) (p8 k0) (Int32.ofNat k0) (st k0) := by
  refine ilX7_round_217 (fun x3 x4 x5 x6 x7 x8 x9 f => ∃ k, k0 ≤ k ∧ k ≤ N ∧ P k ∧ x3 = p3 k ∧ x4 = p4 k ∧ x5 = p5 k ∧ x6 = p6 k ∧ x7 = p7 k ∧ x8 = p8 k ∧ x9 = Int32.ofNat k ∧ f = st k) (fun x3 x4 x5 x6 x7 x8 x9 _ => N - x9.toNatClampNeg) ?_ _ _ _ _ _ _ _ _ ⟨k0, Nat.le_refl _, h0, hP, rfl, rfl, rfl, rfl, rfl, rfl, rfl, rfl⟩
  intro K x3 x4 x5 x6 x7 x8 x9 f hI hK
  obtain ⟨k, h1, h2, h3, rfl, rfl, rfl, rfl, rfl, rfl, rfl, rfl⟩ := hI
  refine step K k h1 h2 h3 (fun h4 h5 => hK _ _ _ _ _ _ _ _ ⟨k + 1, by omega, by omega, h5, rfl, rfl, rfl, rfl, rfl, rfl, rfl, rfl⟩ ?_)
  show N - (Int32.ofNat (k + 1)).toNatClampNeg < N - (Int32.ofNat k).toNatClampNeg
  rw [n_clamp (by omega), n_clamp (by omega)]
  omega
theorem ilX7_round_205 {K295 : Int32 → Int32 → St → Prop} {Q : Int32 → St → Prop} (Inv : Int32 → Int32 → Int32 → Int32 → Int32 → Int32 → St → Prop) (meas : Int32 → Int32 → Int32 → Int32 → Int32 → Int32 → St → Nat) (step : ∀ (K205 : Int32 → Int32 → Int32 → Int32 → Int32 → Int32 → St → Prop) (x3 : Int32) (x4 : Int32) (x5 : Int32) (x6 : Int32) (x7 : Int32) (x8 : Int32) (f : St), Inv x3 x4 x5 x6 x7 x8 f → (∀ (y3 : Int32) (y4 : Int32) (y5 : Int32) (y6 : Int32) (y7 : Int32) (y8 : Int32) (f' : St), Inv y3 y4 y5 y6 y7 y8 f' → meas y3 y4 y5 y6 y7 y8 f' < meas x3 x4 x5 x6 x7 x8 f → K205 y3 y4 y5 y6 y7 y8 f') → wbX7_round_205 K205 K295 Q x3 x4 x5 x6 x7 x8 f) (x3 : Int32) (x4 : Int32) (x5 : Int32) (x6 : Int32) (x7 : Int32) (x8 : Int32) (f : St) (h : Inv x3 x4 x5 x6 x7 x8 f) : ∃ n : Nat, wlX7_round_205 K295 Q n x3 x4 x5 x6 x7 x8 f := by
  have key : ∀ (n : Nat) (x3 : Int32) (x4 : Int32) (x5 : Int32) (x6 : Int32) (x7 : Int32) (x8 : Int32) (f : St), Inv x3 x4 x5 x6 x7 x8 f → meas x3 x4 x5 x6 x7 x8 f < n → wlX7_round_205 K295 Q n x3 x4 x5 x6 x7 x8 f := by
    intro n
    induction n with
    | zero => intro x3 x4 x5 x6 x7 x8 f hI hm; exact absurd hm (Nat.not_lt_zero _)
    | succ n ih => intro x3 x4 x5 x6 x7 x8 f hI hm; exact step _ x3 x4 x5 x6 x7 x8 f hI (fun y3 y4 y5 y6 y7 y8 f' hI' hlt => ih y3 y4 y5 y6 y7 y8 f' hI' (Nat.lt_of_lt_of_le hlt (Nat.le_of_lt_succ hm)))
  exact ⟨_, key _ x3 x4 x5 x6 x7 x8 f h (Nat.lt_succ_self _)⟩
theorem icX7_round_205_3 {K295 : Int32 → Int32 → St → Prop} {Q : Int32 → St → Prop} (N k0 : Nat) (hN : N < 2147483648) (h0 : k0 ≤ N) (P : Nat → Prop) (p4 : Nat → Int32) (p5 : Nat → Int32) (p6 : Nat → Int32) (p7 : Nat → Int32) (p8 : Nat → Int32) (st : Nat → St) (hP : P k0) (step : ∀ (K205 : Int32 → Int32 → Int32 → Int32 → Int32 → Int32 → St → Prop) (k : Nat), k0 ≤ k → k ≤ N → P k → (k < N → P (k + 1) → K205 (Int32.ofNat (k + 1)) (p4 (k + 1)) (p5 (k + 1)) (p6 (k + 1)) (p7 (k + 1)) (p8 (k + 1)) (st (k + 1))) → wbX7_round_205 K205 K295 Q (Int32.ofNat k) (p4 k) (p5 k) (p6 k) (p7 k) (p8 k) (st k)) : ∃ n : Nat, wlX7_round_205 K295 Q n (Int32.ofNat k0) (p4 k0) (p5 k0) (p6 k0) (p7 k0) (p8 k0) (st k0) := by
  refine ilX7_round_205 (fun x3 x4 x5 x6 x7 x8 f => ∃ k, k0 ≤ k ∧ k ≤ N ∧ P k ∧ x3 = Int32.ofNat k ∧ x4 = p4 k ∧ x5 = p5 k ∧ x6 = p6 k ∧ x7 = p7 k ∧ x8 = p8 k ∧ f = st k) (fun x3 x4 x5 x6 x7 x8 _ => N - x3.toNatClampNeg) ?_ _ _ _ _ _ _ _ ⟨k0, Nat.le_refl _, h0, hP, rfl, rfl, rfl, rfl, rfl, rfl, rfl⟩
  intro K x3 x4 x5 x6 x7 x8 f hI hK
  obtain ⟨k, h1, h2, h3, rfl, rfl, rfl, rfl, rfl, rfl, rfl⟩ := hI
  refine step K k h1 h2 h3 (fun h4 h5 => hK _ _ _ _ _ _ _ ⟨k + 1, by omega, by omega, h5, rfl, rfl, rfl, rfl, rfl, rfl, rfl⟩ ?_)
  show N - (Int32.ofNat (k + 1)).toNatClampNeg < N - (Int32.ofNat k).toNatClampNeg
  rw [n_clamp (by omega), n_clamp (by omega)]
  omega
theorem icX7_round_205_4 {K295 : Int32 → Int32 → St → Prop} {Q : Int32 → St → Prop} (N k0 : Nat) (hN : N < 2147483648) (h0 : k0 ≤ N) (P : Nat → Prop) (p3 : Nat → Int32) (p5 : Nat → Int32) (p6 : Nat → Int32) (p7 : Nat → Int32) (p8 : Nat → Int32) (st : Nat → St) (hP : P k0) (step : ∀ (K205 : Int32 → Int32 → Int32 → Int32 → Int32 → Int32 → St → Prop) (k : Nat), k0 ≤ k → k ≤ N → P k → (k < N → P (k + 1) → K205 (p3 (k + 1)) (Int32.ofNat (k + 1)) (p5 (k + 1)) (p6 (k + 1)) (p7 (k + 1)) (p8 (k + 1)) (st (k + 1))) → wbX7_round_205 K205 K295 Q (p3 k) (Int32.ofNat k) (p5 k) (p6 k) (p7 k) (p8 k) (st k)) : ∃ n : Nat, wlX7_round_205 K295 Q n (p3 k0) (Int32.ofNat k0) (p5 k0) (p6 k0) (p7 k0) (p8 k0) (st k0) := by
  refine ilX7_round_205 (fun x3 x4 x5 x6 x7 x8 f => ∃ k, k0 ≤ k ∧ k ≤ N ∧ P k ∧ x3 = p3 k ∧ x4 = Int32.ofNat k ∧ x5 = p5 k ∧ x6 = p6 k ∧ x7 = p7 k ∧ x8 = p8 k ∧ f = st k) (fun x3 x4 x5 x6 x7 x8 _ => N - x4.toNatClampNeg) ?_ _ _ _ _ _ _ _ ⟨k0, Nat.le_refl _, h0, hP, rfl, rfl, rfl, rfl, rfl, rfl, rfl⟩
  intro K x3 x4 x5 x6 x7 x8 f hI hK
  obtain ⟨k, h1, h2, h3, rfl, rfl, rfl, rfl, rfl, rfl, rfl⟩ := hI
  refine step K k h1 h2 h3 (fun h4 h5 => hK _ _ _ _ _ _ _ ⟨k + 1, by omega, by omega, h5, rfl, rfl, rfl, rfl, rfl, rfl, rfl⟩ ?_)
  show N - (Int32.ofNat (k + 1)).toNatClampNeg < N - (Int32.ofNat k).toNatClampNeg
  rw [n_clamp (by omega), n_clamp (by omega)]
  omega
theorem icX7_round_205_5 {K295 : Int32 → Int32 → St → Prop} {Q : Int32 → St → Prop} (N k0 : Nat) (hN : N < 2147483648) (h0 : k0 ≤ N) (P : Nat → Prop) (p3 : Nat → Int32) (p4 : Nat → Int32) (p6 : Nat → Int32) (p7 : Nat → Int32) (p8 : Nat → Int32) (st : Nat → St) (hP : P k0) (step : ∀ (K205 : Int32 → Int32 → Int32 → Int32 → Int32 → Int32 → St → Prop) (k : Nat), k0 ≤ k → k ≤ N → P k → (k < N → P (k + 1) → K205 (p3 (k + 1)) (p4 (k + 1)) (Int32.ofNat (k + 1)) (p6 (k + 1)) (p7 (k + 1)) (p8 (k + 1)) (st (k + 1))) → wbX7_round_205 K205 K295 Q (p3 k) (p4 k) (Int32.ofNat k) (p6 k) (p7 k) (p8 k) (st k)) : ∃ n : Nat, wlX7_round_205 K295 Q n (p3 k0) (p4 k0) (Int32.ofNat k0) (p6 k0) (p7 k0) (p8 k0) (st k0) := by
  refine ilX7_round_205 (fun x3 x4 x5 x6 x7 x8 f => ∃ k, k0 ≤ k ∧ k ≤ N ∧ P k ∧ x3 = p3 k ∧ x4 = p4 k ∧ x5 = Int32.ofNat k ∧ x6 = p6 k ∧ x7 = p7 k ∧ x8 = p8 k ∧ f = st k) (fun x3 x4 x5 x6 x7 x8 _ => N - x5.toNatClampNeg) ?_ _ _ _ _ _ _ _ ⟨k0, Nat.le_refl _, h0, hP, rfl, rfl, rfl, rfl, rfl, rfl, rfl⟩
  intro K x3 x4 x5 x6 x7 x8 f hI hK
  obtain ⟨k, h1, h2, h3, rfl, rfl, rfl, rfl, rfl, rfl, rfl⟩ := hI
  refine step K k h1 h2 h3 (fun h4 h5 => hK _ _ _ _ _ _ _ ⟨k + 1, by omega, by omega, h5, rfl, rfl, rfl, rfl, rfl, rfl, rfl⟩ ?_)
  show N - (Int32.ofNat (k + 1)).toNatClampNeg < N - (Int32.ofNat k).toNatClampNeg
  rw [n_clamp (by omega), n_clamp (by omega)]
  omega
theorem icX7_round_205_6 {K295 : Int32 → Int32 → St → Prop} {Q : Int32 → St → Prop} (N k0 : Nat) (hN : N < 2147483648) (h0 : k0 ≤ N) (P : Nat → Prop) (p3 : Nat → Int32) (p4 : Nat → Int32) (p5 : Nat → Int32) (p7 : Nat → Int32) (p8 : Nat → Int32) (st : Nat → St) (hP : P k0) (step : ∀ (K205 : Int32 → Int32 → Int32 → Int32 → Int32 → Int32 → St → Prop) (k : Nat), k0 ≤ k → k ≤ N → P k → (k < N → P (k + 1) → K205 (p3 (k + 1)) (p4 (k + 1)) (p5 (k + 1)) (Int32.ofNat (k + 1)) (p7 (k + 1)) (p8 (k + 1)) (st (k + 1))) → wbX7_round_205 K205 K295 Q (p3 k) (p4 k) (p5 k) (Int32.ofNat k) (p7 k) (p8 k) (st k)) : ∃ n : Nat, wlX7_round_205 K295 Q n (p3 k0) (p4 k0) (p5 k0) (Int32.ofNat k0) (p7 k0) (p8 k0) (st k0) := by
  refine ilX7_round_205 (fun x3 x4 x5 x6 x7 x8 f => ∃ k, k0 ≤ k ∧ k ≤ N ∧ P k ∧ x3 = p3 k ∧ x4 = p4 k ∧ x5 = p5 k ∧ x6 = Int32.ofNat k ∧ x7 = p7 k ∧ x8 = p8 k ∧ f = st k) (fun x3 x4 x5 x6 x7 x8 _ => N - x6.toNatClampNeg) ?_ _ _ _ _ _ _ _ ⟨k0, Nat.le_refl _, h0, hP, rfl, rfl, rfl, rfl, rfl, rfl, rfl⟩
  intro K x3 x4 x5 x6 x7 x8 f hI hK
  obtain ⟨k, h1, h2, h3, rfl, rfl, rfl, rfl, rfl, rfl, rfl⟩ := hI
  refine step K k h1 h2 h3 (fun h4 h5 => hK _ _ _ _ _ _ _ ⟨k + 1, by omega, by omega, h5, rfl, rfl, rfl, rfl, rfl, rfl, rfl⟩ ?_)
  show N - (Int32.ofNat (k + 1)).toNatClampNeg < N - (Int32.ofNat k).toNatClampNeg
  rw [n_clamp (by omega), n_clamp (by omega)]
  omega
theorem icX7_round_205_7 {K295 : Int32 → Int32 → St → Prop} {Q : Int32 → St → Prop} (N k0 : Nat) (hN : N < 2147483648) (h0 : k0 ≤ N) (P : Nat → Prop) (p3 : Nat → Int32) (p4 : Nat → Int32) (p5 : Nat → Int32) (p6 : Nat → Int32) (p8 : Nat → Int32) (st : Nat → St) (hP : P k0) (step : ∀ (K205 : Int32 → Int32 → Int32 → Int32 → Int32 → Int32 → St → Prop) (k : Nat), k0 ≤ k → k ≤ N → P k → (k < N → P (k + 1) → K205 (p3 (k + 1)) (p4 (k + 1)) (p5 (k + 1)) (p6 (k + 1)) (Int32.ofNat (k + 1)) (p8 (k + 1)) (st (k + 1))) → wbX7_round_205 K205 K295 Q (p3 k) (p4 k) (p5 k) (p6 k) (Int32.ofNat k) (p8 k) (st k)) : ∃ n : Nat, wlX7_round_205 K295 Q n (p3 k0) (p4 k0) (p5 k0) (p6 k0) (Int32.ofNat k0) (p8 k0) (st k0) := by
  refine ilX7_round_205 (fun x3 x4 x5 x6 x7 x8 f => ∃ k, k0 ≤ k ∧ k ≤ N ∧ P k ∧ x3 = p3 k ∧ x4 = p4 k ∧ x5 = p5 k ∧ x6 = p6 k ∧ x7 = Int32.ofNat k ∧ x8 = p8 k ∧ f = st k) (fun x3 x4 x5 x6 x7 x8 _ => N - x7.toNatClampNeg) ?_ _ _ _ _ _ _ _ ⟨k0, Nat.le_refl _, h0, hP, rfl, rfl, rfl, rfl, rfl, rfl, rfl⟩
  intro K x3 x4 x5 x6 x7 x8 f hI hK
  obtain ⟨k, h1, h2, h3, rfl, rfl, rfl, rfl, rfl, rfl, rfl⟩ := hI
  refine step K k h1 h2 h3 (fun h4 h5 => hK _ _ _ _ _ _ _ ⟨k + 1, by omega, by omega, h5, rfl, rfl, rfl, rfl, rfl, rfl, rfl⟩ ?_)
  show N - (Int32.ofNat (k + 1)).toNatClampNeg < N - (Int32.ofNat k).toNatClampNeg
  rw [n_clamp (by omega), n_clamp (by omega)]
  omega
theorem icX7_round_205_8 {K295 : Int32 → Int32 → St → Prop} {Q : Int32 → St → Prop} (N k0 : Nat) (hN : N < 2147483648) (h0 : k0 ≤ N) (P : Nat → Prop) (p3 : Nat → Int32) (p4 : Nat → Int32) (p5 : Nat → Int32) (p6 : Nat → Int32) (p7 : Nat → Int32) (st : Nat → St) (hP : P k0) (step : ∀ (K205 : Int32 → Int32 → Int32 → Int32 → Int32 → Int32 → St → Prop) (k : Nat), k0 ≤ k → k ≤ N → P k → (k < N → P (k + 1) → K205 (p3 (k + 1)) (p4 (k + 1)) (p5 (k + 1)) (p6 (k + 1)) (p7 (k + 1)) (Int32.ofNat (k + 1)) (st (k + 1))) → wbX7_round_205 K205 K295 Q (p3 k) (p4 k) (p5 k) (p6 k) (p7 k) (Int32.ofNat k) (st k)) : ∃ n : Nat, wlX7_round_205 K295 Q n (p3 k0) (p4 k0) (p5 k0) (p6 k0) (p7 k0) (Int32.ofNat k0) (st k0) := by
  refine ilX7_round_205 (fun x3 x4 x5 x6 x7 x8 f => ∃ k, k0 ≤ k ∧ k ≤ N ∧ P k ∧ x3 = p3 k ∧ x4 = p4 k ∧ x5 = p5 k ∧ x6 = p6 k ∧ x7 = p7 k ∧ x8 = Int32.ofNat k ∧ f = st k) (fun x3 x4 x5 x6 x7 x8 _ => N - x8.toNatClampNeg) ?_ _ _ _ _ _ _ _ ⟨k0, Nat.le_refl _, h0, hP, rfl, rfl, rfl, rfl, rfl, rfl, rfl⟩
  intro K x3 x4 x5 x6 x7 x8 f hI hK
  obtain ⟨k, h1, h2, h3, rfl, rfl, rfl, rfl, rfl, rfl, rfl⟩ := hI
  refine step K k h1 h2 h3 (fun h4 h5 => hK _ _ _ _ _ _ _ ⟨k + 1, by omega, by omega, h5, rfl, rfl, rfl, rfl, rfl, rfl, rfl⟩ ?_)
  show N - (Int32.ofNat (k + 1)).toNatClampNeg < N - (Int32.ofNat k).toNatClampNeg
  rw [n_clamp (by omega), n_clamp (by omega)]
  omega
theorem ilX7_walk_85 {K124 : Int32 → Int32 → Int32 → Int32 → Int32 → Int32 → St → Prop} {Q : Int32 → St → Prop} (Inv : Int32 → Int32 → Int32 → Int32 → Int32 → Int32 → Int32 → St → Prop) (meas : Int32 → Int32 → Int32 → Int32 → Int32 → Int32 → Int32 → St → Nat) (step : ∀ (K85 : Int32 → Int32 → Int32 → Int32 → Int32 → Int32 → Int32 → St → Prop) (x1 : Int32) (x2 : Int32) (x3 : Int32) (x4 : Int32) (x5 : Int32) (x6 : Int32) (x7 : Int32) (f : St), Inv x1 x2 x3 x4 x5 x6 x7 f → (∀ (y1 : Int32) (y2 : Int32) (y3 : Int32) (y4 : Int32) (y5 : Int32) (y6 : Int32) (y7 : Int32) (f' : St), Inv y1 y2 y3 y4 y5 y6 y7 f' → meas y1 y2 y3 y4 y5 y6 y7 f' < meas x1 x2 x3 x4 x5 x6 x7 f → K85 y1 y2 y3 y4 y5 y6 y7 f') → wbX7_walk_85 K85 K124 Q x1 x2 x3 x4 x5 x6 x7 f) (x1 : Int32) (x2 : Int32) (x3 : Int32) (x4 : Int32) (x5 : Int32) (x6 : Int32) (x7 : Int32) (f : St) (h : Inv x1 x2 x3 x4 x5 x6 x7 f) : ∃ n : Nat, wlX7_walk_85 K124 Q n x1 x2 x3 x4 x5 x6 x7 f := by
  have key : ∀ (n : Nat) (x1 : Int32) (x2 : Int32) (x3 : Int32) (x4 : Int32) (x5 : Int32) (x6 : Int32) (x7 : Int32) (f : St), Inv x1 x2 x3 x4 x5 x6 x7 f → meas x1 x2 x3 x4 x5 x6 x7 f < n → wlX7_walk_85 K124 Q n x1 x2 x3 x4 x5 x6 x7 f := by
    intro n
    induction n with
    | zero => intro x1 x2 x3 x4 x5 x6 x7 f hI hm; exact absurd hm (Nat.not_lt_zero _)
    | succ n ih => intro x1 x2 x3 x4 x5 x6 x7 f hI hm; exact step _ x1 x2 x3 x4 x5 x6 x7 f hI (fun y1 y2 y3 y4 y5 y6 y7 f' hI' hlt => ih y1 y2 y3 y4 y5 y6 y7 f' hI' (Nat.lt_of_lt_of_le hlt (Nat.le_of_lt_succ hm)))
  exact ⟨_, key _ x1 x2 x3 x4 x5 x6 x7 f h (Nat.lt_succ_self _)⟩
theorem icX7_walk_85_1 {K124 : Int32 → Int32 → Int32 → Int32 → Int32 → Int32 → St → Prop} {Q : Int32 → St → Prop} (N k0 : Nat) (hN : N < 2147483648) (h0 : k0 ≤ N) (P : Nat → Prop) (p2 : Nat → Int32) (p3 : Nat → Int32) (p4 : Nat → Int32) (p5 : Nat → Int32) (p6 : Nat → Int32) (p7 : Nat → Int32) (st : Nat → St) (hP : P k0) (step : ∀ (K85 : Int32 → Int32 → Int32 → Int32 → Int32 → Int32 → Int32 → St → Prop) (k : Nat), k0 ≤ k → k ≤ N → P k → (k < N → P (k + 1) → K85 (Int32.ofNat (k + 1)) (p2 (k + 1)) (p3 (k + 1)) (p4 (k + 1)) (p5 (k + 1)) (p6 (k + 1)) (p7 (k + 1)) (st (k + 1))) → wbX7_walk_85 K85 K124 Q (Int32.ofNat k) (p2 k) (p3 k) (p4 k) (p5 k) (p6 k) (p7 k) (st k)) : ∃ n : Nat, wlX7_walk_85 K124 Q n (Int32.ofNat k0) (p2 k0) (p3 k0) (p4 k0) (p5 k0) (p6 k0) (p7 k0) (st k0) := by
  refine ilX7_walk_85 (fun x1 x2 x3 x4 x5 x6 x7 f => ∃ k, k0 ≤ k ∧ k ≤ N ∧ P k ∧ x1 = Int32.ofNat k ∧ x2 = p2 k ∧ x3 = p3 k ∧ x4 = p4 k ∧ x5 = p5 k ∧ x6 = p6 k ∧ x7 = p7 k ∧ f = st k) (fun x1 x2 x3 x4 x5 x6 x7 _ => N - x1.toNatClampNeg) ?_ _ _ _ _ _ _ _ _ ⟨k0, Nat.le_refl _, h0, hP, rfl, rfl, rfl, rfl, rfl, rfl, rfl, rfl⟩
  intro K x1 x2 x3 x4 x5 x6 x7 f hI hK
  obtain ⟨k, h1, h2, h3, rfl, rfl, rfl, rfl, rfl, rfl, rfl, rfl⟩ := hI
  refine step K k h1 h2 h3 (fun h4 h5 => hK _ _ _ _ _ _ _ _ ⟨k + 1, by omega, by omega, h5, rfl, rfl, rfl, rfl, rfl, rfl, rfl, rfl⟩ ?_)
  show N - (Int32.ofNat (k + 1)).toNatClampNeg < N - (Int32.ofNat k).toNatClampNeg
  rw [n_clamp (by omega), n_clamp (by omega)]
  omega
theorem icX7_walk_85_2 {K124 : Int32 → Int32 → Int32 → Int32 → Int32 → Int32 → St → Prop} {Q : Int32 → St → Prop} (N k0 : Nat) (hN : N < 2147483648) (h0 : k0 ≤ N) (P : Nat → Prop) (p1 : Nat → Int32) (p3 : Nat → Int32) (p4 : Nat → Int32) (p5 : Nat → Int32) (p6 : Nat → Int32) (p7 : Nat → Int32) (st : Nat → St) (hP : P k0) (step : ∀ (K85 : Int32 → Int32 → Int32 → Int32 → Int32 → Int32 → Int32 → St → Prop) (k : Nat), k0 ≤ k → k ≤ N → P k → (k < N → P (k + 1) → K85 (p1 (k + 1)) (Int32.ofNat (k + 1)) (p3 (k + 1)) (p4 (k + 1)) (p5 (k + 1)) (p6 (k + 1)) (p7 (k + 1)) (st (k + 1))) → wbX7_walk_85 K85 K124 Q (p1 k) (Int32.ofNat k) (p3 k) (p4 k) (p5 k) (p6 k) (p7 k) (st k)) : ∃ n : Nat, wlX7_walk_85 K124 Q n (p1 k0) (Int32.ofNat k0) (p3 k0) (p4 k0) (p5 k0) (p6 k0) (p7 k0) (st k0) := by
  refine ilX7_walk_85 (fun x1 x2 x3 x4 x5 x6 x7 f => ∃ k, k0 ≤ k ∧ k ≤ N ∧ P k ∧ x1 = p1 k ∧ x2 = Int32.ofNat k ∧ x3 = p3 k ∧ x4 = p4 k ∧ x5 = p5 k ∧ x6 = p6 k ∧ x7 = p7 k ∧ f = st k) (fun x1 x2 x3 x4 x5 x6 x7 _ => N - x2.toNatClampNeg) ?_ _ _ _ _ _ _ _ _ ⟨k0, Nat.le_refl _, h0, hP, rfl, rfl, rfl, rfl, rfl, rfl, rfl, rfl⟩
  intro K x1 x2 x3 x4 x5 x6 x7 f hI hK
  obtain ⟨k, h1, h2, h3, rfl, rfl, rfl, rfl, rfl, rfl, rfl, rfl⟩ := hI
  refine step K k h1 h2 h3 (fun h4 h5 => hK _ _ _ _ _ _ _ _ ⟨k + 1, by omega, by omega, h5, rfl, rfl, rfl, rfl, rfl, rfl, rfl, rfl⟩ ?_)
  show N - (Int32.ofNat (k + 1)).toNatClampNeg < N - (Int32.ofNat k).toNatClampNeg
  rw [n_clamp (by omega), n_clamp (by omega)]
  omega
theorem icX7_walk_85_3 {K124 : Int32 → Int32 → Int32 → Int32 → Int32 → Int32 → St → Prop} {Q : Int32 → St → Prop} (N k0 : Nat) (hN : N < 2147483648) (h0 : k0 ≤ N) (P : Nat → Prop) (p1 : Nat → Int32) (p2 : Nat → Int32) (p4 : Nat → Int32) (p5 : Nat → Int32) (p6 : Nat → Int32) (p7 : Nat → Int32) (st : Nat → St) (hP : P k0) (step : ∀ (K85 : Int32 → Int32 → Int32 → Int32 → Int32 → Int32 → Int32 → St → Prop) (k : Nat), k0 ≤ k → k ≤ N → P k → (k < N → P (k + 1) → K85 (p1 (k + 1)) (p2 (k + 1)) (Int32.ofNat (k + 1)) (p4 (k + 1)) (p5 (k + 1)) (p6 (k + 1)) (p7 (k + 1)) (st (k + 1))) → wbX7_walk_85 K85 K124 Q (p1 k) (p2 k) (Int32.ofNat k) (p4 k) (p5 k) (p6 k) (p7 k) (st k)) : ∃ n : Nat, wlX7_walk_85 K124 Q n (p1 k0) (p2 k0) (Int32.ofNat k0) (p4 k0) (p5 k0) (p6 k0) (p7 k0) (st k0) := by
  refine ilX7_walk_85 (fun x1 x2 x3 x4 x5 x6 x7 f => ∃ k, k0 ≤ k ∧ k ≤ N ∧ P k ∧ x1 = p1 k ∧ x2 = p2 k ∧ x3 = Int32.ofNat k ∧ x4 = p4 k ∧ x5 = p5 k ∧ x6 = p6 k ∧ x7 = p7 k ∧ f = st k) (fun x1 x2 x3 x4 x5 x6 x7 _ => N - x3.toNatClampNeg) ?_ _ _ _ _ _ _ _ _ ⟨k0, Nat.le_refl _, h0, hP, rfl, rfl, rfl, rfl, rfl, rfl, rfl, rfl⟩
  intro K x1 x2 x3 x4 x5 x6 x7 f hI hK
  obtain ⟨k, h1, h2, h3, rfl, rfl, rfl, rfl, rfl, rfl, rfl, rfl⟩ := hI
  refine step K k h1 h2 h3 (fun h4 h5 => hK _ _ _ _ _ _ _ _ ⟨k + 1, by omega, by omega, h5, rfl, rfl, rfl, rfl, rfl, rfl, rfl, rfl⟩ ?_)
  show N - (Int32.ofNat (k + 1)).toNatClampNeg < N - (Int32.ofNat k).toNatClampNeg
  rw [n_clamp (by omega), n_clamp (by omega)]
  omega
theorem icX7_walk_85_4 {K124 : Int32 → Int32 → Int32 → Int32 → Int32 → Int32 → St → Prop} {Q : Int32 → St → Prop} (N k0 : Nat) (hN : N < 2147483648) (h0 : k0 ≤ N) (P : Nat → Prop) (p1 : Nat → Int32) (p2 : Nat → Int32) (p3 : Nat → Int32) (p5 : Nat → Int32) (p6 : Nat → Int32) (p7 : Nat → Int32) (st : Nat → St) (hP : P k0) (step : ∀ (K85 : Int32 → Int32 → Int32 → Int32 → Int32 → Int32 → Int32 → St → Prop) (k : Nat), k0 ≤ k → k ≤ N → P k → (k < N → P (k + 1) → K85 (p1 (k + 1)) (p2 (k + 1)) (p3 (k + 1)) (Int32.ofNat (k + 1)) (p5 (k + 1)) (p6 (k + 1)) (p7 (k + 1)) (st (k + 1))) → wbX7_walk_85 K85 K124 Q (p1 k) (p2 k) (p3 k) (Int32.ofNat k) (p5 k) (p6 k) (p7 k) (st k)) : ∃ n : Nat, wlX7_walk_85 K124 Q n (p1 k0) (p2 k0) (p3 k0) (Int32.ofNat k0) (p5 k0) (p6 k0) (p7 k0) (st k0) := by
  refine ilX7_walk_85 (fun x1 x2 x3 x4 x5 x6 x7 f => ∃ k, k0 ≤ k ∧ k ≤ N ∧ P k ∧ x1 = p1 k ∧ x2 = p2 k ∧ x3 = p3 k ∧ x4 = Int32.ofNat k ∧ x5 = p5 k ∧ x6 = p6 k ∧ x7 = p7 k ∧ f = st k) (fun x1 x2 x3 x4 x5 x6 x7 _ => N - x4.toNatClampNeg) ?_ _ _ _ _ _ _ _ _ ⟨k0, Nat.le_refl _, h0, hP, rfl, rfl, rfl, rfl, rfl, rfl, rfl, rfl⟩
  intro K x1 x2 x3 x4 x5 x6 x7 f hI hK
  obtain ⟨k, h1, h2, h3, rfl, rfl, rfl, rfl, rfl, rfl, rfl, rfl⟩ := hI
  refine step K k h1 h2 h3 (fun h4 h5 => hK _ _ _ _ _ _ _ _ ⟨k + 1, by omega, by omega, h5, rfl, rfl, rfl, rfl, rfl, rfl, rfl, rfl⟩ ?_)
  show N - (Int32.ofNat (k + 1)).toNatClampNeg < N - (Int32.ofNat k).toNatClampNeg
  rw [n_clamp (by omega), n_clamp (by omega)]
  omega
theorem icX7_walk_85_5 {K124 : Int32 → Int32 → Int32 → Int32 → Int32 → Int32 → St → Prop} {Q : Int32 → St → Prop} (N k0 : Nat) (hN : N < 2147483648) (h0 : k0 ≤ N) (P : Nat → Prop) (p1 : Nat → Int32) (p2 : Nat → Int32) (p3 : Nat → Int32) (p4 : Nat → Int32) (p6 : Nat → Int32) (p7 : Nat → Int32) (st : Nat → St) (hP : P k0) (step : ∀ (K85 : Int32 → Int32 → Int32 → Int32 → Int32 → Int32 → Int32 → St → Prop) (k : Nat), k0 ≤ k → k ≤ N → P k → (k < N → P (k + 1) → K85 (p1 (k + 1)) (p2 (k + 1)) (p3 (k + 1)) (p4 (k + 1)) (Int32.ofNat (k + 1)) (p6 (k + 1)) (p7 (k + 1)) (st (k + 1))) → wbX7_walk_85 K85 K124 Q (p1 k) (p2 k) (p3 k) (p4 k) (Int32.ofNat k) (p6 k) (p7 k) (st k)) : ∃ n : Nat, wlX7_walk_85 K124 Q n (p1 k0) (p2 k0) (p3 k0) (p4 k0) (Int32.ofNat k0) (p6 k0) (p7 k0) (st k0) := by
  refine ilX7_walk_85 (fun x1 x2 x3 x4 x5 x6 x7 f => ∃ k, k0 ≤ k ∧ k ≤ N ∧ P k ∧ x1 = p1 k ∧ x2 = p2 k ∧ x3 = p3 k ∧ x4 = p4 k ∧ x5 = Int32.ofNat k ∧ x6 = p6 k ∧ x7 = p7 k ∧ f = st k) (fun x1 x2 x3 x4 x5 x6 x7 _ => N - x5.toNatClampNeg) ?_ _ _ _ _ _ _ _ _ ⟨k0, Nat.le_refl _, h0, hP, rfl, rfl, rfl, rfl, rfl, rfl, rfl, rfl⟩
  intro K x1 x2 x3 x4 x5 x6 x7 f hI hK
  obtain ⟨k, h1, h2, h3, rfl, rfl, rfl, rfl, rfl, rfl, rfl, rfl⟩ := hI
  refine step K k h1 h2 h3 (fun h4 h5 => hK _ _ _ _ _ _ _ _ ⟨k + 1, by omega, by omega, h5, rfl, rfl, rfl, rfl, rfl, rfl, rfl, rfl⟩ ?_)
  show N - (Int32.ofNat (k + 1)).toNatClampNeg < N - (Int32.ofNat k).toNatClampNeg
  rw [n_clamp (by omega), n_clamp (by omega)]
  omega
theorem icX7_walk_85_6 {K124 : Int32 → Int32 → Int32 → Int32 → Int32 → Int32 → St → Prop} {Q : Int32 → St → Prop} (N k0 : Nat) (hN : N < 2147483648) (h0 : k0 ≤ N) (P : Nat → Prop) (p1 : Nat → Int32) (p2 : Nat → Int32) (p3 : Nat → Int32) (p4 : Nat → Int32) (p5 : Nat → Int32) (p7 : Nat → Int32) (st : Nat → St) (hP : P k0) (step : ∀ (K85 : Int32 → Int32 → Int32 → Int32 → Int32 → Int32 → Int32 → St → Prop) (k : Nat), k0 ≤ k → k ≤ N → P k → (k < N → P (k + 1) → K85 (p1 (k + 1)) (p2 (k + 1)) (p3 (k + 1)) (p4 (k + 1)) (p5 (k + 1)) (Int32.ofNat (k + 1)) (p7 (k + 1)) (st (k + 1))) → wbX7_walk_85 K85 K124 Q (p1 k) (p2 k) (p3 k) (p4 k) (p5 k) (Int32.ofNat k) (p7 k) (st k)) : ∃ n : Nat, wlX7_walk_85 K124 Q n (p1 k0) (p2 k0) (p3 k0) (p4 k0) (p5 k0) (Int32.ofNat k0) (p7 k0) (st k0) := by
  refine ilX7_walk_85 (fun x1 x2 x3 x4 x5 x6 x7 f => ∃ k, k0 ≤ k ∧ k ≤ N ∧ P k ∧ x1 = p1 k ∧ x2 = p2 k ∧ x3 = p3 k ∧ x4 = p4 k ∧ x5 = p5 k ∧ x6 = Int32.ofNat k ∧ x7 = p7 k ∧ f = st k) (fun x1 x2 x3 x4 x5 x6 x7 _ => N - x6.toNatClampNeg) ?_ _ _ _ _ _ _ _ _ ⟨k0, Nat.le_refl _, h0, hP, rfl, rfl, rfl, rfl, rfl, rfl, rfl, rfl⟩
  intro K x1 x2 x3 x4 x5 x6 x7 f hI hK
  obtain ⟨k, h1, h2, h3, rfl, rfl, rfl, rfl, rfl, rfl, rfl, rfl⟩ := hI
  refine step K k h1 h2 h3 (fun h4 h5 => hK _ _ _ _ _ _ _ _ ⟨k + 1, by omega, by omega, h5, rfl, rfl, rfl, rfl, rfl, rfl, rfl, rfl⟩ ?_)
  show N - (Int32.ofNat (k + 1)).toNatClampNeg < N - (Int32.ofNat k).toNatClampNeg
  rw [n_clamp (by omega), n_clamp (by omega)]
  omega
theorem icX7_walk_85_7 {K124 : Int32 → Int32 → Int32 → Int32 → Int32 → Int32 → St → Prop} {Q : Int32 → St → Prop} (N k0 : Nat) (hN : N < 2147483648) (h0 : k0 ≤ N) (P : Nat → Prop) (p1 : Nat → Int32) (p2 : Nat → Int32) (p3 : Nat → Int32) (p4 : Nat → Int32) (p5 : Nat → Int32) (p6 : Nat → Int32) (st : Nat → St) (hP : P k0) (step : ∀ (K85 : Int32 → Int32 → Int32 → Int32 → Int32 → Int32 → Int32 → St → Prop) (k : Nat), k0 ≤ k → k ≤ N → P k → (k < N → P (k + 1) → K85 (p1 (k + 1)) (p2 (k + 1)) (p3 (k + 1)) (p4 (k + 1)) (p5 (k + 1)) (p6 (k + 1)) (Int32.ofNat (k + 1)) (st (k + 1))) → wbX7_walk_85 K85 K124 Q (p1 k) (p2 k) (p3 k) (p4 k) (p5 k) (p6 k) (Int32.ofNat k) (st k)) : ∃ n : Nat, wlX7_walk_85 K124 Q n (p1 k0) (p2 k0) (p3 k0) (p4 k0) (p5 k0) (p6 k0) (Int32.ofNat k0) (st k0) := by
  refine ilX7_walk_85 (fun x1 x2 x3 x4 x5 x6 x7 f => ∃ k, k0 ≤ k ∧ k ≤ N ∧ P k ∧ x1 = p1 k ∧ x2 = p2 k ∧ x3 = p3 k ∧ x4 = p4 k ∧ x5 = p5 k ∧ x6 = p6 k ∧ x7 = Int32.ofNat k ∧ f = st k) (fun x1 x2 x3 x4 x5 x6 x7 _ => N - x7.toNatClampNeg) ?_ _ _ _ _ _ _ _ _ ⟨k0, Nat.le_refl _, h0, hP, rfl, rfl, rfl, rfl, rfl, rfl, rfl, rfl⟩
  intro K x1 x2 x3 x4 x5 x6 x7 f hI hK
  obtain ⟨k, h1, h2, h3, rfl, rfl, rfl, rfl, rfl, rfl, rfl, rfl⟩ := hI
  refine step K k h1 h2 h3 (fun h4 h5 => hK _ _ _ _ _ _ _ _ ⟨k + 1, by omega, by omega, h5, rfl, rfl, rfl, rfl, rfl, rfl, rfl, rfl⟩ ?_)
  show N - (Int32.ofNat (k + 1)).toNatClampNeg < N - (Int32.ofNat k).toNatClampNeg
  rw [n_clamp (by omega), n_clamp (by omega)]
  omega
theorem ilX7_walk_152 {K225 : Int32 → Int32 → Int32 → St → Prop} {Q : Int32 → St → Prop} (Inv : Int32 → Int32 → Int32 → Int32 → Int32 → Int32 → St → Prop) (meas : Int32 → Int32 → Int32 → Int32 → Int32 → Int32 → St → Nat) (step : ∀ (K152 : Int32 → Int32 → Int32 → Int32 → Int32 → Int32 → St → Prop) (x3 : Int32) (x4 : Int32) (x5 : Int32) (x7 : Int32) (x8 : Int32) (x9 : Int32) (f : St), Inv x3 x4 x5 x7 x8 x9 f → (∀ (y3 : Int32) (y4 : Int32) (y5 : Int32) (y7 : Int32) (y8 : Int32) (y9 : Int32) (f' : St), Inv y3 y4 y5 y7 y8 y9 f' → meas y3 y4 y5 y7 y8 y9 f' < meas x3 x4 x5 x7 x8 x9 f → K152 y3 y4 y5 y7 y8 y9 f') → wbX7_walk_152 K152 K225 Q x3 x4 x5 x7 x8 x9 f) (x3 : Int32) (x4 : Int32) (x5 : Int32) (x7 : Int32) (x8 : Int32) (x9 : Int32) (f : St) (h : Inv x3 x4 x5 x7 x8 x9 f) : ∃ n : Nat, wlX7_walk_152 K225 Q n x3 x4 x5 x7 x8 x9 f := by
  have key : ∀ (n : Nat) (x3 : Int32) (x4 : Int32) (x5 : Int32) (x7 : Int32) (x8 : Int32) (x9 : Int32) (f : St), Inv x3 x4 x5 x7 x8 x9 f → meas x3 x4 x5 x7 x8 x9 f < n → wlX7_walk_152 K225 Q n x3 x4 x5 x7 x8 x9 f := by
    intro n
    induction n with
    | zero => intro x3 x4 x5 x7 x8 x9 f hI hm; exact absurd hm (Nat.not_lt_zero _)
    | succ n ih => intro x3 x4 x5 x7 x8 x9 f hI hm; exact step _ x3 x4 x5 x7 x8 x9 f hI (fun y3 y4 y5 y7 y8 y9 f' hI' hlt => ih y3 y4 y5 y7 y8 y9 f' hI' (Nat.lt_of_lt_of_le hlt (Nat.le_of_lt_succ hm)))
  exact ⟨_, key _ x3 x4 x5 x7 x8 x9 f h (Nat.lt_succ_self _)⟩
theorem icX7_walk_152_3 {K225 : Int32 → Int32 → Int32 → St → Prop} {Q : Int32 → St → Prop} (N k0 : Nat) (hN : N < 2147483648) (h0 : k0 ≤ N) (P : Nat → Prop) (p4 : Nat → Int32) (p5 : Nat → Int32) (p7 : Nat → Int32) (p8 : Nat → Int32) (p9 : Nat → Int32) (st : Nat → St) (hP : P k0) (step : ∀ (K152 : Int32 → Int32 → Int32 → Int32 → Int32 → Int32 → St → Prop) (k : Nat), k0 ≤ k → k ≤ N → P k → (k < N → P (k + 1) → K152 (Int32.ofNat (k + 1)) (p4 (k + 1)) (p5 (k + 1)) (p7 (k + 1)) (p8 (k + 1)) (p9 (k + 1)) (st (k + 1))) → wbX7_walk_152 K152 K225 Q (Int32.ofNat k) (p4 k) (p5 k) (p7 k) (p8 k) (p9 k) (st k)) : ∃ n : Nat, wlX7_walk_152 K225 Q n (Int32.ofNat k0) (p4 k0) (p5 k0) (p7 k0) (p8 k0) (p9 k0) (st k0) := by
  refine ilX7_walk_152 (fun x3 x4 x5 x7 x8 x9 f => ∃ k, k0 ≤ k ∧ k ≤ N ∧ P k ∧ x3 = Int32.ofNat k ∧ x4 = p4 k ∧ x5 = p5 k ∧ x7 = p7 k ∧ x8 = p8 k ∧ x9 = p9 k ∧ f = st k) (fun x3 x4 x5 x7 x8 x9 _ => N - x3.toNatClampNeg) ?_ _ _ _ _ _ _ _ ⟨k0, Nat.le_refl _, h0, hP, rfl, rfl, rfl, rfl, rfl, rfl, rfl⟩
  intro K x3 x4 x5 x7 x8 x9 f hI hK
  obtain ⟨k, h1, h2, h3, rfl, rfl, rfl, rfl, rfl, rfl, rfl⟩ := hI
  refine step K k h1 h2 h3 (fun h4 h5 => hK _ _ _ _ _ _ _ ⟨k + 1, by omega, by omega, h5, rfl, rfl, rfl, rfl, rfl, rfl, rfl⟩ ?_)
  show N - (Int32.ofNat (k + 1)).toNatClampNeg < N - (Int32.ofNat k).toNatClampNeg
  rw [n_clamp (by omega), n_clamp (by omega)]
  omega
theorem icX7_walk_152_4 {K225 : Int32 → Int32 → Int32 → St → Prop} {Q : Int32 → St → Prop} (N k0 : Nat) (hN : N < 2147483648) (h0 : k0 ≤ N) (P : Nat → Prop) (p3 : Nat → Int32) (p5 : Nat → Int32) (p7 : Nat → Int32) (p8 : Nat → Int32) (p9 : Nat → Int32) (st : Nat → St) (hP : P k0) (step : ∀ (K152 : Int32 → Int32 → Int32 → Int32 → Int32 → Int32 → St → Prop) (k : Nat), k0 ≤ k → k ≤ N → P k → (k < N → P (k + 1) → K152 (p3 (k + 1)) (Int32.ofNat (k + 1)) (p5 (k + 1)) (p7 (k + 1)) (p8 (k + 1)) (p9 (k + 1)) (st (k + 1))) → wbX7_walk_152 K152 K225 Q (p3 k) (Int32.ofNat k) (p5 k) (p7 k) (p8 k) (p9 k) (st k)) : ∃ n : Nat, wlX7_walk_152 K225 Q n (p3 k0) (Int32.ofNat k0) (p5 k0) (p7 k0) (p8 k0) (p9 k0) (st k0) := by
  refine ilX7_walk_152 (fun x3 x4 x5 x7 x8 x9 f => ∃ k, k0 ≤ k ∧ k ≤ N ∧ P k ∧ x3 = p3 k ∧ x4 = Int32.ofNat k ∧ x5 = p5 k ∧ x7 = p7 k ∧ x8 = p8 k ∧ x9 = p9 k ∧ f = st k) (fun x3 x4 x5 x7 x8 x9 _ => N - x4.toNatClampNeg) ?_ _ _ _ _ _ _ _ ⟨k0, Nat.le_refl _, h0, hP, rfl, rfl, rfl, rfl, rfl, rfl, rfl⟩
  intro K x3 x4 x5 x7 x8 x9 f hI hK
  obtain ⟨k, h1, h2, h3, rfl, rfl, rfl, rfl, rfl, rfl, rfl⟩ := hI
  refine step K k h1 h2 h3 (fun h4 h5 => hK _ _ _ _ _ _ _ ⟨k + 1, by omega, by omega, h5, rfl, rfl, rfl, rfl, rfl, rfl, rfl⟩ ?_)
  show N - (Int32.ofNat (k + 1)).toNatClampNeg < N - (Int32.ofNat k).toNatClampNeg
  rw [n_clamp (by omega), n_clamp (by omega)]
  omega
theorem icX7_walk_152_5 {K225 : Int32 → Int32 → Int32 → St → Prop} {Q : Int32 → St → Prop} (N k0 : Nat) (hN : N < 2147483648) (h0 : k0 ≤ N) (P : Nat → Prop) (p3 : Nat → Int32) (p4 : Nat → Int32) (p7 : Nat → Int32) (p8 : Nat → Int32) (p9 : Nat → Int32) (st : Nat → St) (hP : P k0) (step : ∀ (K152 : Int32 → Int32 → Int32 → Int32 → Int32 → Int32 → St → Prop) (k : Nat), k0 ≤ k → k ≤ N → P k → (k < N → P (k + 1) → K152 (p3 (k + 1)) (p4 (k + 1)) (Int32.ofNat (k + 1)) (p7 (k + 1)) (p8 (k + 1)) (p9 (k + 1)) (st (k + 1))) → wbX7_walk_152 K152 K225 Q (p3 k) (p4 k) (Int32.ofNat k) (p7 k) (p8 k) (p9 k) (st k)) : ∃ n : Nat, wlX7_walk_152 K225 Q n (p3 k0) (p4 k0) (Int32.ofNat k0) (p7 k0) (p8 k0) (p9 k0) (st k0) := by
  refine ilX7_walk_152 (fun x3 x4 x5 x7 x8 x9 f => ∃ k, k0 ≤ k ∧ k ≤ N ∧ P k ∧ x3 = p3 k ∧ x4 = p4 k ∧ x5 = Int32.ofNat k ∧ x7 = p7 k ∧ x8 = p8 k ∧ x9 = p9 k ∧ f = st k) (fun x3 x4 x5 x7 x8 x9 _ => N - x5.toNatClampNeg) ?_ _ _ _ _ _ _ _ ⟨k0, Nat.le_refl _, h0, hP, rfl, rfl, rfl, rfl, rfl, rfl, rfl⟩
  intro K x3 x4 x5 x7 x8 x9 f hI hK
  obtain ⟨k, h1, h2, h3, rfl, rfl, rfl, rfl, rfl, rfl, rfl⟩ := hI
  refine step K k h1 h2 h3 (fun h4 h5 => hK _ _ _ _ _ _ _ ⟨k + 1, by omega, by omega, h5, rfl, rfl, rfl, rfl, rfl, rfl, rfl⟩ ?_)
  show N - (Int32.ofNat (k + 1)).toNatClampNeg < N - (Int32.ofNat k).toNatClampNeg
  rw [n_clamp (by omega), n_clamp (by omega)]
  omega
theorem icX7_walk_152_7 {K225 : Int32 → Int32 → Int32 → St → Prop} {Q : Int32 → St → Prop} (N k0 : Nat) (hN : N < 2147483648) (h0 : k0 ≤ N) (P : Nat → Prop) (p3 : Nat → Int32) (p4 : Nat → Int32) (p5 : Nat → Int32) (p8 : Nat → Int32) (p9 : Nat → Int32) (st : Nat → St) (hP : P k0) (step : ∀ (K152 : Int32 → Int32 → Int32 → Int32 → Int32 → Int32 → St → Prop) (k : Nat), k0 ≤ k → k ≤ N → P k → (k < N → P (k + 1) → K152 (p3 (k + 1)) (p4 (k + 1)) (p5 (k + 1)) (Int32.ofNat (k + 1)) (p8 (k + 1)) (p9 (k + 1)) (st (k + 1))) → wbX7_walk_152 K152 K225 Q (p3 k) (p4 k) (p5 k) (Int32.ofNat k) (p8 k) (p9 k) (st k)) : ∃ n : Nat, wlX7_walk_152 K225 Q n (p3 k0) (p4 k0) (p5 k0) (Int32.ofNat k0) (p8 k0) (p9 k0) (st k0) := by
  refine ilX7_walk_152 (fun x3 x4 x5 x7 x8 x9 f => ∃ k, k0 ≤ k ∧ k ≤ N ∧ P k ∧ x3 = p3 k ∧ x4 = p4 k ∧ x5 = p5 k ∧ x7 = Int32.ofNat k ∧ x8 = p8 k ∧ x9 = p9 k ∧ f = st k) (fun x3 x4 x5 x7 x8 x9 _ => N - x7.toNatClampNeg) ?_ _ _ _ _ _ _ _ ⟨k0, Nat.le_refl _, h0, hP, rfl, rfl, rfl, rfl, rfl, rfl, rfl⟩
  intro K x3 x4 x5 x7 x8 x9 f hI hK
  obtain ⟨k, h1, h2, h3, rfl, rfl, rfl, rfl, rfl, rfl, rfl⟩ := hI
  refine step K k h1 h2 h3 (fun h4 h5 => hK _ _ _ _ _ _ _ ⟨k + 1, by omega, by omega, h5, rfl, rfl, rfl, rfl, rfl, rfl, rfl⟩ ?_)
  show N - (Int32.ofNat (k + 1)).toNatClampNeg < N - (Int32.ofNat k).toNatClampNeg
  rw [n_clamp (by omega), n_clamp (by omega)]
  omega
theorem icX7_walk_152_8 {K225 : Int32 → Int32 → Int32 → St → Prop} {Q : Int32 → St → Prop} (N k0 : Nat) (hN : N < 2147483648) (h0 : k0 ≤ N) (P : Nat → Prop) (p3 : Nat → Int32) (p4 : Nat → Int32) (p5 : Nat → Int32) (p7 : Nat → Int32) (p9 : Nat → Int32) (st : Nat → St) (hP : P k0) (step : ∀ (K152 : Int32 → Int32 → Int32 → Int32 → Int32 → Int32 → St → Prop) (k : Nat), k0 ≤ k → k ≤ N → P k → (k < N → P (k + 1) → K152 (p3 (k + 1)) (p4 (k + 1)) (p5 (k + 1)) (p7 (k + 1)) (Int32.ofNat (k + 1)) (p9 (k + 1)) (st (k + 1))) → wbX7_walk_152 K152 K225 Q (p3 k) (p4 k) (p5 k) (p7 k) (Int32.ofNat k) (p9 k) (st k)) : ∃ n : Nat, wlX7_walk_152 K225 Q n (p3 k0) (p4 k0) (p5 k0) (p7 k0) (Int32.ofNat k0) (p9 k0) (st k0) := by
  refine ilX7_walk_152 (fun x3 x4 x5 x7 x8 x9 f => ∃ k, k0 ≤ k ∧ k ≤ N ∧ P k ∧ x3 = p3 k ∧ x4 = p4 k ∧ x5 = p5 k ∧ x7 = p7 k ∧ x8 = Int32.ofNat k ∧ x9 = p9 k ∧ f = st k) (fun x3 x4 x5 x7 x8 x9 _ => N - x8.toNatClampNeg) ?_ _ _ _ _ _ _ _ ⟨k0, Nat.le_refl _, h0, hP, rfl, rfl, rfl, rfl, rfl, rfl, rfl⟩
  intro K x3 x4 x5 x7 x8 x9 f hI hK
  obtain ⟨k, h1, h2, h3, rfl, rfl, rfl, rfl, rfl, rfl, rfl⟩ := hI
  refine step K k h1 h2 h3 (fun h4 h5 => hK _ _ _ _ _ _ _ ⟨k + 1, by omega, by omega, h5, rfl, rfl, rfl, rfl, rfl, rfl, rfl⟩ ?_)
  show N - (Int32.ofNat (k + 1)).toNatClampNeg < N - (Int32.ofNat k).toNatClampNeg
  rw [n_clamp (by omega), n_clamp (by omega)]
  omega
theorem icX7_walk_152_9 {K225 : Int32 → Int32 → Int32 → St → Prop} {Q : Int32 → St → Prop} (N k0 : Nat) (hN : N < 2147483648) (h0 : k0 ≤ N) (P : Nat → Prop) (p3 : Nat → Int32) (p4 : Nat → Int32) (p5 : Nat → Int32) (p7 : Nat → Int32) (p8 : Nat → Int32) (st : Nat → St) (hP : P k0) (step : ∀ (K152 : Int32 → Int32 → Int32 → Int32 → Int32 → Int32 → St → Prop) (k : Nat), k0 ≤ k → k ≤ N → P k → (k < N → P (k + 1) → K152 (p3 (k + 1)) (p4 (k + 1)) (p5 (k + 1)) (p7 (k + 1)) (p8 (k + 1)) (Int32.ofNat (k + 1)) (st (k + 1))) → wbX7_walk_152 K152 K225 Q (p3 k) (p4 k) (p5 k) (p7 k) (p8 k) (Int32.ofNat k) (st k)) : ∃ n : Nat, wlX7_walk_152 K225 Q n (p3 k0) (p4 k0) (p5 k0) (p7 k0) (p8 k0) (Int32.ofNat k0) (st k0) := by
  refine ilX7_walk_152 (fun x3 x4 x5 x7 x8 x9 f => ∃ k, k0 ≤ k ∧ k ≤ N ∧ P k ∧ x3 = p3 k ∧ x4 = p4 k ∧ x5 = p5 k ∧ x7 = p7 k ∧ x8 = p8 k ∧ x9 = Int32.ofNat k ∧ f = st k) (fun x3 x4 x5 x7 x8 x9 _ => N - x9.toNatClampNeg) ?_ _ _ _ _ _ _ _ ⟨k0, Nat.le_refl _, h0, hP, rfl, rfl, rfl, rfl, rfl, rfl, rfl⟩
  intro K x3 x4 x5 x7 x8 x9 f hI hK
  obtain ⟨k, h1, h2, h3, rfl, rfl, rfl, rfl, rfl, rfl, rfl⟩ := hI
  refine step K k h1 h2 h3 (fun h4 h5 => hK _ _ _ _ _ _ _ ⟨k + 1, by omega, by omega, h5, rfl, rfl, rfl, rfl, rfl, rfl, rfl⟩ ?_)
  show N - (Int32.ofNat (k + 1)).toNatClampNeg < N - (Int32.ofNat k).toNatClampNeg
  rw [n_clamp (by omega), n_clamp (by omega)]
  omega
theorem ilX7_image_39 {K87 : St → Prop} {Q : Int32 → St → Prop} (Inv : Int32 → St → Prop) (meas : Int32 → St → Nat) (step : ∀ (K39 : Int32 → St → Prop) (x1 : Int32) (f : St), Inv x1 f → (∀ (y1 : Int32) (f' : St), Inv y1 f' → meas y1 f' < meas x1 f → K39 y1 f') → wbX7_image_39 K39 K87 Q x1 f) (x1 : Int32) (f : St) (h : Inv x1 f) : ∃ n : Nat, wlX7_image_39 K87 Q n x1 f := by
  have key : ∀ (n : Nat) (x1 : Int32) (f : St), Inv x1 f → meas x1 f < n → wlX7_image_39 K87 Q n x1 f := by
    intro n
    induction n with
    | zero => intro x1 f hI hm; exact absurd hm (Nat.not_lt_zero _)
    | succ n ih => intro x1 f hI hm; exact step _ x1 f hI (fun y1 f' hI' hlt => ih y1 f' hI' (Nat.lt_of_lt_of_le hlt (Nat.le_of_lt_succ hm)))
  exact ⟨_, key _ x1 f h (Nat.lt_succ_self _)⟩
theorem icX7_image_39_1 {K87 : St → Prop} {Q : Int32 → St → Prop} (N k0 : Nat) (hN : N < 2147483648) (h0 : k0 ≤ N) (P : Nat → Prop)  (st : Nat → St) (hP : P k0) (step : ∀ (K39 : Int32 → St → Prop) (k : Nat), k0 ≤ k → k ≤ N → P k → (k < N → P (k + 1) → K39 (Int32.ofNat (k + 1)) (st (k + 1))) → wbX7_image_39 K39 K87 Q (Int32.ofNat k) (st k)) : ∃ n : Nat, wlX7_image_39 K87 Q n (Int32.ofNat k0) (st k0) := by
  refine ilX7_image_39 (fun x1 f => ∃ k, k0 ≤ k ∧ k ≤ N ∧ P k ∧ x1 = Int32.ofNat k ∧ f = st k) (fun x1 _ => N - x1.toNatClampNeg) ?_ _ _ ⟨k0, Nat.le_refl _, h0, hP, rfl, rfl⟩
  intro K x1 f hI hK
  obtain ⟨k, h1, h2, h3, rfl, rfl⟩ := hI
  refine step K k h1 h2 h3 (fun h4 h5 => hK _ _ ⟨k + 1, by omega, by omega, h5, rfl, rfl⟩ ?_)
  show N - (Int32.ofNat (k + 1)).toNatClampNeg < N - (Int32.ofNat k).toNatClampNeg
  rw [n_clamp (by omega), n_clamp (by omega)]
  omega
theorem ilX7_image_89 {K113 : St → Prop} {Q : Int32 → St → Prop} (Inv : Int32 → St → Prop) (meas : Int32 → St → Nat) (step : ∀ (K89 : Int32 → St → Prop) (x1 : Int32) (f : St), Inv x1 f → (∀ (y1 : Int32) (f' : St), Inv y1 f' → meas y1 f' < meas x1 f → K89 y1 f') → wbX7_image_89 K89 K113 Q x1 f) (x1 : Int32) (f : St) (h : Inv x1 f) : ∃ n : Nat, wlX7_image_89 K113 Q n x1 f := by
  have key : ∀ (n : Nat) (x1 : Int32) (f : St), Inv x1 f → meas x1 f < n → wlX7_image_89 K113 Q n x1 f := by
    intro n
    induction n with
    | zero => intro x1 f hI hm; exact absurd hm (Nat.not_lt_zero _)
    | succ n ih => intro x1 f hI hm; exact step _ x1 f hI (fun y1 f' hI' hlt => ih y1 f' hI' (Nat.lt_of_lt_of_le hlt (Nat.le_of_lt_succ hm)))
  exact ⟨_, key _ x1 f h (Nat.lt_succ_self _)⟩
theorem icX7_image_89_1 {K113 : St → Prop} {Q : Int32 → St → Prop} (N k0 : Nat) (hN : N < 2147483648) (h0 : k0 ≤ N) (P : Nat → Prop)  (st : Nat → St) (hP : P k0) (step : ∀ (K89 : Int32 → St → Prop) (k : Nat), k0 ≤ k → k ≤ N → P k → (k < N → P (k + 1) → K89 (Int32.ofNat (k + 1)) (st (k + 1))) → wbX7_image_89 K89 K113 Q (Int32.ofNat k) (st k)) : ∃ n : Nat, wlX7_image_89 K113 Q n (Int32.ofNat k0) (st k0) := by
  refine ilX7_image_89 (fun x1 f => ∃ k, k0 ≤ k ∧ k ≤ N ∧ P k ∧ x1 = Int32.ofNat k ∧ f = st k) (fun x1 _ => N - x1.toNatClampNeg) ?_ _ _ ⟨k0, Nat.le_refl _, h0, hP, rfl, rfl⟩
  intro K x1 f hI hK
  obtain ⟨k, h1, h2, h3, rfl, rfl⟩ := hI
  refine step K k h1 h2 h3 (fun h4 h5 => hK _ _ ⟨k + 1, by omega, by omega, h5, rfl, rfl⟩ ?_)
  show N - (Int32.ofNat (k + 1)).toNatClampNeg < N - (Int32.ofNat k).toNatClampNeg
  rw [n_clamp (by omega), n_clamp (by omega)]
  omega
theorem ilX7_image_115  {Q : Int32 → St → Prop} (Inv : Int32 → St → Prop) (meas : Int32 → St → Nat) (step : ∀ (K115 : Int32 → St → Prop) (x1 : Int32) (f : St), Inv x1 f → (∀ (y1 : Int32) (f' : St), Inv y1 f' → meas y1 f' < meas x1 f → K115 y1 f') → wbX7_image_115 K115 Q x1 f) (x1 : Int32) (f : St) (h : Inv x1 f) : ∃ n : Nat, wlX7_image_115  Q n x1 f := by
  have key : ∀ (n : Nat) (x1 : Int32) (f : St), Inv x1 f → meas x1 f < n → wlX7_image_115  Q n x1 f := by
    intro n
    induction n with
    | zero => intro x1 f hI hm; exact absurd hm (Nat.not_lt_zero _)
    | succ n ih => intro x1 f hI hm; exact step _ x1 f hI (fun y1 f' hI' hlt => ih y1 f' hI' (Nat.lt_of_lt_of_le hlt (Nat.le_of_lt_succ hm)))
  exact ⟨_, key _ x1 f h (Nat.lt_succ_self _)⟩
theorem icX7_image_115_1  {Q : Int32 → St → Prop} (N k0 : Nat) (hN : N < 2147483648) (h0 : k0 ≤ N) (P : Nat → Prop)  (st : Nat → St) (hP : P k0) (step : ∀ (K115 : Int32 → St → Prop) (k : Nat), k0 ≤ k → k ≤ N → P k → (k < N → P (k + 1) → K115 (Int32.ofNat (k + 1)) (st (k + 1))) → wbX7_image_115 K115 Q (Int32.ofNat k) (st k)) : ∃ n : Nat, wlX7_image_115  Q n (Int32.ofNat k0) (st k0) := by
  refine ilX7_image_115 (fun x1 f => ∃ k, k0 ≤ k ∧ k ≤ N ∧ P k ∧ x1 = Int32.ofNat k ∧ f = st k) (fun x1 _ => N - x1.toNatClampNeg) ?_ _ _ ⟨k0, Nat.le_refl _, h0, hP, rfl, rfl⟩
  intro K x1 f hI hK
  obtain ⟨k, h1, h2, h3, rfl, rfl⟩ := hI
  refine step K k h1 h2 h3 (fun h4 h5 => hK _ _ ⟨k + 1, by omega, by omega, h5, rfl, rfl⟩ ?_)
  show N - (Int32.ofNat (k + 1)).toNatClampNeg < N - (Int32.ofNat k).toNatClampNeg
  rw [n_clamp (by omega), n_clamp (by omega)]
  omega
theorem ilX7_back_36 {K86 : St → Prop} {Q : Int32 → St → Prop} (Inv : Int32 → St → Prop) (meas : Int32 → St → Nat) (step : ∀ (K36 : Int32 → St → Prop) (x1 : Int32) (f : St), Inv x1 f → (∀ (y1 : Int32) (f' : St), Inv y1 f' → meas y1 f' < meas x1 f → K36 y1 f') → wbX7_back_36 K36 K86 Q x1 f) (x1 : Int32) (f : St) (h : Inv x1 f) : ∃ n : Nat, wlX7_back_36 K86 Q n x1 f := by
  have key : ∀ (n : Nat) (x1 : Int32) (f : St), Inv x1 f → meas x1 f < n → wlX7_back_36 K86 Q n x1 f := by
    intro n
    induction n with
    | zero => intro x1 f hI hm; exact absurd hm (Nat.not_lt_zero _)
    | succ n ih => intro x1 f hI hm; exact step _ x1 f hI (fun y1 f' hI' hlt => ih y1 f' hI' (Nat.lt_of_lt_of_le hlt (Nat.le_of_lt_succ hm)))
  exact ⟨_, key _ x1 f h (Nat.lt_succ_self _)⟩
theorem icX7_back_36_1 {K86 : St → Prop} {Q : Int32 → St → Prop} (N k0 : Nat) (hN : N < 2147483648) (h0 : k0 ≤ N) (P : Nat → Prop)  (st : Nat → St) (hP : P k0) (step : ∀ (K36 : Int32 → St → Prop) (k : Nat), k0 ≤ k → k ≤ N → P k → (k < N → P (k + 1) → K36 (Int32.ofNat (k + 1)) (st (k + 1))) → wbX7_back_36 K36 K86 Q (Int32.ofNat k) (st k)) : ∃ n : Nat, wlX7_back_36 K86 Q n (Int32.ofNat k0) (st k0) := by
  refine ilX7_back_36 (fun x1 f => ∃ k, k0 ≤ k ∧ k ≤ N ∧ P k ∧ x1 = Int32.ofNat k ∧ f = st k) (fun x1 _ => N - x1.toNatClampNeg) ?_ _ _ ⟨k0, Nat.le_refl _, h0, hP, rfl, rfl⟩
  intro K x1 f hI hK
  obtain ⟨k, h1, h2, h3, rfl, rfl⟩ := hI
  refine step K k h1 h2 h3 (fun h4 h5 => hK _ _ ⟨k + 1, by omega, by omega, h5, rfl, rfl⟩ ?_)
  show N - (Int32.ofNat (k + 1)).toNatClampNeg < N - (Int32.ofNat k).toNatClampNeg
  rw [n_clamp (by omega), n_clamp (by omega)]
  omega
theorem ilX7_back_88 {K169 : St → Prop} {Q : Int32 → St → Prop} (Inv : Int32 → St → Prop) (meas : Int32 → St → Nat) (step : ∀ (K88 : Int32 → St → Prop) (x1 : Int32) (f : St), Inv x1 f → (∀ (y1 : Int32) (f' : St), Inv y1 f' → meas y1 f' < meas x1 f → K88 y1 f') → wbX7_back_88 K88 K169 Q x1 f) (x1 : Int32) (f : St) (h : Inv x1 f) : ∃ n : Nat, wlX7_back_88 K169 Q n x1 f := by
  have key : ∀ (n : Nat) (x1 : Int32) (f : St), Inv x1 f → meas x1 f < n → wlX7_back_88 K169 Q n x1 f := by
    intro n
    induction n with
    | zero => intro x1 f hI hm; exact absurd hm (Nat.not_lt_zero _)
    | succ n ih => intro x1 f hI hm; exact step _ x1 f hI (fun y1 f' hI' hlt => ih y1 f' hI' (Nat.lt_of_lt_of_le hlt (Nat.le_of_lt_succ hm)))
  exact ⟨_, key _ x1 f h (Nat.lt_succ_self _)⟩
theorem icX7_back_88_1 {K169 : St → Prop} {Q : Int32 → St → Prop} (N k0 : Nat) (hN : N < 2147483648) (h0 : k0 ≤ N) (P : Nat → Prop)  (st : Nat → St) (hP : P k0) (step : ∀ (K88 : Int32 → St → Prop) (k : Nat), k0 ≤ k → k ≤ N → P k → (k < N → P (k + 1) → K88 (Int32.ofNat (k + 1)) (st (k + 1))) → wbX7_back_88 K88 K169 Q (Int32.ofNat k) (st k)) : ∃ n : Nat, wlX7_back_88 K169 Q n (Int32.ofNat k0) (st k0) := by
  refine ilX7_back_88 (fun x1 f => ∃ k, k0 ≤ k ∧ k ≤ N ∧ P k ∧ x1 = Int32.ofNat k ∧ f = st k) (fun x1 _ => N - x1.toNatClampNeg) ?_ _ _ ⟨k0, Nat.le_refl _, h0, hP, rfl, rfl⟩
  intro K x1 f hI hK
  obtain ⟨k, h1, h2, h3, rfl, rfl⟩ := hI
  refine step K k h1 h2 h3 (fun h4 h5 => hK _ _ ⟨k + 1, by omega, by omega, h5, rfl, rfl⟩ ?_)
  show N - (Int32.ofNat (k + 1)).toNatClampNeg < N - (Int32.ofNat k).toNatClampNeg
  rw [n_clamp (by omega), n_clamp (by omega)]
  omega
theorem ilX7_back_171  {Q : Int32 → St → Prop} (Inv : Int32 → St → Prop) (meas : Int32 → St → Nat) (step : ∀ (K171 : Int32 → St → Prop) (x1 : Int32) (f : St), Inv x1 f → (∀ (y1 : Int32) (f' : St), Inv y1 f' → meas y1 f' < meas x1 f → K171 y1 f') → wbX7_back_171 K171 Q x1 f) (x1 : Int32) (f : St) (h : Inv x1 f) : ∃ n : Nat, wlX7_back_171  Q n x1 f := by
  have key : ∀ (n : Nat) (x1 : Int32) (f : St), Inv x1 f → meas x1 f < n → wlX7_back_171  Q n x1 f := by
    intro n
    induction n with
    | zero => intro x1 f hI hm; exact absurd hm (Nat.not_lt_zero _)
    | succ n ih => intro x1 f hI hm; exact step _ x1 f hI (fun y1 f' hI' hlt => ih y1 f' hI' (Nat.lt_of_lt_of_le hlt (Nat.le_of_lt_succ hm)))
  exact ⟨_, key _ x1 f h (Nat.lt_succ_self _)⟩
theorem icX7_back_171_1  {Q : Int32 → St → Prop} (N k0 : Nat) (hN : N < 2147483648) (h0 : k0 ≤ N) (P : Nat → Prop)  (st : Nat → St) (hP : P k0) (step : ∀ (K171 : Int32 → St → Prop) (k : Nat), k0 ≤ k → k ≤ N → P k → (k < N → P (k + 1) → K171 (Int32.ofNat (k + 1)) (st (k + 1))) → wbX7_back_171 K171 Q (Int32.ofNat k) (st k)) : ∃ n : Nat, wlX7_back_171  Q n (Int32.ofNat k0) (st k0) := by
  refine ilX7_back_171 (fun x1 f => ∃ k, k0 ≤ k ∧ k ≤ N ∧ P k ∧ x1 = Int32.ofNat k ∧ f = st k) (fun x1 _ => N - x1.toNatClampNeg) ?_ _ _ ⟨k0, Nat.le_refl _, h0, hP, rfl, rfl⟩
  intro K x1 f hI hK
  obtain ⟨k, h1, h2, h3, rfl, rfl⟩ := hI
  refine step K k h1 h2 h3 (fun h4 h5 => hK _ _ ⟨k + 1, by omega, by omega, h5, rfl, rfl⟩ ?_)
  show N - (Int32.ofNat (k + 1)).toNatClampNeg < N - (Int32.ofNat k).toNatClampNeg
  rw [n_clamp (by omega), n_clamp (by omega)]
  omega
theorem ilX7_sheet_70  {Q : Int32 → St → Prop} (Inv : Int32 → Int32 → St → Prop) (meas : Int32 → Int32 → St → Nat) (step : ∀ (K70 : Int32 → Int32 → St → Prop) (x1 : Int32) (x4 : Int32) (f : St), Inv x1 x4 f → (∀ (y1 : Int32) (y4 : Int32) (f' : St), Inv y1 y4 f' → meas y1 y4 f' < meas x1 x4 f → K70 y1 y4 f') → wbX7_sheet_70 K70 Q x1 x4 f) (x1 : Int32) (x4 : Int32) (f : St) (h : Inv x1 x4 f) : ∃ n : Nat, wlX7_sheet_70  Q n x1 x4 f := by
  have key : ∀ (n : Nat) (x1 : Int32) (x4 : Int32) (f : St), Inv x1 x4 f → meas x1 x4 f < n → wlX7_sheet_70  Q n x1 x4 f := by
    intro n
    induction n with
    | zero => intro x1 x4 f hI hm; exact absurd hm (Nat.not_lt_zero _)
    | succ n ih => intro x1 x4 f hI hm; exact step _ x1 x4 f hI (fun y1 y4 f' hI' hlt => ih y1 y4 f' hI' (Nat.lt_of_lt_of_le hlt (Nat.le_of_lt_succ hm)))
  exact ⟨_, key _ x1 x4 f h (Nat.lt_succ_self _)⟩
theorem icX7_sheet_70_1  {Q : Int32 → St → Prop} (N k0 : Nat) (hN : N < 2147483648) (h0 : k0 ≤ N) (P : Nat → Prop) (p4 : Nat → Int32) (st : Nat → St) (hP : P k0) (step : ∀ (K70 : Int32 → Int32 → St → Prop) (k : Nat), k0 ≤ k → k ≤ N → P k → (k < N → P (k + 1) → K70 (Int32.ofNat (k + 1)) (p4 (k + 1)) (st (k + 1))) → wbX7_sheet_70 K70 Q (Int32.ofNat k) (p4 k) (st k)) : ∃ n : Nat, wlX7_sheet_70  Q n (Int32.ofNat k0) (p4 k0) (st k0) := by
  refine ilX7_sheet_70 (fun x1 x4 f => ∃ k, k0 ≤ k ∧ k ≤ N ∧ P k ∧ x1 = Int32.ofNat k ∧ x4 = p4 k ∧ f = st k) (fun x1 x4 _ => N - x1.toNatClampNeg) ?_ _ _ _ ⟨k0, Nat.le_refl _, h0, hP, rfl, rfl, rfl⟩
  intro K x1 x4 f hI hK
  obtain ⟨k, h1, h2, h3, rfl, rfl, rfl⟩ := hI
  refine step K k h1 h2 h3 (fun h4 h5 => hK _ _ _ ⟨k + 1, by omega, by omega, h5, rfl, rfl, rfl⟩ ?_)
  show N - (Int32.ofNat (k + 1)).toNatClampNeg < N - (Int32.ofNat k).toNatClampNeg
  rw [n_clamp (by omega), n_clamp (by omega)]
  omega
theorem icX7_sheet_70_4  {Q : Int32 → St → Prop} (N k0 : Nat) (hN : N < 2147483648) (h0 : k0 ≤ N) (P : Nat → Prop) (p1 : Nat → Int32) (st : Nat → St) (hP : P k0) (step : ∀ (K70 : Int32 → Int32 → St → Prop) (k : Nat), k0 ≤ k → k ≤ N → P k → (k < N → P (k + 1) → K70 (p1 (k + 1)) (Int32.ofNat (k + 1)) (st (k + 1))) → wbX7_sheet_70 K70 Q (p1 k) (Int32.ofNat k) (st k)) : ∃ n : Nat, wlX7_sheet_70  Q n (p1 k0) (Int32.ofNat k0) (st k0) := by
  refine ilX7_sheet_70 (fun x1 x4 f => ∃ k, k0 ≤ k ∧ k ≤ N ∧ P k ∧ x1 = p1 k ∧ x4 = Int32.ofNat k ∧ f = st k) (fun x1 x4 _ => N - x4.toNatClampNeg) ?_ _ _ _ ⟨k0, Nat.le_refl _, h0, hP, rfl, rfl, rfl⟩
  intro K x1 x4 f hI hK
  obtain ⟨k, h1, h2, h3, rfl, rfl, rfl⟩ := hI
  refine step K k h1 h2 h3 (fun h4 h5 => hK _ _ _ ⟨k + 1, by omega, by omega, h5, rfl, rfl, rfl⟩ ?_)
  show N - (Int32.ofNat (k + 1)).toNatClampNeg < N - (Int32.ofNat k).toNatClampNeg
  rw [n_clamp (by omega), n_clamp (by omega)]
  omega
theorem ilX7_copy_147  {Q : Int32 → St → Prop} (Inv : Int32 → Int32 → Int32 → Int32 → St → Prop) (meas : Int32 → Int32 → Int32 → Int32 → St → Nat) (step : ∀ (K147 : Int32 → Int32 → Int32 → Int32 → St → Prop) (x5 : Int32) (x6 : Int32) (x7 : Int32) (x8 : Int32) (f : St), Inv x5 x6 x7 x8 f → (∀ (y5 : Int32) (y6 : Int32) (y7 : Int32) (y8 : Int32) (f' : St), Inv y5 y6 y7 y8 f' → meas y5 y6 y7 y8 f' < meas x5 x6 x7 x8 f → K147 y5 y6 y7 y8 f') → wbX7_copy_147 K147 Q x5 x6 x7 x8 f) (x5 : Int32) (x6 : Int32) (x7 : Int32) (x8 : Int32) (f : St) (h : Inv x5 x6 x7 x8 f) : ∃ n : Nat, wlX7_copy_147  Q n x5 x6 x7 x8 f := by
  have key : ∀ (n : Nat) (x5 : Int32) (x6 : Int32) (x7 : Int32) (x8 : Int32) (f : St), Inv x5 x6 x7 x8 f → meas x5 x6 x7 x8 f < n → wlX7_copy_147  Q n x5 x6 x7 x8 f := by
    intro n
    induction n with
    | zero => intro x5 x6 x7 x8 f hI hm; exact absurd hm (Nat.not_lt_zero _)
    | succ n ih => intro x5 x6 x7 x8 f hI hm; exact step _ x5 x6 x7 x8 f hI (fun y5 y6 y7 y8 f' hI' hlt => ih y5 y6 y7 y8 f' hI' (Nat.lt_of_lt_of_le hlt (Nat.le_of_lt_succ hm)))
  exact ⟨_, key _ x5 x6 x7 x8 f h (Nat.lt_succ_self _)⟩
theorem icX7_copy_147_5  {Q : Int32 → St → Prop} (N k0 : Nat) (hN : N < 2147483648) (h0 : k0 ≤ N) (P : Nat → Prop) (p6 : Nat → Int32) (p7 : Nat → Int32) (p8 : Nat → Int32) (st : Nat → St) (hP : P k0) (step : ∀ (K147 : Int32 → Int32 → Int32 → Int32 → St → Prop) (k : Nat), k0 ≤ k → k ≤ N → P k → (k < N → P (k + 1) → K147 (Int32.ofNat (k + 1)) (p6 (k + 1)) (p7 (k + 1)) (p8 (k + 1)) (st (k + 1))) → wbX7_copy_147 K147 Q (Int32.ofNat k) (p6 k) (p7 k) (p8 k) (st k)) : ∃ n : Nat, wlX7_copy_147  Q n (Int32.ofNat k0) (p6 k0) (p7 k0) (p8 k0) (st k0) := by
  refine ilX7_copy_147 (fun x5 x6 x7 x8 f => ∃ k, k0 ≤ k ∧ k ≤ N ∧ P k ∧ x5 = Int32.ofNat k ∧ x6 = p6 k ∧ x7 = p7 k ∧ x8 = p8 k ∧ f = st k) (fun x5 x6 x7 x8 _ => N - x5.toNatClampNeg) ?_ _ _ _ _ _ ⟨k0, Nat.le_refl _, h0, hP, rfl, rfl, rfl, rfl, rfl⟩
  intro K x5 x6 x7 x8 f hI hK
  obtain ⟨k, h1, h2, h3, rfl, rfl, rfl, rfl, rfl⟩ := hI
  refine step K k h1 h2 h3 (fun h4 h5 => hK _ _ _ _ _ ⟨k + 1, by omega, by omega, h5, rfl, rfl, rfl, rfl, rfl⟩ ?_)
  show N - (Int32.ofNat (k + 1)).toNatClampNeg < N - (Int32.ofNat k).toNatClampNeg
  rw [n_clamp (by omega), n_clamp (by omega)]
  omega
theorem icX7_copy_147_6  {Q : Int32 → St → Prop} (N k0 : Nat) (hN : N < 2147483648) (h0 : k0 ≤ N) (P : Nat → Prop) (p5 : Nat → Int32) (p7 : Nat → Int32) (p8 : Nat → Int32) (st : Nat → St) (hP : P k0) (step : ∀ (K147 : Int32 → Int32 → Int32 → Int32 → St → Prop) (k : Nat), k0 ≤ k → k ≤ N → P k → (k < N → P (k + 1) → K147 (p5 (k + 1)) (Int32.ofNat (k + 1)) (p7 (k + 1)) (p8 (k + 1)) (st (k + 1))) → wbX7_copy_147 K147 Q (p5 k) (Int32.ofNat k) (p7 k) (p8 k) (st k)) : ∃ n : Nat, wlX7_copy_147  Q n (p5 k0) (Int32.ofNat k0) (p7 k0) (p8 k0) (st k0) := by
  refine ilX7_copy_147 (fun x5 x6 x7 x8 f => ∃ k, k0 ≤ k ∧ k ≤ N ∧ P k ∧ x5 = p5 k ∧ x6 = Int32.ofNat k ∧ x7 = p7 k ∧ x8 = p8 k ∧ f = st k) (fun x5 x6 x7 x8 _ => N - x6.toNatClampNeg) ?_ _ _ _ _ _ ⟨k0, Nat.le_refl _, h0, hP, rfl, rfl, rfl, rfl, rfl⟩
  intro K x5 x6 x7 x8 f hI hK
  obtain ⟨k, h1, h2, h3, rfl, rfl, rfl, rfl, rfl⟩ := hI
  refine step K k h1 h2 h3 (fun h4 h5 => hK _ _ _ _ _ ⟨k + 1, by omega, by omega, h5, rfl, rfl, rfl, rfl, rfl⟩ ?_)
  show N - (Int32.ofNat (k + 1)).toNatClampNeg < N - (Int32.ofNat k).toNatClampNeg
  rw [n_clamp (by omega), n_clamp (by omega)]
  omega
theorem icX7_copy_147_7  {Q : Int32 → St → Prop} (N k0 : Nat) (hN : N < 2147483648) (h0 : k0 ≤ N) (P : Nat → Prop) (p5 : Nat → Int32) (p6 : Nat → Int32) (p8 : Nat → Int32) (st : Nat → St) (hP : P k0) (step : ∀ (K147 : Int32 → Int32 → Int32 → Int32 → St → Prop) (k : Nat), k0 ≤ k → k ≤ N → P k → (k < N → P (k + 1) → K147 (p5 (k + 1)) (p6 (k + 1)) (Int32.ofNat (k + 1)) (p8 (k + 1)) (st (k + 1))) → wbX7_copy_147 K147 Q (p5 k) (p6 k) (Int32.ofNat k) (p8 k) (st k)) : ∃ n : Nat, wlX7_copy_147  Q n (p5 k0) (p6 k0) (Int32.ofNat k0) (p8 k0) (st k0) := by
  refine ilX7_copy_147 (fun x5 x6 x7 x8 f => ∃ k, k0 ≤ k ∧ k ≤ N ∧ P k ∧ x5 = p5 k ∧ x6 = p6 k ∧ x7 = Int32.ofNat k ∧ x8 = p8 k ∧ f = st k) (fun x5 x6 x7 x8 _ => N - x7.toNatClampNeg) ?_ _ _ _ _ _ ⟨k0, Nat.le_refl _, h0, hP, rfl, rfl, rfl, rfl, rfl⟩
  intro K x5 x6 x7 x8 f hI hK
  obtain ⟨k, h1, h2, h3, rfl, rfl, rfl, rfl, rfl⟩ := hI
  refine step K k h1 h2 h3 (fun h4 h5 => hK _ _ _ _ _ ⟨k + 1, by omega, by omega, h5, rfl, rfl, rfl, rfl, rfl⟩ ?_)
  show N - (Int32.ofNat (k + 1)).toNatClampNeg < N - (Int32.ofNat k).toNatClampNeg
  rw [n_clamp (by omega), n_clamp (by omega)]
  omega
theorem icX7_copy_147_8  {Q : Int32 → St → Prop} (N k0 : Nat) (hN : N < 2147483648) (h0 : k0 ≤ N) (P : Nat → Prop) (p5 : Nat → Int32) (p6 : Nat → Int32) (p7 : Nat → Int32) (st : Nat → St) (hP : P k0) (step : ∀ (K147 : Int32 → Int32 → Int32 → Int32 → St → Prop) (k : Nat), k0 ≤ k → k ≤ N → P k → (k < N → P (k + 1) → K147 (p5 (k + 1)) (p6 (k + 1)) (p7 (k + 1)) (Int32.ofNat (k + 1)) (st (k + 1))) → wbX7_copy_147 K147 Q (p5 k) (p6 k) (p7 k) (Int32.ofNat k) (st k)) : ∃ n : Nat, wlX7_copy_147  Q n (p5 k0) (p6 k0) (p7 k0) (Int32.ofNat k0) (st k0) := by
  refine ilX7_copy_147 (fun x5 x6 x7 x8 f => ∃ k, k0 ≤ k ∧ k ≤ N ∧ P k ∧ x5 = p5 k ∧ x6 = p6 k ∧ x7 = p7 k ∧ x8 = Int32.ofNat k ∧ f = st k) (fun x5 x6 x7 x8 _ => N - x8.toNatClampNeg) ?_ _ _ _ _ _ ⟨k0, Nat.le_refl _, h0, hP, rfl, rfl, rfl, rfl, rfl⟩
  intro K x5 x6 x7 x8 f hI hK
  obtain ⟨k, h1, h2, h3, rfl, rfl, rfl, rfl, rfl⟩ := hI
  refine step K k h1 h2 h3 (fun h4 h5 => hK _ _ _ _ _ ⟨k + 1, by omega, by omega, h5, rfl, rfl, rfl, rfl, rfl⟩ ?_)
  show N - (Int32.ofNat (k + 1)).toNatClampNeg < N - (Int32.ofNat k).toNatClampNeg
  rw [n_clamp (by omega), n_clamp (by omega)]
  omega
theorem ilX7_roads_64  {Q : Int32 → St → Prop} (Inv : Int32 → Int32 → Int32 → Int32 → Int32 → St → Prop) (meas : Int32 → Int32 → Int32 → Int32 → Int32 → St → Nat) (step : ∀ (K64 : Int32 → Int32 → Int32 → Int32 → Int32 → St → Prop) (x1 : Int32) (x3 : Int32) (x4 : Int32) (x5 : Int32) (x6 : Int32) (f : St), Inv x1 x3 x4 x5 x6 f → (∀ (y1 : Int32) (y3 : Int32) (y4 : Int32) (y5 : Int32) (y6 : Int32) (f' : St), Inv y1 y3 y4 y5 y6 f' → meas y1 y3 y4 y5 y6 f' < meas x1 x3 x4 x5 x6 f → K64 y1 y3 y4 y5 y6 f') → wbX7_roads_64 K64 Q x1 x3 x4 x5 x6 f) (x1 : Int32) (x3 : Int32) (x4 : Int32) (x5 : Int32) (x6 : Int32) (f : St) (h : Inv x1 x3 x4 x5 x6 f) : ∃ n : Nat, wlX7_roads_64  Q n x1 x3 x4 x5 x6 f := by
  have key : ∀ (n : Nat) (x1 : Int32) (x3 : Int32) (x4 : Int32) (x5 : Int32) (x6 : Int32) (f : St), Inv x1 x3 x4 x5 x6 f → meas x1 x3 x4 x5 x6 f < n → wlX7_roads_64  Q n x1 x3 x4 x5 x6 f := by
    intro n
    induction n with
    | zero => intro x1 x3 x4 x5 x6 f hI hm; exact absurd hm (Nat.not_lt_zero _)
    | succ n ih => intro x1 x3 x4 x5 x6 f hI hm; exact step _ x1 x3 x4 x5 x6 f hI (fun y1 y3 y4 y5 y6 f' hI' hlt => ih y1 y3 y4 y5 y6 f' hI' (Nat.lt_of_lt_of_le hlt (Nat.le_of_lt_succ hm)))
  exact ⟨_, key _ x1 x3 x4 x5 x6 f h (Nat.lt_succ_self _)⟩
theorem icX7_roads_64_1  {Q : Int32 → St → Prop} (N k0 : Nat) (hN : N < 2147483648) (h0 : k0 ≤ N) (P : Nat → Prop) (p3 : Nat → Int32) (p4 : Nat → Int32) (p5 : Nat → Int32) (p6 : Nat → Int32) (st : Nat → St) (hP : P k0) (step : ∀ (K64 : Int32 → Int32 → Int32 → Int32 → Int32 → St → Prop) (k : Nat), k0 ≤ k → k ≤ N → P k → (k < N → P (k + 1) → K64 (Int32.ofNat (k + 1)) (p3 (k + 1)) (p4 (k + 1)) (p5 (k + 1)) (p6 (k + 1)) (st (k + 1))) → wbX7_roads_64 K64 Q (Int32.ofNat k) (p3 k) (p4 k) (p5 k) (p6 k) (st k)) : ∃ n : Nat, wlX7_roads_64  Q n (Int32.ofNat k0) (p3 k0) (p4 k0) (p5 k0) (p6 k0) (st k0) := by
  refine ilX7_roads_64 (fun x1 x3 x4 x5 x6 f => ∃ k, k0 ≤ k ∧ k ≤ N ∧ P k ∧ x1 = Int32.ofNat k ∧ x3 = p3 k ∧ x4 = p4 k ∧ x5 = p5 k ∧ x6 = p6 k ∧ f = st k) (fun x1 x3 x4 x5 x6 _ => N - x1.toNatClampNeg) ?_ _ _ _ _ _ _ ⟨k0, Nat.le_refl _, h0, hP, rfl, rfl, rfl, rfl, rfl, rfl⟩
  intro K x1 x3 x4 x5 x6 f hI hK
  obtain ⟨k, h1, h2, h3, rfl, rfl, rfl, rfl, rfl, rfl⟩ := hI
  refine step K k h1 h2 h3 (fun h4 h5 => hK _ _ _ _ _ _ ⟨k + 1, by omega, by omega, h5, rfl, rfl, rfl, rfl, rfl, rfl⟩ ?_)
  show N - (Int32.ofNat (k + 1)).toNatClampNeg < N - (Int32.ofNat k).toNatClampNeg
  rw [n_clamp (by omega), n_clamp (by omega)]
  omega
theorem icX7_roads_64_3  {Q : Int32 → St → Prop} (N k0 : Nat) (hN : N < 2147483648) (h0 : k0 ≤ N) (P : Nat → Prop) (p1 : Nat → Int32) (p4 : Nat → Int32) (p5 : Nat → Int32) (p6 : Nat → Int32) (st : Nat → St) (hP : P k0) (step : ∀ (K64 : Int32 → Int32 → Int32 → Int32 → Int32 → St → Prop) (k : Nat), k0 ≤ k → k ≤ N → P k → (k < N → P (k + 1) → K64 (p1 (k + 1)) (Int32.ofNat (k + 1)) (p4 (k + 1)) (p5 (k + 1)) (p6 (k + 1)) (st (k + 1))) → wbX7_roads_64 K64 Q (p1 k) (Int32.ofNat k) (p4 k) (p5 k) (p6 k) (st k)) : ∃ n : Nat, wlX7_roads_64  Q n (p1 k0) (Int32.ofNat k0) (p4 k0) (p5 k0) (p6 k0) (st k0) := by
  refine ilX7_roads_64 (fun x1 x3 x4 x5 x6 f => ∃ k, k0 ≤ k ∧ k ≤ N ∧ P k ∧ x1 = p1 k ∧ x3 = Int32.ofNat k ∧ x4 = p4 k ∧ x5 = p5 k ∧ x6 = p6 k ∧ f = st k) (fun x1 x3 x4 x5 x6 _ => N - x3.toNatClampNeg) ?_ _ _ _ _ _ _ ⟨k0, Nat.le_refl _, h0, hP, rfl, rfl, rfl, rfl, rfl, rfl⟩
  intro K x1 x3 x4 x5 x6 f hI hK
  obtain ⟨k, h1, h2, h3, rfl, rfl, rfl, rfl, rfl, rfl⟩ := hI
  refine step K k h1 h2 h3 (fun h4 h5 => hK _ _ _ _ _ _ ⟨k + 1, by omega, by omega, h5, rfl, rfl, rfl, rfl, rfl, rfl⟩ ?_)
  show N - (Int32.ofNat (k + 1)).toNatClampNeg < N - (Int32.ofNat k).toNatClampNeg
  rw [n_clamp (by omega), n_clamp (by omega)]
  omega
theorem icX7_roads_64_4  {Q : Int32 → St → Prop} (N k0 : Nat) (hN : N < 2147483648) (h0 : k0 ≤ N) (P : Nat → Prop) (p1 : Nat → Int32) (p3 : Nat → Int32) (p5 : Nat → Int32) (p6 : Nat → Int32) (st : Nat → St) (hP : P k0) (step : ∀ (K64 : Int32 → Int32 → Int32 → Int32 → Int32 → St → Prop) (k : Nat), k0 ≤ k → k ≤ N → P k → (k < N → P (k + 1) → K64 (p1 (k + 1)) (p3 (k + 1)) (Int32.ofNat (k + 1)) (p5 (k + 1)) (p6 (k + 1)) (st (k + 1))) → wbX7_roads_64 K64 Q (p1 k) (p3 k) (Int32.ofNat k) (p5 k) (p6 k) (st k)) : ∃ n : Nat, wlX7_roads_64  Q n (p1 k0) (p3 k0) (Int32.ofNat k0) (p5 k0) (p6 k0) (st k0) := by
  refine ilX7_roads_64 (fun x1 x3 x4 x5 x6 f => ∃ k, k0 ≤ k ∧ k ≤ N ∧ P k ∧ x1 = p1 k ∧ x3 = p3 k ∧ x4 = Int32.ofNat k ∧ x5 = p5 k ∧ x6 = p6 k ∧ f = st k) (fun x1 x3 x4 x5 x6 _ => N - x4.toNatClampNeg) ?_ _ _ _ _ _ _ ⟨k0, Nat.le_refl _, h0, hP, rfl, rfl, rfl, rfl, rfl, rfl⟩
  intro K x1 x3 x4 x5 x6 f hI hK
  obtain ⟨k, h1, h2, h3, rfl, rfl, rfl, rfl, rfl, rfl⟩ := hI
  refine step K k h1 h2 h3 (fun h4 h5 => hK _ _ _ _ _ _ ⟨k + 1, by omega, by omega, h5, rfl, rfl, rfl, rfl, rfl, rfl⟩ ?_)
  show N - (Int32.ofNat (k + 1)).toNatClampNeg < N - (Int32.ofNat k).toNatClampNeg
  rw [n_clamp (by omega), n_clamp (by omega)]
  omega
theorem icX7_roads_64_5  {Q : Int32 → St → Prop} (N k0 : Nat) (hN : N < 2147483648) (h0 : k0 ≤ N) (P : Nat → Prop) (p1 : Nat → Int32) (p3 : Nat → Int32) (p4 : Nat → Int32) (p6 : Nat → Int32) (st : Nat → St) (hP : P k0) (step : ∀ (K64 : Int32 → Int32 → Int32 → Int32 → Int32 → St → Prop) (k : Nat), k0 ≤ k → k ≤ N → P k → (k < N → P (k + 1) → K64 (p1 (k + 1)) (p3 (k + 1)) (p4 (k + 1)) (Int32.ofNat (k + 1)) (p6 (k + 1)) (st (k + 1))) → wbX7_roads_64 K64 Q (p1 k) (p3 k) (p4 k) (Int32.ofNat k) (p6 k) (st k)) : ∃ n : Nat, wlX7_roads_64  Q n (p1 k0) (p3 k0) (p4 k0) (Int32.ofNat k0) (p6 k0) (st k0) := by
  refine ilX7_roads_64 (fun x1 x3 x4 x5 x6 f => ∃ k, k0 ≤ k ∧ k ≤ N ∧ P k ∧ x1 = p1 k ∧ x3 = p3 k ∧ x4 = p4 k ∧ x5 = Int32.ofNat k ∧ x6 = p6 k ∧ f = st k) (fun x1 x3 x4 x5 x6 _ => N - x5.toNatClampNeg) ?_ _ _ _ _ _ _ ⟨k0, Nat.le_refl _, h0, hP, rfl, rfl, rfl, rfl, rfl, rfl⟩
  intro K x1 x3 x4 x5 x6 f hI hK
  obtain ⟨k, h1, h2, h3, rfl, rfl, rfl, rfl, rfl, rfl⟩ := hI
  refine step K k h1 h2 h3 (fun h4 h5 => hK _ _ _ _ _ _ ⟨k + 1, by omega, by omega, h5, rfl, rfl, rfl, rfl, rfl, rfl⟩ ?_)
  show N - (Int32.ofNat (k + 1)).toNatClampNeg < N - (Int32.ofNat k).toNatClampNeg
  rw [n_clamp (by omega), n_clamp (by omega)]
  omega
theorem icX7_roads_64_6  {Q : Int32 → St → Prop} (N k0 : Nat) (hN : N < 2147483648) (h0 : k0 ≤ N) (P : Nat → Prop) (p1 : Nat → Int32) (p3 : Nat → Int32) (p4 : Nat → Int32) (p5 : Nat → Int32) (st : Nat → St) (hP : P k0) (step : ∀ (K64 : Int32 → Int32 → Int32 → Int32 → Int32 → St → Prop) (k : Nat), k0 ≤ k → k ≤ N → P k → (k < N → P (k + 1) → K64 (p1 (k + 1)) (p3 (k + 1)) (p4 (k + 1)) (p5 (k + 1)) (Int32.ofNat (k + 1)) (st (k + 1))) → wbX7_roads_64 K64 Q (p1 k) (p3 k) (p4 k) (p5 k) (Int32.ofNat k) (st k)) : ∃ n : Nat, wlX7_roads_64  Q n (p1 k0) (p3 k0) (p4 k0) (p5 k0) (Int32.ofNat k0) (st k0) := by
  refine ilX7_roads_64 (fun x1 x3 x4 x5 x6 f => ∃ k, k0 ≤ k ∧ k ≤ N ∧ P k ∧ x1 = p1 k ∧ x3 = p3 k ∧ x4 = p4 k ∧ x5 = p5 k ∧ x6 = Int32.ofNat k ∧ f = st k) (fun x1 x3 x4 x5 x6 _ => N - x6.toNatClampNeg) ?_ _ _ _ _ _ _ ⟨k0, Nat.le_refl _, h0, hP, rfl, rfl, rfl, rfl, rfl, rfl⟩
  intro K x1 x3 x4 x5 x6 f hI hK
  obtain ⟨k, h1, h2, h3, rfl, rfl, rfl, rfl, rfl, rfl⟩ := hI
  refine step K k h1 h2 h3 (fun h4 h5 => hK _ _ _ _ _ _ ⟨k + 1, by omega, by omega, h5, rfl, rfl, rfl, rfl, rfl, rfl⟩ ?_)
  show N - (Int32.ofNat (k + 1)).toNatClampNeg < N - (Int32.ofNat k).toNatClampNeg
  rw [n_clamp (by omega), n_clamp (by omega)]
  omega
