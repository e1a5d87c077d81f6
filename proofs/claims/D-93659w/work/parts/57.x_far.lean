/-! PLAIN LAYER: how far all towns are from one another, in the class (ways); that both come to the same -/
set_option maxRecDepth 100000
theorem w_upto {T k : Nat} (hT : T < 2147483648) (hk : k ≤ T) {A B : Prop} (hA : k = T → A) (hB : k < T → B) : (Int32.ofNat T ≤ Int32.ofNat k → A) ∧ (¬ Int32.ofNat T ≤ Int32.ofNat k → B) := by
  refine ⟨fun h => hA ?_, fun h => hB ?_⟩
  · have := (n_leI hT (by omega)).mp h
    omega
  · have : ¬ T ≤ k := fun q => h ((n_leI hT (by omega)).mpr q)
    omega
theorem xr_n {f : St} {r k : Nat} {F : Nat → Int32} {z : XR} (h : k ≠ r) : ((updR f r F, z) : XS).1 k = f k := updR_n h
def fx0 (road : Nat → Int32) (a b : Nat) : Int32 := if a = b then 0 else if road (6 * a + b) = 0 then 99 else road (6 * a + b)
def fxB (road : Nat → Int32) (a : Nat) : Nat → (Nat → Int32) → Nat → Int32
  | 0, F => F
  | b + 1, F => upd (fxB road a b F) (6 * a + b) (fx0 road a b)
def fxA (road : Nat → Int32) (T : Nat) : Nat → (Nat → Int32) → Nat → Int32
  | 0, F => F
  | a + 1, F => fxB road a T (fxA road T a F)
def gwS (m a b : Nat) (F : Nat → Int32) : Nat → Int32 := upd F (6 * a + b) (i_min (F (6 * a + b)) (i_min 99 (F (6 * a + m) + F (6 * m + b))))
def gwB (m a : Nat) : Nat → (Nat → Int32) → Nat → Int32
  | 0, F => F
  | b + 1, F => gwS m a b (gwB m a b F)
def gwA (m T : Nat) : Nat → (Nat → Int32) → Nat → Int32
  | 0, F => F
  | a + 1, F => gwB m a T (gwA m T a F)
def gwM (T : Nat) : Nat → (Nat → Int32) → Nat → Int32
  | 0, F => F
  | m + 1, F => gwA m T T (gwM T m F)
def farX (T : Nat) (road old : Nat → Int32) : Nat → Int32 := gwM T T (fxA road T T old)
theorem pX0_ways {b o : Nat} {cs ad : Nat → Nat} {vs : Nat → Option Nat} {S : XS} {Q : XS → Prop} {T : Nat} (hT : S.1 99 6 = Int32.ofNat T) (hT6 : T ≤ 6) (h : Q (updR S.1 5 (farX T (S.1 4) (S.1 5)), S.2)) : wX0_ways b cs ad vs o S Q := by
  unfold wX0_ways
  have e0 : S = (updR S.1 5 (fxA (S.1 4) T 0 (S.1 5)), S.2) := by
    show S = (updR S.1 5 (S.1 5), S.2)
    rw [updR_self]
  rw [e0]
  refine icX0_ways_2_1 T 0 (by omega) (by omega) (fun _ => True) (fun k => (updR S.1 5 (fxA (S.1 4) T k (S.1 5)), S.2)) trivial ?_
  intro K2 a _ ha _ hK
  unfold wbX0_ways_2
  rw [xr_n (show (99 : Nat) ≠ 5 by decide), hT]
  refine w_upto (by omega) ha (fun e => ?_) (fun haT => ?_)
  · subst e
    refine icX0_ways_84_1 a 0 (by omega) (by omega) (fun _ => True) (fun k => (updR S.1 5 (gwM a k (fxA (S.1 4) a a (S.1 5))), S.2)) trivial ?_
    intro K84 m _ hm _ hK
    unfold wbX0_ways_84
    rw [xr_n (show (99 : Nat) ≠ 5 by decide), hT]
    refine w_upto (by omega) hm (fun e => ?_) (fun hmT => ?_)
    · subst e
      exact h
    · generalize hF : gwM a m (fxA (S.1 4) a a (S.1 5)) = F
      refine icX0_ways_94_2 a 0 (by omega) (by omega) (fun _ => True) (fun _ => Int32.ofNat m) (fun k => (updR S.1 5 (gwA m a k F), S.2)) trivial ?_
      intro K94 c _ hc _ hK2
      unfold wbX0_ways_94
      rw [xr_n (show (99 : Nat) ≠ 5 by decide), hT]
      refine w_upto (by omega) hc (fun e => ?_) (fun hcT => ?_)
      · subst e
        intro x1 e1
        rw [n_suc] at e1
        subst e1
        have := hK hmT trivial
        simp only [gwM, hF] at this
        exact this
      · generalize hG : gwA m a c F = G
        refine icX0_ways_104_3 a 0 (by omega) (by omega) (fun _ => True) (fun _ => Int32.ofNat m) (fun _ => Int32.ofNat c) (fun k => (updR S.1 5 (gwB m c k G), S.2)) trivial ?_
        intro K104 d _ hd _ hK3
        unfold wbX0_ways_104
        rw [xr_n (show (99 : Nat) ≠ 5 by decide), hT]
        refine w_upto (by omega) hd (fun e => ?_) (fun hdT => ?_)
        · subst e
          intro x1 e1
          rw [n_suc] at e1
          subst e1
          have := hK2 hcT trivial
          simp only [gwA, hG] at this
          exact this
        · have e1 : (6 : Int32) * Int32.ofNat c + Int32.ofNat m = Int32.ofNat (6 * c + m) := n_ix
          have e2 : (6 : Int32) * Int32.ofNat m + Int32.ofNat d = Int32.ofNat (6 * m + d) := n_ix
          have e3 : (6 : Int32) * Int32.ofNat c + Int32.ofNat d = Int32.ofNat (6 * c + d) := n_ix
          rw [e1, e2, e3, n_clamp (n := 6 * c + m) (by omega), n_clamp (n := 6 * m + d) (by omega), n_clamp (n := 6 * c + d) (by omega)]
          refine ⟨n_in (by omega) (by decide), n_in (by omega) (by decide), n_in (by omega) (by decide), n_in (by omega) (by decide), fun f4 q1 x3 q2 => ?_⟩
          rw [n_suc] at q2
          subst q1 q2
          have := hK3 hdT trivial
          simp only [updR_upd2', updR_s]
          exact this
  · generalize hF : fxA (S.1 4) T a (S.1 5) = F
    refine icX0_ways_12_2 T 0 (by omega) (by omega) (fun _ => True) (fun _ => Int32.ofNat a) (fun k => (updR S.1 5 (fxB (S.1 4) a k F), S.2)) trivial ?_
    intro K12 c _ hc _ hK2
    unfold wbX0_ways_12
    rw [xr_n (show (99 : Nat) ≠ 5 by decide), hT]
    refine w_upto (by omega) hc (fun e => ?_) (fun hcT => ?_)
    · subst e
      intro x1 e1
      rw [n_suc] at e1
      subst e1
      have := hK haT trivial
      simp only [fxA, hF] at this
      exact this
    · have e3 : (6 : Int32) * Int32.ofNat a + Int32.ofNat c = Int32.ofNat (6 * a + c) := n_ix
      rw [e3, n_clamp (n := 6 * a + c) (by omega)]
      have hgo : ∀ v, v = fx0 (S.1 4) a c → ∀ K76, wbX0_ways_69 b cs ad vs o K12 K76 Q (Int32.ofNat a) (Int32.ofNat c) v (Int32.ofNat (6 * a + c)) (updR S.1 5 (fxB (S.1 4) a c F), S.2) := by
        intro v hv K76
        unfold wbX0_ways_69
        refine ⟨n_in (by omega) (by decide), fun f1 q1 x2 q2 => ?_⟩
        rw [n_clamp (by omega), updR_upd2', hv] at q1
        rw [n_suc] at q2
        subst q1 q2
        exact hK2 hcT trivial
      have er : (updR S.1 5 (fxB (S.1 4) a c F), S.2).1 4 = S.1 4 := xr_n (show (4 : Nat) ≠ 5 by decide)
      rw [er]
      have eq : (Int32.ofNat a = Int32.ofNat c) ↔ a = c := n_eqI (by omega) (by omega)
      refine ⟨fun hne => ⟨n_in (by omega) (by decide), fun h0 => ⟨n_in (by omega) (by decide), ?_⟩, fun h0 => ?_⟩, fun he => ?_⟩
      · exact hgo _ (by unfold fx0; rw [if_neg (fun q => hne (eq.mpr q)), if_neg h0]) _
      · exact hgo _ (by unfold fx0; rw [if_neg (fun q => hne (eq.mpr q)), if_pos h0]) _
      · exact hgo _ (by unfold fx0; rw [if_pos (eq.mp he)]) _
/-! both come to the same -/
theorem i_le {x y : Int32} : x ≤ y ↔ x.toInt ≤ y.toInt := Int32.le_iff_toInt_le
theorem i_lt {x y : Int32} : x < y ↔ x.toInt < y.toInt := Int32.lt_iff_toInt_lt
theorem i_eq {x y : Int32} : x = y ↔ x.toInt = y.toInt := Int32.toInt_inj.symm
theorem i_add {x y : Int32} (h1 : -2147483648 ≤ x.toInt + y.toInt) (h2 : x.toInt + y.toInt < 2147483648) : (x + y).toInt = x.toInt + y.toInt := by
  rw [Int32.toInt_add]
  exact Int.bmod_eq_of_le (by omega) (by omega)
theorem i_sub {x y : Int32} (h1 : -2147483648 ≤ x.toInt - y.toInt) (h2 : x.toInt - y.toInt < 2147483648) : (x - y).toInt = x.toInt - y.toInt := by
  rw [Int32.toInt_sub]
  exact Int.bmod_eq_of_le (by omega) (by omega)
theorem i_mul {x y : Int32} (h1 : -2147483648 ≤ x.toInt * y.toInt) (h2 : x.toInt * y.toInt < 2147483648) : (x * y).toInt = x.toInt * y.toInt := by
  rw [Int32.toInt_mul]
  exact Int.bmod_eq_of_le (by omega) (by omega)
/-- two rows are alike on T towns, and hours in them -/
def fE (T : Nat) (F G : Nat → Int32) : Prop := ∀ a b, a < T → b < T → F (6 * a + b) = G (6 * a + b) ∧ 0 ≤ (F (6 * a + b)).toInt ∧ (F (6 * a + b)).toInt ≤ 99
theorem i_min_of {x y : Int32} : i_min x y = if x ≤ y then x else y := by
  unfold i_min
  by_cases h : y < x
  · rw [if_pos h, if_neg (fun q => by rw [i_le] at q; rw [i_lt] at h; omega)]
  · rw [if_neg h, if_pos (by rw [i_le]; rw [i_lt] at h; omega)]
theorem fE_S {T m a b : Nat} {F G : Nat → Int32} (h : fE T F G) (hT : T ≤ 6) (hm : m < T) (ha : a < T) (hb : b < T) : fE T (gwS m a b F) (fwS m a b G) := by
  intro c d hc hd
  unfold gwS fwS upd
  by_cases e : 6 * c + d = 6 * a + b
  · rw [if_pos e, if_pos e]
    obtain ⟨e1, l1, u1⟩ := h a b ha hb
    obtain ⟨e2, l2, u2⟩ := h a m ha hm
    obtain ⟨e3, l3, u3⟩ := h m b hm hb
    rw [← e1, ← e2, ← e3]
    have es := i_add (x := F (6 * a + m)) (y := F (6 * m + b)) (by omega) (by omega)
    have e99 : (99 : Int32).toInt = 99 := by decide
    rw [i_min_of, i_min_of]
    by_cases h1 : (99 : Int32) ≤ F (6 * a + m) + F (6 * m + b)
    · rw [if_pos h1]
      have h1' := i_le.mp h1
      have h2 : F (6 * a + b) ≤ (99 : Int32) := i_le.mpr (by omega)
      have h3 : F (6 * a + b) ≤ F (6 * a + m) + F (6 * m + b) := i_le.mpr (by omega)
      rw [if_pos h2, if_pos h3]
      exact ⟨rfl, l1, u1⟩
    · rw [if_neg h1]
      have h1' : ¬ (99 : Int) ≤ (F (6 * a + m) + F (6 * m + b)).toInt := fun q => h1 (i_le.mpr (by omega))
      by_cases h3 : F (6 * a + b) ≤ F (6 * a + m) + F (6 * m + b)
      · rw [if_pos h3]
        exact ⟨rfl, l1, u1⟩
      · rw [if_neg h3]
        exact ⟨rfl, by omega, by omega⟩
  · rw [if_neg e, if_neg e]
    exact h c d hc hd
theorem fE_B {T m a : Nat} {F G : Nat → Int32} (h : fE T F G) (hT : T ≤ 6) (hm : m < T) (ha : a < T) : ∀ b, b ≤ T → fE T (gwB m a b F) (fwB m a b G)
  | 0, _ => h
  | b + 1, hb => fE_S (fE_B h hT hm ha b (by omega)) hT hm ha (by omega)
theorem fE_A {T m : Nat} {F G : Nat → Int32} (h : fE T F G) (hT : T ≤ 6) (hm : m < T) : ∀ a, a ≤ T → fE T (gwA m T a F) (fwA m T a G)
  | 0, _ => h
  | a + 1, ha => fE_B (fE_A h hT hm a (by omega)) hT hm (by omega) T (Nat.le_refl _)
theorem fE_M {T : Nat} {F G : Nat → Int32} (h : fE T F G) (hT : T ≤ 6) : ∀ m, m ≤ T → fE T (gwM T m F) (fwM T m G)
  | 0, _ => h
  | m + 1, hm => fE_A (fE_M h hT m (by omega)) hT (by omega) T (Nat.le_refl _)
theorem fxB_at {road : Nat → Int32} {a c d : Nat} {F : Nat → Int32} (hd : d < 6) : ∀ n, n ≤ 6 → fxB road a n F (6 * c + d) = if c = a ∧ d < n then fx0 road a d else F (6 * c + d)
  | 0, _ => by simp [fxB]
  | n + 1, hn => by
    have ih := fxB_at (road := road) (a := a) (c := c) (F := F) hd n (by omega)
    unfold fxB upd
    by_cases e : 6 * c + d = 6 * a + n
    · have h1 : c = a := by omega
      have h2 : d = n := by omega
      subst h1 h2
      simp
    · rw [if_neg e, ih]
      by_cases h1 : c = a
      · subst h1
        have : d ≠ n := fun q => e (by rw [q])
        by_cases h2 : d < n
        · simp [h2, Nat.lt_succ_of_lt h2]
        · have : ¬ d < n + 1 := by omega
          simp [h2, this]
      · simp [h1]
theorem fxA_at {road : Nat → Int32} {T c d : Nat} {F : Nat → Int32} (hT : T ≤ 6) (hd : d < T) : ∀ n, fxA road T n F (6 * c + d) = if c < n then fx0 road c d else F (6 * c + d)
  | 0 => by simp [fxA]
  | n + 1 => by
    unfold fxA
    rw [fxB_at (by omega) T (by omega), fxA_at hT hd n]
    by_cases h1 : c = n
    · subst h1
      simp [hd]
    · by_cases h2 : c < n
      · simp [h1, h2, Nat.lt_succ_of_lt h2]
      · have : ¬ c < n + 1 := by omega
        simp [h1, h2, this]
theorem far_same {T : Nat} {road old old' : Nat → Int32} (hT : T ≤ 6) (hr : ∀ k, k < 36 → 0 ≤ (road k).toInt ∧ (road k).toInt ≤ 50) : fE T (farX T road old) (farF T road old') := by
  refine fE_M ?_ hT T (Nat.le_refl _)
  intro a b ha hb
  rw [fxA_at hT hb T, if_pos ha]
  unfold farI far0 fx0
  rw [if_pos (show 6 * a + b < 36 by omega)]
  obtain ⟨l, u⟩ := hr (6 * a + b) (by omega)
  have e99 : (99 : Int32).toInt = 99 := by decide
  have e0 : (0 : Int32).toInt = 0 := by decide
  by_cases h : a = b
  · subst h
    rw [if_pos rfl, if_pos (show (6 * a + a) % 7 = 0 by omega)]
    exact ⟨rfl, by omega, by omega⟩
  · rw [if_neg h, if_neg (show ¬ (6 * a + b) % 7 = 0 by omega)]
    by_cases h0 : road (6 * a + b) = 0
    · rw [if_pos h0, if_pos (by rw [h0]; exact Int32.le_refl 0)]
      exact ⟨rfl, by omega, by omega⟩
    · have h0' : ¬ (road (6 * a + b)).toInt = 0 := fun q => h0 (i_eq.mpr (by omega))
      rw [if_neg h0, if_neg (fun q => by have := i_le.mp q; omega)]
      exact ⟨rfl, by omega, by omega⟩
