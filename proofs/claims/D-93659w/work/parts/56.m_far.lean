/-! PLAIN LAYER: how far all towns are from one another (spreads) -/
set_option maxRecDepth 100000
theorem n_ltI {a b : Nat} (ha : a < 2147483648) (hb : b < 2147483648) : (Int32.ofNat a < Int32.ofNat b) ↔ a < b := Int32.ofNat_lt_iff_lt ha hb
theorem n_leI {a b : Nat} (ha : a < 2147483648) (hb : b < 2147483648) : (Int32.ofNat a ≤ Int32.ofNat b) ↔ a ≤ b := Int32.ofNat_le_iff_le ha hb
theorem n_eqI {a b : Nat} (ha : a < 2147483648) (hb : b < 2147483648) : (Int32.ofNat a = Int32.ofNat b) ↔ a = b := by rw [n_eq ha hb]
theorem n_rem {a b : Nat} (ha : a < 2147483648) (hb : b < 2147483648) : i_rem (Int32.ofNat a) (Int32.ofNat b) = Int32.ofNat (a % b) := by
  unfold i_rem
  rw [← Int32.ofNat_div ha hb, n_mul, n_sub (by rw [Nat.mul_comm]; exact Nat.mul_div_le a b)]
  congr 1
  have := Nat.div_add_mod a b
  rw [Nat.mul_comm]
  omega
theorem updR_upd2' {f : St} {r i : Nat} {F : Nat → Int32} {v : Int32} : upd2 (updR f r F) r i v = updR f r (upd F i v) := by
  funext a
  by_cases h : a = r
  · subst h
    simp [upd2, updR]
  · simp [upd2, updR, h]
theorem updR_self {f : St} {r : Nat} : updR f r (f r) = f := by
  funext a
  by_cases h : a = r
  · subst h
    simp [updR]
  · simp [updR, h]
theorem upd2_updR {f : St} {r i : Nat} {v : Int32} : upd2 f r i v = updR f r (upd (f r) i v) := by
  funext a
  by_cases h : a = r
  · subst h
    simp [upd2, updR]
  · simp [upd2, updR, h]
def far0 (road : Nat → Int32) (k : Nat) : Int32 := if k % 7 = 0 then 0 else if road k ≤ 0 then 99 else road k
def farI (road old : Nat → Int32) (n : Nat) : Nat → Int32 := fun k => if k < n then far0 road k else old k
def fwS (m a b : Nat) (F : Nat → Int32) : Nat → Int32 := upd F (6 * a + b) (if F (6 * a + b) ≤ F (6 * a + m) + F (6 * m + b) then F (6 * a + b) else F (6 * a + m) + F (6 * m + b))
def fwB (m a : Nat) : Nat → (Nat → Int32) → Nat → Int32
  | 0, F => F
  | b + 1, F => fwS m a b (fwB m a b F)
def fwA (m T : Nat) : Nat → (Nat → Int32) → Nat → Int32
  | 0, F => F
  | a + 1, F => fwB m a T (fwA m T a F)
def fwM (T : Nat) : Nat → (Nat → Int32) → Nat → Int32
  | 0, F => F
  | m + 1, F => fwA m T T (fwM T m F)
/-- the row far, of T towns and roads, over an old one -/
def farF (T : Nat) (road old : Nat → Int32) : Nat → Int32 := fwM T T (farI road old 36)
theorem farI_step {road old : Nat → Int32} {k : Nat} : upd (farI road old k) k (far0 road k) = farI road old (k + 1) := by
  funext i
  unfold upd farI
  by_cases h : i = k
  · subst h
    simp
  · by_cases h2 : i < k
    · simp [h, h2, Nat.lt_succ_of_lt h2]
    · have : ¬ i < k + 1 := by omega
      simp [h, h2, this]
theorem pX7_spreads {g : St} {Q : St → Prop} {T : Nat} (hT : g 99 0 = Int32.ofNat T) (hT6 : T ≤ 6) (h : Q (updR g 39 (farF T (g 5) (g 39)))) : wX7_spreads g Q := by
  unfold wX7_spreads
  refine ilX7_spreads_2 (fun x f => ∃ k, k ≤ 36 ∧ x = Int32.ofNat k ∧ f = updR g 39 (farI (g 5) (g 39) k)) (fun x _ => 36 - x.toNatClampNeg) ?_ _ _ ⟨0, by omega, rfl, ?_⟩
  · intro K2 x1 f hI hK
    obtain ⟨k, hk, rfl, rfl⟩ := hI
    have hgo : ∀ v, v = far0 (g 5) k → k < 36 → ∀ K51, wbX7_spreads_44 K2 K51 Q (Int32.ofNat k) v (Int32.ofNat k) (updR g 39 (farI (g 5) (g 39) k)) := by
      intro v hv hlt K51
      unfold wbX7_spreads_44
      refine ⟨n_in hlt (by decide), fun f1 e1 x2 e2 => ?_⟩
      rw [n_clamp (by omega), updR_upd2', hv, farI_step] at e1
      rw [n_suc] at e2
      subst e1 e2
      refine hK _ _ ⟨k + 1, by omega, rfl, rfl⟩ ?_
      show 36 - (Int32.ofNat (k + 1)).toNatClampNeg < 36 - (Int32.ofNat k).toNatClampNeg
      rw [n_clamp (by omega), n_clamp (by omega)]
      omega
    unfold wbX7_spreads_2
    refine ⟨fun hge => ?_, fun hlt => ?_⟩
    · have hk36 : k = 36 := by
        have := (n_leI (a := 36) (b := k) (by decide) (by omega)).mp hge
        omega
      subst hk36
      refine ilX7_spreads_53 (fun x f => ∃ m, m ≤ T ∧ x = Int32.ofNat m ∧ f = updR g 39 (fwM T m (farI (g 5) (g 39) 36))) (fun x _ => T - x.toNatClampNeg) ?_ _ _ ⟨0, by omega, rfl, rfl⟩
      intro K53 x1 f hI hK
      obtain ⟨m, hm, rfl, rfl⟩ := hI
      unfold wbX7_spreads_53
      rw [updR_n (by decide), hT]
      refine ⟨fun hge => ?_, fun hlt => ?_⟩
      · have hmT : m = T := by
          have := (n_leI (a := T) (b := m) (by omega) (by omega)).mp hge
          omega
        subst hmT
        exact h
      · have hmT : m < T := by
          have : ¬ T ≤ m := fun q => hlt ((n_leI (a := T) (b := m) (by omega) (by omega)).mpr q)
          omega
        refine ilX7_spreads_63 (fun x y f => ∃ a, a ≤ T ∧ x = Int32.ofNat m ∧ y = Int32.ofNat a ∧ f = updR g 39 (fwA m T a (fwM T m (farI (g 5) (g 39) 36)))) (fun _ x _ => T - x.toNatClampNeg) ?_ _ _ _ ⟨0, by omega, rfl, rfl, rfl⟩
        intro K63 x1 x2 f hI hK2
        obtain ⟨a, ha, rfl, rfl, rfl⟩ := hI
        unfold wbX7_spreads_63
        rw [updR_n (by decide), hT]
        refine ⟨fun hge => ?_, fun hlt => ?_⟩
        · have haT : a = T := by
            have := (n_leI (a := T) (b := a) (by omega) (by omega)).mp hge
            omega
          subst haT
          intro x1 e1
          rw [n_suc] at e1
          subst e1
          refine hK _ _ ⟨m + 1, by omega, rfl, rfl⟩ ?_
          show a - (Int32.ofNat (m + 1)).toNatClampNeg < a - (Int32.ofNat m).toNatClampNeg
          rw [n_clamp (by omega), n_clamp (by omega)]
          omega
        · have haT : a < T := by
            have : ¬ T ≤ a := fun q => hlt ((n_leI (a := T) (b := a) (by omega) (by omega)).mpr q)
            omega
          refine ilX7_spreads_73 (fun x y z f => ∃ b, b ≤ T ∧ x = Int32.ofNat m ∧ y = Int32.ofNat a ∧ z = Int32.ofNat b ∧ f = updR g 39 (fwB m a b (fwA m T a (fwM T m (farI (g 5) (g 39) 36))))) (fun _ _ x _ => T - x.toNatClampNeg) ?_ _ _ _ _ ⟨0, by omega, rfl, rfl, rfl, rfl⟩
          intro K73 x1 x2 x3 f hI hK3
          obtain ⟨b, hb, rfl, rfl, rfl, rfl⟩ := hI
          generalize hF : fwB m a b (fwA m T a (fwM T m (farI (g 5) (g 39) 36))) = F
          unfold wbX7_spreads_73
          rw [updR_n (by decide), hT, updR_s]
          refine ⟨fun hge => ?_, fun hlt => ?_⟩
          · have hbT : b = T := by
              have := (n_leI (a := T) (b := b) (by omega) (by omega)).mp hge
              omega
            subst hbT
            intro x2 e2
            rw [n_suc] at e2
            subst e2
            refine hK2 _ _ _ ⟨a + 1, by omega, rfl, rfl, by rw [← hF]; rfl⟩ ?_
            show b - (Int32.ofNat (a + 1)).toNatClampNeg < b - (Int32.ofNat a).toNatClampNeg
            rw [n_clamp (by omega), n_clamp (by omega)]
            omega
          · have hbT : b < T := by
              have : ¬ T ≤ b := fun q => hlt ((n_leI (a := T) (b := b) (by omega) (by omega)).mpr q)
              omega
            have e1 : (6 : Int32) * Int32.ofNat a + Int32.ofNat m = Int32.ofNat (6 * a + m) := n_ix
            have e2 : (6 : Int32) * Int32.ofNat m + Int32.ofNat b = Int32.ofNat (6 * m + b) := n_ix
            have e3 : (6 : Int32) * Int32.ofNat a + Int32.ofNat b = Int32.ofNat (6 * a + b) := n_ix
            rw [e1, e2, e3, n_clamp (n := 6 * a + m) (by omega), n_clamp (n := 6 * m + b) (by omega), n_clamp (n := 6 * a + b) (by omega)]
            have hgo2 : ∀ v, v = (if F (6 * a + b) ≤ F (6 * a + m) + F (6 * m + b) then F (6 * a + b) else F (6 * a + m) + F (6 * m + b)) → ∀ K155, wbX7_spreads_148 K73 K155 Q (Int32.ofNat m) (Int32.ofNat a) (Int32.ofNat b) v (Int32.ofNat (6 * a + b)) (updR g 39 F) := by
              intro v hv K155
              unfold wbX7_spreads_148
              refine ⟨n_in (by omega) (by decide), fun f1 q1 x3 q2 => ?_⟩
              rw [n_clamp (by omega), updR_upd2', hv] at q1
              rw [n_suc] at q2
              subst q1 q2
              refine hK3 _ _ _ _ ⟨b + 1, by omega, rfl, rfl, rfl, by rw [← hF]; rfl⟩ ?_
              show T - (Int32.ofNat (b + 1)).toNatClampNeg < T - (Int32.ofNat b).toNatClampNeg
              rw [n_clamp (by omega), n_clamp (by omega)]
              omega
            refine ⟨n_in (by omega) (by decide), n_in (by omega) (by decide), fun x4 e4 => ⟨n_in (by omega) (by decide), fun hc => ⟨n_in (by omega) (by decide), ?_⟩, fun hc => ?_⟩⟩
            · subst e4
              exact hgo2 _ (by rw [if_pos hc]) _
            · subst e4
              exact hgo2 _ (by rw [if_neg hc]) _
    · have hk36 : k < 36 := by
        have : ¬ 36 ≤ k := fun q => hlt ((n_leI (a := 36) (b := k) (by decide) (by omega)).mpr q)
        omega
      have er : i_rem (Int32.ofNat k) (7 : Int32) = Int32.ofNat (k % 7) := n_rem (b := 7) (by omega) (by decide)
      rw [er, n_clamp (by omega), updR_n (by decide)]
      have hr : k % 7 < 7 := Nat.mod_lt _ (by decide)
      have ez : (Int32.ofNat (k % 7) = 0) ↔ k % 7 = 0 := n_eqI (b := 0) (by omega) (by decide)
      refine ⟨fun h7 => ⟨n_in hk36 (by decide), fun h0 => ?_, fun h0 => ⟨n_in hk36 (by decide), ?_⟩⟩, fun h7 => ?_⟩
      · exact hgo _ (by unfold far0; rw [if_neg (fun q => h7 (ez.mpr q)), if_pos h0]) hk36 _
      · exact hgo _ (by unfold far0; rw [if_neg (fun q => h7 (ez.mpr q)), if_neg h0]) hk36 _
      · exact hgo _ (by unfold far0; rw [if_pos (ez.mp h7)]) hk36 _
  · have : farI (g 5) (g 39) 0 = g 39 := by
      funext i
      simp [farI]
    rw [this, updR_self]
