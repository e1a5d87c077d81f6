/-! PLAIN LAYER: all ways of days, in order; the reference goes from one to the next -/
set_option maxRecDepth 100000
def iS (x : Int32) (t : Nat) : Bool := decide (i_shr x (Int32.ofNat t) &&& 1 = 1)
/-- a way so far: days of towns, the last one first -/
def dyO (P : List Nat) (i : Nat) : Nat := P.getD (P.length - 1 - i) 0
def hO (s : Nat → Bool) (P : List Nat) (i : Nat) : Int32 := if i < P.length ∧ s i = true then i_shl 1 (Int32.ofNat (dyO P i)) else 0
theorem dyO_top {d : Nat} {P : List Nat} : dyO (d :: P) P.length = d := by
  unfold dyO
  rw [List.length_cons, show P.length + 1 - 1 - P.length = 0 by omega]
  rfl
theorem dyO_low {d i : Nat} {P : List Nat} (h : i < P.length) : dyO (d :: P) i = dyO P i := by
  unfold dyO
  rw [List.length_cons, show P.length + 1 - 1 - i = (P.length - 1 - i) + 1 by omega]
  rfl
theorem hO_top {s : Nat → Bool} {d : Nat} {P : List Nat} (h : s P.length = true) : hO s (d :: P) P.length = i_shl 1 (Int32.ofNat d) := by
  unfold hO
  rw [List.length_cons, if_pos ⟨by omega, h⟩, dyO_top]
theorem hO_out {s : Nat → Bool} {d : Nat} {P : List Nat} (h : ¬ s P.length = true) : hO s (d :: P) P.length = 0 := by
  unfold hO
  rw [if_neg (fun q => h q.2)]
theorem hO_up {s : Nat → Bool} {P : List Nat} {i : Nat} (h : P.length ≤ i) : hO s P i = 0 := by
  unfold hO
  rw [if_neg (fun q => by omega)]
theorem hO_low {s : Nat → Bool} {d i : Nat} {P : List Nat} (h : i ≠ P.length) : hO s (d :: P) i = hO s P i := by
  by_cases c : i < P.length
  · unfold hO
    rw [List.length_cons, dyO_low c]
    by_cases e : s i = true
    · rw [if_pos ⟨by omega, e⟩, if_pos ⟨c, e⟩]
    · rw [if_neg (fun q => e q.2), if_neg (fun q => e q.2)]
  · rw [hO_up (by rw [List.length_cons]; omega), hO_up (by omega)]
/-- whether the last town bars none ahead, nor itself -/
def frP (B : (Nat → Int32) → Nat → Nat → Int32) (s : Nat → Bool) (P : List Nat) : Bool := flB (fun a => if s a = true then B (hO s P) a (P.length - 1) else 0) P.length
def wdF (f : Nat → List (List Nat)) : Nat → Nat → List (List Nat)
  | _, 0 => []
  | k, m + 1 => f k ++ wdF f (k + 1) m
def cdF (f : Nat → Nat) : Nat → Nat → Nat
  | _, 0 => 0
  | k, m + 1 => f k + cdF f (k + 1) m
/-- all ways on from P, n towns to come -/
def wy (fr : List Nat → Bool) (s : Nat → Bool) (w : Nat) : Nat → List Nat → List (List Nat)
  | 0, P => [P]
  | n + 1, P => if s P.length = true then wdF (fun d => if fr (d :: P) = true then wy fr s w n (d :: P) else []) 0 w else wy fr s w n (0 :: P)
/-- all ways behind P -/
def rs (fr : List Nat → Bool) (s : Nat → Bool) (w T : Nat) : List Nat → List (List Nat)
  | [] => []
  | d :: P => (if s P.length = true then wdF (fun d' => if fr (d' :: P) = true then wy fr s w (T - (P.length + 1)) (d' :: P) else []) (d + 1) (w - (d + 1)) else []) ++ rs fr s w T P
/-- how many steps that takes -/
def cy (fr : List Nat → Bool) (s : Nat → Bool) (w : Nat) : Nat → List Nat → Nat
  | 0, _ => 0
  | n + 1, P => 2 + if s P.length = true then cdF (fun d => if fr (d :: P) = true then 1 + cy fr s w n (d :: P) else 0) 0 w else cy fr s w n (0 :: P)
def cr (fr : List Nat → Bool) (s : Nat → Bool) (w T : Nat) : List Nat → Nat
  | [] => 0
  | d :: P => 1 + (if s P.length = true then cdF (fun d' => if fr (d' :: P) = true then 1 + cy fr s w (T - (P.length + 1)) (d' :: P) else 0) (d + 1) (w - (d + 1)) else 0) + cr fr s w T P
theorem rs_cons {fr : List Nat → Bool} {s : Nat → Bool} {w T d : Nat} {P : List Nat} : rs fr s w T (d :: P) = (if s P.length = true then wdF (fun d' => if fr (d' :: P) = true then wy fr s w (T - (P.length + 1)) (d' :: P) else []) (d + 1) (w - (d + 1)) else []) ++ rs fr s w T P := rfl
theorem cr_cons {fr : List Nat → Bool} {s : Nat → Bool} {w T d : Nat} {P : List Nat} : cr fr s w T (d :: P) = 1 + (if s P.length = true then cdF (fun d' => if fr (d' :: P) = true then 1 + cy fr s w (T - (P.length + 1)) (d' :: P) else 0) (d + 1) (w - (d + 1)) else 0) + cr fr s w T P := rfl
theorem wy_s {fr : List Nat → Bool} {s : Nat → Bool} {w n : Nat} {P : List Nat} : wy fr s w (n + 1) P = if s P.length = true then wdF (fun d => if fr (d :: P) = true then wy fr s w n (d :: P) else []) 0 w else wy fr s w n (0 :: P) := rfl
theorem cy_s {fr : List Nat → Bool} {s : Nat → Bool} {w n : Nat} {P : List Nat} : cy fr s w (n + 1) P = 2 + if s P.length = true then cdF (fun d => if fr (d :: P) = true then 1 + cy fr s w n (d :: P) else 0) 0 w else cy fr s w n (0 :: P) := rfl
theorem wdF_s {f : Nat → List (List Nat)} {k m : Nat} : wdF f k (m + 1) = f k ++ wdF f (k + 1) m := rfl
theorem cdF_s {f : Nat → Nat} {k m : Nat} : cdF f k (m + 1) = f k + cdF f (k + 1) m := rfl
theorem ikX7_nextWay_48 {K213 : Int32 → St → Prop} {Q : Int32 → St → Prop} (I : Nat → Int32 → Int32 → Int32 → St → Prop) (step : ∀ (K : Int32 → Int32 → Int32 → St → Prop) (n : Nat) (x1 x3 x4 : Int32) (f : St), I n x1 x3 x4 f → (∀ (m : Nat) (y1 y3 y4 : Int32) (f' : St), m < n → I m y1 y3 y4 f' → K y1 y3 y4 f') → wbX7_nextWay_48 K K213 Q x1 x3 x4 f) {n : Nat} {x1 x3 x4 : Int32} {f : St} (h : I n x1 x3 x4 f) : ∃ N : Nat, wlX7_nextWay_48 K213 Q N x1 x3 x4 f := by
  have key : ∀ N n, n < N → ∀ x1 x3 x4 f, I n x1 x3 x4 f → wlX7_nextWay_48 K213 Q N x1 x3 x4 f := by
    intro N
    induction N with
    | zero => intro n hn; omega
    | succ N ih => intro n hn x1 x3 x4 f hI; exact step _ n x1 x3 x4 f hI (fun m y1 y3 y4 f' hm hI' => ih m (by omega) _ _ _ _ hI')
  exact ⟨n + 1, key (n + 1) n (by omega) _ _ _ _ h⟩
theorem shl_tab8 : ∀ d, d < 9 → i_shl 1 (Int32.ofNat d) = Int32.ofNat (2 ^ d) := by decide +kernel
theorem shl1_tab : ∀ d, d < 8 → i_shl (Int32.ofNat (2 ^ d)) 1 = Int32.ofNat (2 ^ (d + 1)) := by decide +kernel
theorem shl_le {a c : Nat} (ha : a < 9) (hc : c < 9) : (i_shl 1 (Int32.ofNat a) ≤ i_shl 1 (Int32.ofNat c)) ↔ a ≤ c := by
  have h2 : ∀ x : Nat, x < 9 → 2 ^ x < 2147483648 := fun x hx => Nat.lt_of_lt_of_le (Nat.pow_lt_pow_right (by decide) hx) (by decide)
  rw [shl_tab8 a ha, shl_tab8 c hc, n_leI (h2 a ha) (h2 c hc)]
  exact Nat.pow_le_pow_iff_right (by decide)
theorem shl_ne0 {a : Nat} (ha : a < 9) : ¬ i_shl 1 (Int32.ofNat a) = 0 := by
  have h2 : ∀ x : Nat, x < 9 → 2 ^ x < 2147483648 := fun x hx => Nat.lt_of_lt_of_le (Nat.pow_lt_pow_right (by decide) hx) (by decide)
  rw [shl_tab8 a ha]
  intro q
  have := (n_eqI (b := 0) (h2 a ha) (by decide)).mp q
  have h3 : 0 < 2 ^ a := Nat.pow_pos (by decide)
  omega
theorem shl_suc {a : Nat} (ha : a < 8) : i_shl (i_shl 1 (Int32.ofNat a)) 1 = i_shl 1 (Int32.ofNat (a + 1)) := by
  rw [shl_tab8 a (by omega), shl1_tab a ha, shl_tab8 (a + 1) (by omega)]
section
variable {g : St} {T w : Nat} {s : Nat → Bool} {B : (Nat → Int32) → Nat → Nat → Int32}
/-- the reference's isFree, by what doBar gives -/
theorem pX7_isFree {P : List Nat} {f : St} {t : Nat} {Q : Int32 → St → Prop} (ht : P.length = t + 1) (ht6 : t < 6) (hB : ∀ a (Q' : Int32 → St → Prop), a ≤ t → Q' (if s a = true then B (hO s P) a t else 0) f → wX7_doBar f (Int32.ofNat a) (Int32.ofNat t) Q') (h : Q (fl1 (frP B s P)) f) : wX7_isFree f (Int32.ofNat t) Q := by
  unfold wX7_isFree
  have et : P.length - 1 = t := by omega
  have efr : frP B s P = flB (fun a => if s a = true then B (hO s P) a (P.length - 1) else 0) (t + 1) := congrArg (flB (fun a => if s a = true then B (hO s P) a (P.length - 1) else 0)) ht
  have hfl : ∀ n, n ≤ t + 1 → flB (fun a => if s a = true then B (hO s P) a (P.length - 1) else 0) (t + 1) = true → flB (fun a => if s a = true then B (hO s P) a (P.length - 1) else 0) n = true := by
    intro n hn hh
    have : ∀ m, flB (fun a => if s a = true then B (hO s P) a (P.length - 1) else 0) (n + m) = true → flB (fun a => if s a = true then B (hO s P) a (P.length - 1) else 0) n = true := by
      intro m
      induction m with
      | zero => exact fun q => q
      | succ m ih =>
        intro q
        have q' : (flB (fun a => if s a = true then B (hO s P) a (P.length - 1) else 0) (n + m) && _) = true := q
        rw [Bool.and_eq_true] at q'
        exact ih q'.1
    exact this (t + 1 - n) (by rw [show n + (t + 1 - n) = t + 1 by omega]; exact hh)
  refine icX7_isFree_2_2 (t + 1) 0 (by omega) (by omega) (fun n => flB (fun a => if s a = true then B (hO s P) a (P.length - 1) else 0) n = true) (fun _ => Int32.ofNat t) (fun _ => f) rfl ?_
  intro K n _ hn hP hK
  unfold wbX7_isFree_2
  have hlt := n_ltI (a := t) (b := n) (by omega) (by omega)
  refine ⟨fun q => ?_, fun q => hB n _ ?_ ⟨fun z => ?_, fun z => ?_⟩⟩
  · have : n = t + 1 := by
      have := hlt.mp q
      omega
    subst this
    rw [efr, hP] at h
    exact h
  · have : ¬ t < n := fun z => q (hlt.mpr z)
    omega
  · intro x e
    rw [n_suc] at e
    subst e
    have hnt : n < t + 1 := by
      have : ¬ t < n := fun z => q (hlt.mpr z)
      omega
    refine hK hnt ?_
    show (flB _ n && decide ((if s n = true then B (hO s P) n (P.length - 1) else 0) = 0)) = true
    rw [hP, Bool.true_and, decide_eq_true_iff, et]
    exact z
  · have hnt : n < t + 1 := by
      have : ¬ t < n := fun z => q (hlt.mpr z)
      omega
    have hf : frP B s P = false := by
      rw [efr]
      by_cases c : flB (fun a => if s a = true then B (hO s P) a (P.length - 1) else 0) (t + 1) = true
      · have c2 := hfl (n + 1) (by omega) c
        have c3 : (flB (fun a => if s a = true then B (hO s P) a (P.length - 1) else 0) n && decide ((if s n = true then B (hO s P) n (P.length - 1) else 0) = 0)) = true := c2
        rw [Bool.and_eq_true, decide_eq_true_iff, et] at c3
        exact absurd c3.2 z
      · exact Bool.eq_false_iff.mpr c
    rw [hf] at h
    exact h
end
