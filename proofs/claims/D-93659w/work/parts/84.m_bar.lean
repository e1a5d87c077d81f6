/-! PLAIN LAYER: whether two towns bar, by the reference -/
set_option maxRecDepth 100000
/-- day k of A, and the day ahead of B -/
def fol (W A B : Int32) (k : Nat) : Bool := decide ((i_shr A (Int32.ofNat k)) &&& 1 = 1) && decide ((i_shr B (i_rem (Int32.ofNat k + W - 1) W)) &&& 1 = 1)
def folN (W A B : Int32) : Nat → Bool
  | 0 => false
  | k + 1 => folN W A B k || fol W A B k
section
variable {g : St} {Q : Int32 → St → Prop} {a c w : Nat}
theorem pX7_follows (ha : a < 6) (hc : c < 6) (hw : g 99 6 = Int32.ofNat w) (hw7 : w ≤ 7) (hw2 : 2 ≤ w) (h : Q (if folN (g 99 6) (g 52 a) (g 52 c) w = true then 1 else 0) g) : wX7_follows g (Int32.ofNat a) (Int32.ofNat c) Q := by
  unfold wX7_follows
  have hw0 : ¬ g 99 6 = 0 := by
    rw [hw]
    intro q
    have := (n_eqI (a := w) (b := 0) (by omega) (by decide)).mp q
    omega
  have hina : vp_in (Int32.ofNat a) 6 := n_in ha (by decide)
  have hinc : vp_in (Int32.ofNat c) 6 := n_in hc (by decide)
  -- once found, it stays
  have mono : ∀ k, k ≤ w → folN (g 99 6) (g 52 a) (g 52 c) k = true → folN (g 99 6) (g 52 a) (g 52 c) w = true := by
    intro k hk hq
    have : ∀ m, k + m ≤ w → folN (g 99 6) (g 52 a) (g 52 c) (k + m) = true := by
      intro m
      induction m with
      | zero => intro _; exact hq
      | succ m ih =>
        intro hm
        show (folN (g 99 6) (g 52 a) (g 52 c) (k + m) || _) = true
        rw [ih (by omega), Bool.true_or]
    have h2 := this (w - k) (by omega)
    rw [show k + (w - k) = w by omega] at h2
    exact h2
  refine icX7_follows_2_3 w 0 (by omega) (by omega) (fun k => folN (g 99 6) (g 52 a) (g 52 c) k = false) (fun _ => Int32.ofNat a) (fun _ => Int32.ofNat c) (fun _ => g) rfl ?_
  intro K k _ hk hP hK
  unfold wbX7_follows_2
  rw [n_clamp (n := a) (by omega), n_clamp (n := c) (by omega)]
  have hgo : k < w → fol (g 99 6) (g 52 a) (g 52 c) k = false → wbX7_follows_52 K Q (Int32.ofNat a) (Int32.ofNat c) (Int32.ofNat k) g := by
    intro hlt hf
    unfold wbX7_follows_52
    intro x e
    rw [n_suc] at e
    subst e
    refine hK hlt ?_
    show (folN (g 99 6) (g 52 a) (g 52 c) k || fol (g 99 6) (g 52 a) (g 52 c) k) = false
    rw [hP, hf]
    rfl
  have hu := w_upto (T := w) (k := k) (A := Q (0 : Int32) g) (B := k < w) (by omega) hk (fun q => by
    subst q
    rw [hP] at h
    exact h) (fun q => q)
  rw [← hw] at hu
  refine ⟨hu.1, fun q => ⟨hina, fun q1 => hgo (hu.2 q) (by unfold fol; rw [decide_eq_false q1, Bool.false_and]), fun q1 => ⟨hinc, hw0, fun q2 => hgo (hu.2 q) (by unfold fol; rw [decide_eq_false q2, Bool.and_false]), fun q2 => ?_⟩⟩⟩
  have hf : fol (g 99 6) (g 52 a) (g 52 c) k = true := by
    unfold fol
    rw [decide_eq_true q1, decide_eq_true q2]
    rfl
  have hlt := hu.2 q
  have : folN (g 99 6) (g 52 a) (g 52 c) (k + 1) = true := by
    show (folN (g 99 6) (g 52 a) (g 52 c) k || fol (g 99 6) (g 52 a) (g 52 c) k) = true
    rw [hf, Bool.or_true]
  rw [if_pos (mono (k + 1) (by omega) this)] at h
  exact h
end
