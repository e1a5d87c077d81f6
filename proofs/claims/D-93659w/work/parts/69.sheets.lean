/-! PLAIN LAYER: sheets anew; Arrays.fill -/
set_option maxRecDepth 100000
theorem RI_sh {F g : St} {s : Nat} (hs : s < 4) (hI : RI F g) {A B g36 g37 g38 : Nat → Int32} (h : shR A B s g36 g37 g38) (ho : ∀ t, t < 4 → t ≠ s → ∀ X Y : Nat → Int32, shR X Y t (g 36) (g 37) (g 38) → shR X Y t g36 g37 g38) : RI (updR (updR F (60 + s) A) (70 + s) B) (updR (updR (updR g 36 g36) 37 g37) 38 g38) := by
  obtain ⟨aI, aA, aB, aF, aT, aD, aW, aG, ⟨s0, s1, s2, s3⟩, aY⟩ := hI
  have : s = 0 ∨ s = 1 ∨ s = 2 ∨ s = 3 := by omega
  rcases this with e | e | e | e <;> subst e
  · exact ⟨aI, aA, aB, aF, aT, aD, aW, aG, ⟨h, ho 1 (by decide) (by decide) _ _ s1, ho 2 (by decide) (by decide) _ _ s2, ho 3 (by decide) (by decide) _ _ s3⟩, aY⟩
  · exact ⟨aI, aA, aB, aF, aT, aD, aW, aG, ⟨ho 0 (by decide) (by decide) _ _ s0, h, ho 2 (by decide) (by decide) _ _ s2, ho 3 (by decide) (by decide) _ _ s3⟩, aY⟩
  · exact ⟨aI, aA, aB, aF, aT, aD, aW, aG, ⟨ho 0 (by decide) (by decide) _ _ s0, ho 1 (by decide) (by decide) _ _ s1, h, ho 3 (by decide) (by decide) _ _ s3⟩, aY⟩
  · exact ⟨aI, aA, aB, aF, aT, aD, aW, aG, ⟨ho 0 (by decide) (by decide) _ _ s0, ho 1 (by decide) (by decide) _ _ s1, ho 2 (by decide) (by decide) _ _ s2, h⟩, aY⟩
theorem RI_at {F g : St} {s : Nat} (hs : s < 4) (hI : RI F g) : shR (F (60 + s)) (F (70 + s)) s (g 36) (g 37) (g 38) := by
  obtain ⟨aI, aA, aB, aF, aT, aD, aW, aG, ⟨s0, s1, s2, s3⟩, aY⟩ := hI
  have : s = 0 ∨ s = 1 ∨ s = 2 ∨ s = 3 := by omega
  rcases this with e | e | e | e <;> subst e
  · exact s0
  · exact s1
  · exact s2
  · exact s3
theorem MI_sh {g : St} (hM : MI g) {g36 g37 g38 : Nat → Int32} (h1 : rIn 4 g36 (-1) 2) (h2 : rIn 4 g37 0 40) : MI (updR (updR (updR g 36 g36) 37 g37) 38 g38) := by
  obtain ⟨mI, mA, mB, mT, mD, mW, mG, mS⟩ := hM
  exact ⟨mI, mA, mB, mT, mD, mW, mG, h1, h2⟩
theorem updP_same {P : cP} {a : Nat} {e : cE} (h : P a = some e) : updP P a e = P := by
  funext q
  unfold updP
  by_cases hq : q = a
  · rw [if_pos hq, hq, h]
  · rw [if_neg hq]
theorem updP_updP {P : cP} {a : Nat} {e e' : cE} : updP (updP P a e) a e' = updP P a e' := by
  funext q
  unfold updP
  by_cases hq : q = a
  · rw [if_pos hq, if_pos hq]
  · rw [if_neg hq, if_neg hq, if_neg hq]
section
variable {b o : Nat} {cs ad : Nat → Nat} {vs : Nat → Option Nat} {S : XS} {g : St} {f : cW}
theorem pJ11_fill {x0 n : Nat} {c : Nat → Int32} {v : Int32} {Q : cW → Prop} (hP : f.1 x0 = some (.inl (cs 0, n, .inl c))) (hn : n < 2147483648) (h : Q (updP f.1 x0 (.inl (cs 0, n, .inl (cp (fun _ => v) c n))), f.2)) : wJ11_fill b cs ad vs f x0 v Q := by
  unfold wJ11_fill
  refine ⟨n, c, hP, fun x3 e3 => ?_⟩
  subst e3
  have e0 : f = (updP f.1 x0 (.inl (cs 0, n, .inl (cp (fun _ => v) c 0))), f.2) := by rw [cp_0, updP_same hP]
  rw [e0]
  refine icJ11_fill_5_2 n 0 hn (Nat.zero_le _) (fun _ => True) (fun _ => x0) (fun _ => v) (fun _ => Int32.ofNat n) (fun k => (updP f.1 x0 (.inl (cs 0, n, .inl (cp (fun _ => v) c k))), f.2)) trivial ?_
  intro K k _ hk _ hK
  unfold wbJ11_fill_5
  refine w_upto hn hk (fun q => ?_) (fun hlt => ?_)
  · subst q
    exact h
  · refine ⟨n, cp (fun _ => v) c k, updP_s, n_in hlt hn, fun f9 e9 x e => ?_⟩
    rw [n_suc] at e
    subst e
    have e9' : f9 = (updP f.1 x0 (.inl (cs 0, n, .inl (cp (fun _ => v) c (k + 1)))), f.2) := by
      rw [e9, n_clamp (by omega)]
      show (updP (updP f.1 x0 _) x0 (.inl (cs 0, n, .inl (upd (cp (fun _ => v) c k) k ((fun _ => v) k)))), f.2) = _
      rw [updP_updP, cp_step]
    rw [e9']
    exact hK hlt trivial
theorem pJ11_fill_2 {x0 n : Nat} {c : Nat → Int32} {v : Int32} {Q : cW → Prop} (hP : f.1 x0 = some (.inl (cs 1, n, .inl c))) (hn : n < 2147483648) (h : Q (updP f.1 x0 (.inl (cs 1, n, .inl (cp (fun _ => vp_nar .byte v) c n))), f.2)) : wJ11_fill_2 b cs ad vs f x0 v Q := by
  unfold wJ11_fill_2
  refine ⟨n, c, hP, fun x3 e3 => ?_⟩
  subst e3
  have e0 : f = (updP f.1 x0 (.inl (cs 1, n, .inl (cp (fun _ => vp_nar .byte v) c 0))), f.2) := by rw [cp_0, updP_same hP]
  rw [e0]
  refine icJ11_fill_2_5_2 n 0 hn (Nat.zero_le _) (fun _ => True) (fun _ => x0) (fun _ => v) (fun _ => Int32.ofNat n) (fun k => (updP f.1 x0 (.inl (cs 1, n, .inl (cp (fun _ => vp_nar .byte v) c k))), f.2)) trivial ?_
  intro K k _ hk _ hK
  unfold wbJ11_fill_2_5
  refine w_upto hn hk (fun q => ?_) (fun hlt => ?_)
  · subst q
    exact h
  · refine ⟨n, cp (fun _ => vp_nar .byte v) c k, updP_s, n_in hlt hn, fun f9 e9 x e => ?_⟩
    rw [n_suc] at e
    subst e
    have e9' : f9 = (updP f.1 x0 (.inl (cs 1, n, .inl (cp (fun _ => vp_nar .byte v) c (k + 1)))), f.2) := by
      rw [e9, n_clamp (by omega)]
      show (updP (updP f.1 x0 _) x0 (.inl (cs 1, n, .inl (upd (cp (fun _ => vp_nar .byte v) c k) k ((fun _ => vp_nar .byte v) k)))), f.2) = _
      rw [updP_updP, cp_step]
    rw [e9']
    exact hK hlt trivial
end
