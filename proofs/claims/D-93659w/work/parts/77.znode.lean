/-! PLAIN LAYER: objects that are none of the class's own lie in Z; nodes stay when Z stays -/
set_option maxRecDepth 100000
theorem wX_obj {o a : Nat} {cs : Nat → Nat} {S : XS} {ci : Nat} {V : Nat → Value} (h : (wX o cs S).1 a = some (.inr (ci, V))) (h1 : ci ≠ 1) (h2 : ci ≠ 2) : S.2.2.1 a = some (.inr (ci, V)) ∧ ∀ S' : XS, (wX o cs S').1 a = S'.2.2.1 a := by
  have key : ∀ T : XS, (wX o cs T).1 a = if a = o then some (.inr (1, rV lyX o (ovX o T.2.1) T.1)) else if o < a ∧ a - o < lyX.2.2.2.2.2 ∧ lArr (lKd lyX (lFld lyX (a - o))) = true then some (.inl (cs (lKd lyX (lFld lyX (a - o)) - 1), lLen lyX (lFld lyX (a - o)), .inl (T.1 (lFld lyX (a - o))))) else shP o cs T.1 T.2.2.1 a := fun T => rfl
  rw [key S] at h
  by_cases c1 : a = o
  · rw [if_pos c1] at h
    have := congrArg Prod.fst (Sum.inr.inj (Option.some.inj h))
    exact absurd this.symm h1
  · rw [if_neg c1] at h
    by_cases c2 : o < a ∧ a - o < lyX.2.2.2.2.2 ∧ lArr (lKd lyX (lFld lyX (a - o))) = true
    · rw [if_pos c2] at h
      cases h
    · rw [if_neg c2] at h
      unfold shP at h
      have no2 : ∀ s, some (.inr (2, shV o S.1 s)) = (some (.inr (ci, V)) : Option cE) → False := fun s q => h2 (congrArg Prod.fst (Sum.inr.inj (Option.some.inj q))).symm
      by_cases e24 : a = o + 24
      · rw [if_pos e24] at h; cases h
      · by_cases e25 : a = o + 25
        · rw [if_neg e24, if_pos e25] at h; exact (no2 _ h).elim
        · by_cases e26 : a = o + 26
          · rw [if_neg e24, if_neg e25, if_pos e26] at h; cases h
          · by_cases e27 : a = o + 27
            · rw [if_neg e24, if_neg e25, if_neg e26, if_pos e27] at h; exact (no2 _ h).elim
            · by_cases e28 : a = o + 28
              · rw [if_neg e24, if_neg e25, if_neg e26, if_neg e27, if_pos e28] at h; cases h
              · by_cases e29 : a = o + 29
                · rw [if_neg e24, if_neg e25, if_neg e26, if_neg e27, if_neg e28, if_pos e29] at h; exact (no2 _ h).elim
                · by_cases e30 : a = o + 30
                  · rw [if_neg e24, if_neg e25, if_neg e26, if_neg e27, if_neg e28, if_neg e29, if_pos e30] at h; cases h
                  · by_cases e31 : a = o + 31
                    · rw [if_neg e24, if_neg e25, if_neg e26, if_neg e27, if_neg e28, if_neg e29, if_neg e30, if_pos e31] at h; exact (no2 _ h).elim
                    · by_cases e32 : a = o + 32
                      · rw [if_neg e24, if_neg e25, if_neg e26, if_neg e27, if_neg e28, if_neg e29, if_neg e30, if_neg e31, if_pos e32] at h; cases h
                      · rw [if_neg e24, if_neg e25, if_neg e26, if_neg e27, if_neg e28, if_neg e29, if_neg e30, if_neg e31, if_neg e32] at h
                        refine ⟨h, fun S' => ?_⟩
                        rw [key S', if_neg c1, if_neg c2]
                        unfold shP
                        rw [if_neg e24, if_neg e25, if_neg e26, if_neg e27, if_neg e28, if_neg e29, if_neg e30, if_neg e31, if_neg e32]
/-- an object of Z stays in the world when Z stays -/
theorem wX_keep {o a : Nat} {cs : Nat → Nat} {S S' : XS} {ci : Nat} {V : Nat → Value} (h : (wX o cs S).1 a = some (.inr (ci, V))) (h1 : ci ≠ 1) (h2 : ci ≠ 2) (hz : ∀ e, S.2.2.1 a = some e → S'.2.2.1 a = some e) : (wX o cs S').1 a = some (.inr (ci, V)) := by
  obtain ⟨q1, q2⟩ := wX_obj h h1 h2
  rw [q2 S']
  exact hz _ q1
theorem nRep_keep {P P' : cP} (hP : ∀ (a ci : Nat) (V : Nat → Value), ci = 9 ∨ ci = 10 ∨ ci = 11 → P a = some (.inr (ci, V)) → P' a = some (.inr (ci, V))) : ∀ {n a : Nat} {l : List Nat}, nRep P n a l → nRep P' n a l
  | 0, _, _, h => h.elim
  | n + 1, a, l, h => by
    rcases h with ⟨v, hv, e, hZ⟩ | ⟨k, hk, e, hZ⟩ | ⟨x, l1, e, hZ, h1⟩ | ⟨x, l1, e, hZ, h1⟩ | ⟨c, x, y, l1, l2, hc, e, hZ, h1, h2⟩
    · exact Or.inl ⟨v, hv, e, hP _ _ _ (by decide) hZ⟩
    · exact Or.inr (Or.inl ⟨k, hk, e, hP _ _ _ (by decide) hZ⟩)
    · exact Or.inr (Or.inr (Or.inl ⟨x, l1, e, hP _ _ _ (by decide) hZ, nRep_keep hP h1⟩))
    · exact Or.inr (Or.inr (Or.inr (Or.inl ⟨x, l1, e, hP _ _ _ (by decide) hZ, nRep_keep hP h1⟩)))
    · exact Or.inr (Or.inr (Or.inr (Or.inr ⟨c, x, y, l1, l2, hc, e, hP _ _ _ (by decide) hZ, nRep_keep hP h1, nRep_keep hP h2⟩)))
/-- nodes stay when Z grows or stays -/
theorem nRep_X {o : Nat} {cs : Nat → Nat} {S S' : XS} (hz : ∀ a e, S.2.2.1 a = some e → S'.2.2.1 a = some e) {n a : Nat} {l : List Nat} (h : nRep (wX o cs S).1 n a l) : nRep (wX o cs S').1 n a l :=
  nRep_keep (fun a ci V hc hV => wX_keep hV (by omega) (by omega) (hz a)) h
