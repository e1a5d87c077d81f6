/-! the class's world: what lies outside its record (Z), whole rows anew, sheets -/
set_option maxRecDepth 100000
/-- an address of Z -/
def xF (o a : Nat) : Prop := a = o + 9 ∨ a = o + 22 ∨ a < o ∨ o + 33 ≤ a
theorem xF_ar {o a : Nat} (h : xF o a) : ¬ (o < a ∧ a - o < 33 ∧ lArr (lKd lyX (lFld lyX (a - o))) = true) := by
  rintro ⟨h1, h2, h3⟩
  rcases h with h | h | h | h
  · subst h
    rw [show o + 9 - o = 9 by omega] at h3
    exact absurd h3 (by decide)
  · subst h
    rw [show o + 22 - o = 22 by omega] at h3
    exact absurd h3 (by decide)
  · omega
  · omega
theorem xF_sh {o a : Nat} (h : xF o a) : ¬ a = o ∧ ¬ a = o + 24 ∧ ¬ a = o + 25 ∧ ¬ a = o + 26 ∧ ¬ a = o + 27 ∧ ¬ a = o + 28 ∧ ¬ a = o + 29 ∧ ¬ a = o + 30 ∧ ¬ a = o + 31 ∧ ¬ a = o + 32 := by
  rcases h with h | h | h | h <;> omega
theorem wX_at {o a : Nat} {cs : Nat → ClassId} {S : XS} (h : xF o a) : (wX o cs S).1 a = S.2.2.1 a := by
  obtain ⟨s0, s1, s2, s3, s4, s5, s6, s7, s8, s9⟩ := xF_sh h
  show rP lyX o cs (ovX o S.2.1) S.1 (shP o cs S.1 S.2.2.1) a = _
  unfold rP
  rw [if_neg s0, if_neg (show ¬ (o < a ∧ a - o < lyX.2.2.2.2.2 ∧ lArr (lKd lyX (lFld lyX (a - o))) = true) from xF_ar h)]
  simp only [shP, s1, s2, s3, s4, s5, s6, s7, s8, s9, if_false]
theorem wX_upd {o a : Nat} {cs : Nat → ClassId} {S : XS} {e : cE} (h : xF o a) : (updP (wX o cs S).1 a e, (wX o cs S).2) = wX o cs (S.1, S.2.1, updP S.2.2.1 a e, S.2.2.2) := by
  refine Prod.ext (funext fun q => ?_) rfl
  by_cases hq : q = a
  · subst hq
    rw [wX_at h]
    simp [updP]
  · show updP (wX o cs S).1 a e q = _
    rw [show updP (wX o cs S).1 a e q = (wX o cs S).1 q by simp [updP, hq]]
    show rP lyX o cs (ovX o S.2.1) S.1 (shP o cs S.1 S.2.2.1) q = rP lyX o cs (ovX o S.2.1) S.1 (shP o cs S.1 (updP S.2.2.1 a e)) q
    unfold rP
    have hz : updP S.2.2.1 a e q = S.2.2.1 q := by simp [updP, hq]
    simp only [shP, hz]
/-- one more cell, in Z -/
def xNew (S : XS) (e : cE) (n : Nat) : XS := (S.1, S.2.1, updP S.2.2.1 S.2.2.2.1 e, S.2.2.2.1 + 1, S.2.2.2.2 + n)
theorem wX_new {o : Nat} {cs : Nat → ClassId} {S : XS} {e : cE} {n : Nat} (h : xF o S.2.2.2.1) : wNew (wX o cs S) e n = wX o cs (xNew S e n) := by
  have := wX_upd (o := o) (cs := cs) (S := S) (e := e) h
  unfold wNew
  refine Prod.ext ?_ rfl
  show updP (wX o cs S).1 S.2.2.2.1 e = _
  exact (congrArg Prod.fst this : _)
theorem xNew_s {S : XS} {e : cE} {n : Nat} : (xNew S e n).2.2.1 S.2.2.2.1 = some e := by simp [xNew, updP]
/-- a whole array field anew -/
theorem updR_upd2 {f : St} {r : Nat} {g : Nat → Int32} {i : Nat} {v : Int32} (h : upd (f r) i v = g) : updR f r g = upd2 f r i v := by
  funext a
  by_cases ha : a = r
  · subst ha
    simp [updR, upd2, h]
  · simp [updR, upd2, ha]
theorem rP_row {o : Nat} {cs : Nat → ClassId} {ov : Nat → Value} {f : St} {Z : cP} {k : Nat} {g : Nat → Int32} (hk : lArr (lKd lyX k) = true) (h60 : k < 60) : updP (rP lyX o cs ov f Z) (o + lOff lyX k) (.inl (cs (lKd lyX k - 1), lLen lyX k, .inl g)) = rP lyX o cs ov (updR f k g) Z := by
  obtain ⟨h1, h2, h3⟩ := lOk_at lyX_ok hk h60
  funext a
  by_cases ha : a = o + lOff lyX k
  · rw [show updP (rP lyX o cs ov f Z) (o + lOff lyX k) (.inl (cs (lKd lyX k - 1), lLen lyX k, .inl g)) a = some (.inl (cs (lKd lyX k - 1), lLen lyX k, .inl g)) by simp [updP, ha]]
    rw [ha, rP_arr lyX_ok hk h60, updR_s]
  · rw [show updP (rP lyX o cs ov f Z) (o + lOff lyX k) (.inl (cs (lKd lyX k - 1), lLen lyX k, .inl g)) a = rP lyX o cs ov f Z a by simp [updP, ha]]
    by_cases ho : a = o
    · subst ho
      rw [rP_obj, rP_obj]
      congr 3
      funext j
      simp [rV, updR_n (show 99 ≠ k by omega)]
    · unfold rP
      rw [if_neg ho, if_neg ho]
      by_cases hc : o < a ∧ a - o < lyX.2.2.2.2.2 ∧ lArr (lKd lyX (lFld lyX (a - o))) = true
      · rw [if_pos hc, if_pos hc]
        by_cases hf : lFld lyX (a - o) = k
        · exfalso
          have h5 := lOk_inv lyX_ok hc.2.1 hc.2.2
          rw [hf] at h5
          exact ha (by omega)
        · rw [updR_n hf]
      · rw [if_neg hc, if_neg hc]
theorem shV_row {o : Nat} {f : St} {r : Nat} {g : Nat → Int32} {s : Nat} (h : 60 + s ≠ r) : shV o (updR f r g) s = shV o f s := by
  funext k
  simp [shV, updR_n h]
theorem shP_row {o : Nat} {cs : Nat → ClassId} {f : St} {Z : cP} {r : Nat} {g : Nat → Int32} (h : r < 60 ∨ 80 ≤ r) : shP o cs (updR f r g) Z = shP o cs f Z := by
  funext a
  simp only [shP, shV_row (f := f) (g := g) (show 60 + 0 ≠ r by omega), shV_row (f := f) (g := g) (show 60 + 1 ≠ r by omega), shV_row (f := f) (g := g) (show 60 + 2 ≠ r by omega), shV_row (f := f) (g := g) (show 60 + 3 ≠ r by omega), updR_n (f := f) (g := g) (show 70 ≠ r by omega), updR_n (f := f) (g := g) (show 71 ≠ r by omega), updR_n (f := f) (g := g) (show 72 ≠ r by omega), updR_n (f := f) (g := g) (show 73 ≠ r by omega)]
theorem wX_row {o : Nat} {cs : Nat → ClassId} {S : XS} {k d j n : Nat} {g : Nat → Int32} (hd : lKd lyX k = d) (hk : lArr d = true) (hj : lOff lyX k = j) (hn : lLen lyX k = n) (h60 : k < 60) : (updP (wX o cs S).1 (o + j) (.inl (cs (d - 1), n, .inl g)), (wX o cs S).2) = wX o cs (updR S.1 k g, S.2) := by
  subst hd; subst hj; subst hn
  unfold wX pXP
  rw [shP_row (Or.inl h60), ← rP_row hk h60]
theorem wX_arr {o : Nat} {cs : Nat → ClassId} {S : XS} {k d j n : Nat} (hd : lKd lyX k = d) (hk : lArr d = true) (hj : lOff lyX k = j) (hn : lLen lyX k = n) (h60 : k < 60) : (wX o cs S).1 (o + j) = some (.inl (cs (d - 1), n, .inl (S.1 k))) := by
  subst hj; subst hn
  exact pX_arr hd hk h60
/-! sheets -/
theorem wX_sheets {o : Nat} {cs : Nat → ClassId} {S : XS} : (wX o cs S).1 (o + 24) = some (.inl (cs 7, 4, .inr (.inr (.inr (.inr (fun j => some (o + 25 + 2 * j))))))) := by
  show rP lyX o cs (ovX o S.2.1) S.1 (shP o cs S.1 S.2.2.1) (o + 24) = _
  unfold rP
  rw [if_neg (by omega), if_neg (fun q => absurd q.2.2 (by rw [show o + 24 - o = 24 by omega]; decide))]
  simp [shP]
theorem wX_sheet {o : Nat} {cs : Nat → ClassId} {S : XS} {s : Nat} (hs : s < 4) : (wX o cs S).1 (o + 25 + 2 * s) = some (.inr (2, shV o S.1 s)) := by
  show rP lyX o cs (ovX o S.2.1) S.1 (shP o cs S.1 S.2.2.1) (o + 25 + 2 * s) = _
  unfold rP
  have : s = 0 ∨ s = 1 ∨ s = 2 ∨ s = 3 := by omega
  rcases this with h | h | h | h <;> subst h <;> (rw [if_neg (by omega), if_neg (fun q => absurd q.2.2 (by rw [show ∀ x, o + 25 + x - o = 25 + x by intro x; omega]; decide))]; simp [shP, Nat.add_assoc])
theorem wX_cells {o : Nat} {cs : Nat → ClassId} {S : XS} {s : Nat} (hs : s < 4) : (wX o cs S).1 (o + 26 + 2 * s) = some (.inl (cs 0, 40, .inl (S.1 (70 + s)))) := by
  show rP lyX o cs (ovX o S.2.1) S.1 (shP o cs S.1 S.2.2.1) (o + 26 + 2 * s) = _
  unfold rP
  have : s = 0 ∨ s = 1 ∨ s = 2 ∨ s = 3 := by omega
  rcases this with h | h | h | h <;> subst h <;> (rw [if_neg (by omega), if_neg (fun q => absurd q.2.2 (by rw [show ∀ x, o + 26 + x - o = 26 + x by intro x; omega]; decide))]; simp [shP, Nat.add_assoc])
theorem shP_putS {o : Nat} {cs : Nat → ClassId} {f : St} {Z : cP} {s k : Nat} {v : Int32} (hs : s < 4) {q : Nat} (hq : q ≠ o + 25 + 2 * s) : shP o cs (upd2 f (60 + s) k v) Z q = shP o cs f Z q := by
  have h7 : ∀ j, j < 4 → upd2 f (60 + s) k v (70 + j) = f (70 + j) := fun j hj => upd2_n (by omega)
  have hv : ∀ j, j ≠ s → shV o (upd2 f (60 + s) k v) j = shV o f j := fun j hj => shV_congr (by omega)
  have h70 := h7 0 (by omega); have h71 := h7 1 (by omega); have h72 := h7 2 (by omega); have h73 := h7 3 (by omega)
  simp only [Nat.add_zero] at h70
  have : s = 0 ∨ s = 1 ∨ s = 2 ∨ s = 3 := by omega
  unfold shP
  rcases this with h | h | h | h <;> subst h
  · rw [h70, h71, h72, h73, hv 1 (by omega), hv 2 (by omega), hv 3 (by omega), if_neg (show ¬ q = o + 25 by omega), if_neg (show ¬ q = o + 25 by omega)]
  · rw [h70, h71, h72, h73, hv 0 (by omega), hv 2 (by omega), hv 3 (by omega), if_neg (show ¬ q = o + 27 by omega), if_neg (show ¬ q = o + 27 by omega)]
  · rw [h70, h71, h72, h73, hv 0 (by omega), hv 1 (by omega), hv 3 (by omega), if_neg (show ¬ q = o + 29 by omega), if_neg (show ¬ q = o + 29 by omega)]
  · rw [h70, h71, h72, h73, hv 0 (by omega), hv 1 (by omega), hv 2 (by omega), if_neg (show ¬ q = o + 31 by omega), if_neg (show ¬ q = o + 31 by omega)]
theorem wX_putS {o : Nat} {cs : Nat → ClassId} {S : XS} {s k : Nat} {v : Int32} (hs : s < 4) (hk : k < 2) : (updP (wX o cs S).1 (o + 25 + 2 * s) (.inr (2, updV (shV o S.1 s) k (.int v))), (wX o cs S).2) = wX o cs (upd2 S.1 (60 + s) k v, S.2) := by
  refine Prod.ext (funext fun q => ?_) rfl
  by_cases hq : q = o + 25 + 2 * s
  · subst hq
    rw [wX_sheet hs]
    show updP (wX o cs S).1 (o + 25 + 2 * s) _ (o + 25 + 2 * s) = _
    rw [show updP (wX o cs S).1 (o + 25 + 2 * s) (.inr (2, updV (shV o S.1 s) k (.int v))) (o + 25 + 2 * s) = some (.inr (2, updV (shV o S.1 s) k (.int v))) by simp [updP]]
    congr 3
    funext j
    have : k = 0 ∨ k = 1 := by omega
    rcases this with h | h <;> subst h
    · by_cases hj : j = 0
      · subst hj; simp [updV, shV, upd2, upd]
      · simp [updV, shV, upd2, upd, hj]
    · by_cases hj : j = 1
      · subst hj; simp [updV, shV, upd2, upd]
      · simp [updV, shV, upd2, upd, hj]
  · show updP (wX o cs S).1 (o + 25 + 2 * s) _ q = _
    rw [show updP (wX o cs S).1 (o + 25 + 2 * s) (.inr (2, updV (shV o S.1 s) k (.int v))) q = (wX o cs S).1 q by simp [updP, hq]]
    show rP lyX o cs (ovX o S.2.1) S.1 (shP o cs S.1 S.2.2.1) q = rP lyX o cs (ovX o S.2.1) (upd2 S.1 (60 + s) k v) (shP o cs (upd2 S.1 (60 + s) k v) S.2.2.1) q
    by_cases ho : q = o
    · subst ho
      rw [rP_obj, rP_obj]
      congr 3
      funext j
      simp [rV, upd2_n (show 99 ≠ 60 + s by omega)]
    · rw [rP_congr (f := S.1) (f' := upd2 S.1 (60 + s) k v) q ho (fun j hj => (upd2_n (fun e => by
        subst e
        have : s = 0 ∨ s = 1 ∨ s = 2 ∨ s = 3 := by omega
        rcases this with h | h | h | h <;> subst h <;> exact absurd hj (by decide))).symm)]
      unfold rP
      rw [shP_putS hs hq]
