/-! worlds that know less: wLe w w' (each cell of w' is one of w, an object's fields alike as far as it has fields) -/
set_option maxRecDepth 100000
def cLe (x y : cE) : Prop := x = y ∨ ∃ (ci : Nat) (V V' : Nat → Value) (r : vw_C), x = .inr (ci, V) ∧ y = .inr (ci, V') ∧ clC[ci]? = some r ∧ ∀ k, k < r.2.2 → V k = V' k
def wLe (w w' : cW) : Prop := w'.2 = w.2 ∧ ∀ (a : Nat) (y : cE), w'.1 a = some y → ∃ x, w.1 a = some x ∧ cLe x y
theorem wLe.rf {w : cW} : wLe w w := ⟨rfl, fun a y h => ⟨y, h, Or.inl rfl⟩⟩
theorem cLe.tr {x y z : cE} (h1 : cLe x y) (h2 : cLe y z) : cLe x z := by
  rcases h1 with rfl | ⟨ci, V, V', r, rfl, rfl, h3, h4⟩
  · exact h2
  · rcases h2 with rfl | ⟨ci2, V2, V2', r2, e1, rfl, h5, h6⟩
    · exact Or.inr ⟨ci, V, V', r, rfl, rfl, h3, h4⟩
    · cases e1
      rw [h3] at h5
      cases h5
      exact Or.inr ⟨ci, V, V2', r, rfl, rfl, h3, fun k hk => (h4 k hk).trans (h6 k hk)⟩
theorem wLe.tr {w w' w2 : cW} (h1 : wLe w w') (h2 : wLe w' w2) : wLe w w2 := ⟨h2.1.trans h1.1, fun a z hz => by
  obtain ⟨y, hy, e1⟩ := h2.2 a z hz
  obtain ⟨x, hx, e2⟩ := h1.2 a y hy
  exact ⟨x, hx, e2.tr e1⟩⟩
theorem GW.le {D : va_G} {b : Nat} {w w' : cW} {H : Heap} (h : wLe w w') (hG : GW D clC b w H) : GW D clC b w' H := by
  obtain ⟨e, h⟩ := h
  obtain ⟨g1, g2, g3, g4⟩ := hG
  refine ⟨by rw [e]; exact g1, by rw [e]; exact g2, by rw [e]; exact g3, fun a y hy => ?_⟩
  obtain ⟨x, hx, hxy⟩ := h a y hy
  refine ⟨(g4 a x hx).1, ?_⟩
  rcases hxy with rfl | ⟨ci, V, V', r, rfl, rfl, h3, h4⟩
  · exact (g4 a x hx).2
  · obtain ⟨r', h5, cell, h6, h7, h8, h9⟩ := (g4 a _ hx).2
    rw [h3] at h5
    cases h5
    exact ⟨r, h3, cell, h6, h7, h8, fun k hk => by rw [h9 k hk]; exact congrArg some (h4 k hk)⟩
theorem ag_le {p : Program} {l : Launch} {e : Env} {R : Room} {s : State} {m : MethodId} {args : Array Value} {below : List Frame} {meth : Method} {c : Code} {D : va_G} {b nL pc : Nat} {Q : State → Prop} {lv : List (Nat × Value)} {st : List Value} {w w' : cW} (h : wLe w w') (kk : AG p l e R s m args below meth c D clC b nL Q pc lv st w') : AG p l e R s m args below meth c D clC b nL Q pc lv st w := fun H locs ls hG hS hl => kk H locs ls (hG.le h) hS hl
theorem wNew_o {w : cW} {x : cE} {n a : Nat} (h : a < w.2.1) : (wNew w x n).1 a = w.1 a := by
  have : a ≠ w.2.1 := Nat.ne_of_lt h
  simp [wNew, updP, this]
