/-! the class's methods that may throw (there), or catch: ends, rows; a sheet's whole row anew -/
set_option maxRecDepth 100000
def qXx (o : Nat) (cs : Nat → ClassId) (Xp : Nat → XS → Prop) : Nat → cW → Prop := fun a w => ∃ S : XS, w = wX o cs S ∧ Xp a S
abbrev xH (o : Nat) (Q : Nat → XS → Prop) : Option Value → XS → Prop := fun v S => ∃ s : Nat, v = some (.ref (o + 25 + 2 * s)) ∧ Q s S
abbrev AXT (p : Program) (l : Launch) (e : Env) (R : Room) (s : State) (m : MethodId) (args : Array Value) (below : List Frame) (meth : Method) (c : Code) (D : va_G) (cs : Nat → ClassId) (b nL o : Nat) (z0 u0 : Nat) (Qp : Option Value → XS → Prop) (Xp : Nat → XS → Prop) (pc : Nat) (lv : List (Nat × Value)) (st : List Value) (S : XS) : Prop :=
  AG p l e R s m args below meth c D clC b nL (MQX below (QXX D clC b (qX o cs Qp) (qXx o cs Xp)) args s (b + cB - z0) (sB - u0) (fun q => b ≤ q)) pc lv st (wX o cs S)
abbrev CXT (l : Launch) (D : va_G) (cs : Nat → ClassId) (b : Nat) (H0 : Heap) (XK : State → Prop) (o : Nat) (y : MethodName) (cc : ByteArray) (nL : Nat) (ret : Option FieldType) (fr lo : Nat) (av : List Value) (S : XS) (Qp : Option Value → XS → Prop) (Xp : Nat → XS → Prop) : Prop := CONX l D clC (tysC cs) b H0 XK y cc nL ret fr lo av (wX o cs S) (qX o cs Qp) (qXx o cs Xp)
abbrev CXW (l : Launch) (D : va_G) (cs : Nat → ClassId) (b : Nat) (H0 : Heap) (XK : State → Prop) (o : Nat) (y : MethodName) (cc : ByteArray) (nL : Nat) (ret : Option FieldType) (hh : List (Nat × Nat × Nat × Nat)) (fr lo : Nat) (av : List Value) (S : XS) (Qp : Option Value → XS → Prop) : Prop := CONW l D clC (tysC cs) b H0 XK y cc nL ret hh fr lo av (wX o cs S) (qX o cs Qp) (fun _ _ => False)
section XZR
variable {p : Program} {l : Launch} {e : Env} {R : Room} {s : State} {m : MethodId} {args : Array Value} {below : List Frame} {meth : Method} {c : Code} {D : va_G} {cs : Nat → ClassId} {b nL fr lo z u o : Nat} {H0 : Heap} {XK : State → Prop} {hh : List (Nat × Nat × Nat × Nat)} {cc : ByteArray} {ret : Option FieldType} {pc : Nat} {lv : List (Nat × Value)} {rest : List Value} {own : String} {Q : State → Prop} {S : XS}
theorem ag_geto {tys : List (ClassId × FieldType)} (E : EE p R s m args meth c cc nL RX0 ret D clC tys b H0 XK hh fr lo) (k : Nat) {index i : Nat} (hk : k < 43) (h0 : lKd lyX k = 4) (hi : ∀ L, ovX o L k = .ref (o + i)) (hlink : Cond.fieldLink RX0 index (TX0 k).1 (TX0 k).2.1 (TX0 k).2.2.1 ∈ lw_all) (hdg : decode cc pc = .ok (.getfield index, 3)) (kk : AG p l e R s m args below meth c D clC b nL Q (pc + 3) lv (.ref (o + i) :: rest) (wX o cs S)) : AG p l e R s m args below meth c D clC b nL Q pc lv (.ref o :: rest) (wX o cs S) :=
  ag_get E (ci := 1) (C := RX0) (T := TX0) (N := 43) (k := k) rfl in_X0 hk hlink (fun _ h => h) hdg pX_obj (by unfold rV; rw [h0, if_neg (by decide), if_neg (by decide), hi]) kk
end XZR
theorem shP_rowC {o : Nat} {cs : Nat → ClassId} {f : St} {Z : cP} {s : Nat} {g : Nat → Int32} (hs : s < 4) {q : Nat} (hq : q ≠ o + 26 + 2 * s) : shP o cs (updR f (70 + s) g) Z q = shP o cs f Z q := by
  have h7 : ∀ j, j < 4 → j ≠ s → updR f (70 + s) g (70 + j) = f (70 + j) := fun j hj hn => updR_n (by omega)
  have hv : ∀ j, j < 4 → shV o (updR f (70 + s) g) j = shV o f j := fun j hj => shV_row (by omega)
  have : s = 0 ∨ s = 1 ∨ s = 2 ∨ s = 3 := by omega
  unfold shP
  rw [hv 0 (by omega), hv 1 (by omega), hv 2 (by omega), hv 3 (by omega)]
  rcases this with h | h | h | h <;> subst h
  · rw [h7 1 (by omega) (by omega), h7 2 (by omega) (by omega), h7 3 (by omega) (by omega), if_neg (show ¬ q = o + 26 by omega), if_neg (show ¬ q = o + 26 by omega)]
  · rw [show f 70 = f (70 + 0) from rfl, show updR f (70 + 1) g 70 = updR f (70 + 1) g (70 + 0) from rfl, h7 0 (by omega) (by omega), h7 2 (by omega) (by omega), h7 3 (by omega) (by omega), if_neg (show ¬ q = o + 28 by omega), if_neg (show ¬ q = o + 28 by omega)]
  · rw [show f 70 = f (70 + 0) from rfl, show updR f (70 + 2) g 70 = updR f (70 + 2) g (70 + 0) from rfl, h7 0 (by omega) (by omega), h7 1 (by omega) (by omega), h7 3 (by omega) (by omega), if_neg (show ¬ q = o + 30 by omega), if_neg (show ¬ q = o + 30 by omega)]
  · rw [show f 70 = f (70 + 0) from rfl, show updR f (70 + 3) g 70 = updR f (70 + 3) g (70 + 0) from rfl, h7 0 (by omega) (by omega), h7 1 (by omega) (by omega), h7 2 (by omega) (by omega), if_neg (show ¬ q = o + 32 by omega), if_neg (show ¬ q = o + 32 by omega)]
theorem wX_rowC {o : Nat} {cs : Nat → ClassId} {S : XS} {s : Nat} {g : Nat → Int32} (hs : s < 4) : (updP (wX o cs S).1 (o + 26 + 2 * s) (.inl (cs 0, 40, .inl g)), (wX o cs S).2) = wX o cs (updR S.1 (70 + s) g, S.2) := by
  refine Prod.ext (funext fun q => ?_) rfl
  by_cases hq : q = o + 26 + 2 * s
  · subst hq
    rw [wX_cells hs]
    simp [updP, updR]
  · show updP (wX o cs S).1 (o + 26 + 2 * s) _ q = _
    rw [show updP (wX o cs S).1 (o + 26 + 2 * s) (.inl (cs 0, 40, .inl g)) q = (wX o cs S).1 q by simp [updP, hq]]
    show rP lyX o cs (ovX o S.2.1) S.1 (shP o cs S.1 S.2.2.1) q = rP lyX o cs (ovX o S.2.1) (updR S.1 (70 + s) g) (shP o cs (updR S.1 (70 + s) g) S.2.2.1) q
    by_cases ho : q = o
    · subst ho
      rw [rP_obj, rP_obj]
      congr 3
      funext j
      simp [rV, updR_n (show 99 ≠ 70 + s by omega)]
    · rw [rP_congr (f := S.1) (f' := updR S.1 (70 + s) g) q ho (fun j hj => (updR_n (fun e => by
        subst e
        have : s = 0 ∨ s = 1 ∨ s = 2 ∨ s = 3 := by omega
        rcases this with h | h | h | h <;> subst h <;> exact absurd hj (by decide))).symm)]
      unfold rP
      rw [shP_rowC hs hq]
