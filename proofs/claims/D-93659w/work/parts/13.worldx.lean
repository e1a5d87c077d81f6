/-! THE CLASS's WORLD: its object, arrays, sheets; all else (list of givings, texts, what comes later, the reference) is the rest Z -/
set_option maxRecDepth 100000
def lyX : Lay := (1, [1, 1, 1, 1, 1, 1, 0, 0, 1, 1, 0, 4, 1, 0, 1, 0, 0, 0, 4, 2, 2, 0, 4, 1, 0, 0, 2, 1, 0, 1, 1, 1, 1, 1, 0, 0, 0, 0, 4, 0, 2, 0, 4], [1, 2, 3, 4, 5, 6, 0, 0, 7, 8, 0, 0, 10, 0, 11, 0, 0, 0, 0, 12, 13, 0, 0, 14, 0, 0, 15, 16, 0, 17, 18, 19, 20, 21, 0, 0, 0, 0, 0, 0, 23, 0, 0], [99, 0, 1, 2, 3, 4, 5, 8, 9, 99, 12, 14, 19, 20, 23, 26, 27, 29, 30, 31, 32, 33, 99, 40, 99, 99, 99, 99, 99, 99, 99, 99, 99], [6, 6, 6, 6, 36, 36, 0, 0, 10, 10, 0, 0, 6, 0, 6, 0, 0, 0, 0, 6, 6, 0, 0, 1764, 0, 0, 6, 1968, 0, 7, 6, 6, 6, 36, 0, 0, 0, 0, 0, 0, 160, 0, 0], 33)
theorem lyX_ok : lOk lyX = true := by decide +kernel
/-- the class's state: whole numbers (rows: 99 the object's fields; k an array field; 60+s sheet s: sort, size; 70+s its cells), keptWorth, from; the rest of the world, its size, its slots -/
abbrev XR : Type := (Int64 × Option Nat) × cP × Nat × Nat
abbrev XS : Type := St × XR
def ovX (o : Nat) (L : Int64 × Option Nat) (k : Nat) : Value := if k = 18 then .long L.1 else if k = 22 then va_rf L.2 else if k = 11 then .ref (o + 9) else if k = 38 then .ref (o + 22) else .ref (o + 24)
def shV (o : Nat) (f : St) (s : Nat) (k : Nat) : Value := if k = 0 then .int (f (60 + s) 0) else if k = 1 then .int (f (60 + s) 1) else if k = 2 then .ref (o + 26 + 2 * s) else .null
def shP (o : Nat) (cs : Nat → ClassId) (f : St) (Z : cP) : cP := fun a =>
  if a = o + 24 then some (.inl (cs 7, 4, .inr (.inr (.inr (.inr (fun j => some (o + 25 + 2 * j)))))))
  else if a = o + 25 then some (.inr (2, shV o f 0)) else if a = o + 26 then some (.inl (cs 0, 40, .inl (f 70)))
  else if a = o + 27 then some (.inr (2, shV o f 1)) else if a = o + 28 then some (.inl (cs 0, 40, .inl (f 71)))
  else if a = o + 29 then some (.inr (2, shV o f 2)) else if a = o + 30 then some (.inl (cs 0, 40, .inl (f 72)))
  else if a = o + 31 then some (.inr (2, shV o f 3)) else if a = o + 32 then some (.inl (cs 0, 40, .inl (f 73)))
  else Z a
def pXP (o : Nat) (cs : Nat → ClassId) (S : XS) : cP := rP lyX o cs (ovX o S.2.1) S.1 (shP o cs S.1 S.2.2.1)
def wX (o : Nat) (cs : Nat → ClassId) (S : XS) : cW := (pXP o cs S, S.2.2.2.1, S.2.2.2.2)
theorem pX_obj {o : Nat} {cs : Nat → ClassId} {S : XS} : (wX o cs S).1 o = some (.inr (1, rV lyX o (ovX o S.2.1) S.1)) := by
  unfold wX pXP
  exact rP_obj
theorem pX_arr {o : Nat} {cs : Nat → ClassId} {S : XS} {k d : Nat} (hd : lKd lyX k = d) (hk : lArr d = true) (h60 : k < 60) : (wX o cs S).1 (o + lOff lyX k) = some (.inl (cs (d - 1), lLen lyX k, .inl (S.1 k))) := by
  subst hd
  unfold wX pXP
  exact rP_arr lyX_ok hk h60
theorem shV_congr {o : Nat} {f : St} {r i : Nat} {v : Int32} {s : Nat} (h : 60 + s ≠ r) : shV o (upd2 f r i v) s = shV o f s := by
  funext k
  simp [shV, upd2_n h]
theorem shP_congr {o : Nat} {cs : Nat → ClassId} {f : St} {Z : cP} {r i : Nat} {v : Int32} (h : r < 60 ∨ 80 ≤ r) : shP o cs (upd2 f r i v) Z = shP o cs f Z := by
  funext a
  simp only [shP, shV_congr (f := f) (i := i) (v := v) (show 60 + 0 ≠ r by omega), shV_congr (f := f) (i := i) (v := v) (show 60 + 1 ≠ r by omega), shV_congr (f := f) (i := i) (v := v) (show 60 + 2 ≠ r by omega), shV_congr (f := f) (i := i) (v := v) (show 60 + 3 ≠ r by omega), upd2_n (f := f) (i := i) (v := v) (show 70 ≠ r by omega), upd2_n (f := f) (i := i) (v := v) (show 71 ≠ r by omega), upd2_n (f := f) (i := i) (v := v) (show 72 ≠ r by omega), upd2_n (f := f) (i := i) (v := v) (show 73 ≠ r by omega)]
theorem pX_puti {o : Nat} {cs : Nat → ClassId} {S : XS} {k : Nat} {v : Int32} (hk : lKd lyX k = 0) : (updP (wX o cs S).1 o (.inr (1, updV (rV lyX o (ovX o S.2.1) S.1) k (.int v))), (wX o cs S).2) = wX o cs (upd2 S.1 99 k v, S.2) := by
  unfold wX pXP
  rw [shP_congr (Or.inr (by decide)), ← rP_puti hk (by decide)]
  rfl
theorem pX_puta {o : Nat} {cs : Nat → ClassId} {S : XS} {k d i : Nat} {v : Int32} (hd : lKd lyX k = d) (hk : lArr d = true) (h60 : k < 60) : (updP (wX o cs S).1 (o + lOff lyX k) (.inl (cs (d - 1), lLen lyX k, .inl (upd (S.1 k) i v))), (wX o cs S).2) = wX o cs (upd2 S.1 k i v, S.2) := by
  subst hd
  unfold wX pXP
  rw [shP_congr (Or.inl h60), ← rP_puta lyX_ok hk h60]
/-- a whole row anew -/
def updR (f : St) (r : Nat) (g : Nat → Int32) : St := fun a => if a = r then g else f a
theorem updR_s {f : St} {r : Nat} {g : Nat → Int32} : updR f r g r = g := by simp [updR]
theorem updR_n {f : St} {r a : Nat} {g : Nat → Int32} (h : a ≠ r) : updR f r g a = f a := by simp [updR, h]
abbrev xI (Q : Int32 → XS → Prop) : Option Value → XS → Prop := fun v S => ∃ r : Int32, v = some (.int r) ∧ Q r S
abbrev xJ (Q : Int64 → XS → Prop) : Option Value → XS → Prop := fun v S => ∃ r : Int64, v = some (.long r) ∧ Q r S
abbrev xV (Q : XS → Prop) : Option Value → XS → Prop := fun v S => v = none ∧ Q S
abbrev xR (Q : Nat → XS → Prop) : Option Value → XS → Prop := fun v S => ∃ r : Nat, v = some (.ref r) ∧ Q r S
def qX (o : Nat) (cs : Nat → ClassId) (Qp : Option Value → XS → Prop) : Option Value → cW → Prop := fun v w => ∃ S : XS, w = wX o cs S ∧ Qp v S
abbrev CX (l : Launch) (D : va_G) (cs : Nat → ClassId) (b : Nat) (H0 : Heap) (XK : State → Prop) (o : Nat) (y : MethodName) (cc : ByteArray) (nL : Nat) (ret : Option FieldType) (fr lo : Nat) (av : List Value) (S : XS) (Qp : Option Value → XS → Prop) : Prop := CON l D clC (tysC cs) b H0 XK y cc nL ret fr lo av (wX o cs S) (qX o cs Qp)
abbrev AX (p : Program) (l : Launch) (e : Env) (R : Room) (s : State) (m : MethodId) (args : Array Value) (below : List Frame) (meth : Method) (c : Code) (D : va_G) (cs : Nat → ClassId) (b nL o : Nat) (z0 u0 : Nat) (Qp : Option Value → XS → Prop) (pc : Nat) (lv : List (Nat × Value)) (st : List Value) (S : XS) : Prop :=
  AG p l e R s m args below meth c D clC b nL (MQ below (QX D clC b (qX o cs Qp)) args s (b + cB - z0) (sB - u0) (fun q => b ≤ q)) pc lv st (wX o cs S)
abbrev EX (p : Program) (R : Room) (s : State) (m : MethodId) (args : Array Value) (meth : Method) (c : Code) (cc : ByteArray) (nL : Nat) (own : String) (ret : Option FieldType) (D : va_G) (cs : Nat → ClassId) (b : Nat) (H0 : Heap) (XK : State → Prop) (hh : List (Nat × Nat × Nat × Nat)) (fr lo z u : Nat) : Prop := EE p R s m args meth c cc nL own ret D clC (tysC cs) b H0 XK hh fr lo ∧ s.heap.size = z ∧ us b s.heap = u
theorem vb_nar {r : Int32} : narrow .byte (.int (i_b r)) = .int (i_b r) := pk_nb r
theorem vb_vp {r : Int32} : vp_nar .byte (i_b r) = i_b r := pk_vb r
section AXR
variable {p : Program} {l : Launch} {e : Env} {R : Room} {s : State} {m : MethodId} {args : Array Value} {below : List Frame} {meth : Method} {c : Code} {D : va_G} {cs : Nat → ClassId} {b nL fr lo o z u : Nat} {H0 : Heap} {XK : State → Prop} {hh : List (Nat × Nat × Nat × Nat)} {cc : ByteArray} {ret : Option FieldType} {Qp : Option Value → XS → Prop} {pc : Nat} {lv : List (Nat × Value)} {rest : List Value} {S : XS} {own : String}
theorem ax_geti (E : EX p R s m args meth c cc nL RX0 ret D cs b H0 XK hh fr lo z u) (k : Nat) {index : Nat} (hk : k < 43) (h0 : lKd lyX k = 0) (hlink : Cond.fieldLink RX0 index (TX0 k).1 (TX0 k).2.1 (TX0 k).2.2.1 ∈ lw_all) (hdg : decode cc pc = .ok (.getfield index, 3)) (kk : AX p l e R s m args below meth c D cs b nL o z u Qp (pc + 3) lv (.int (S.1 99 k) :: rest) S) : AX p l e R s m args below meth c D cs b nL o z u Qp pc lv (.ref o :: rest) S :=
  ag_get E.1 (ci := 1) (C := RX0) (T := TX0) (N := 43) (k := k) rfl in_X0 hk hlink (fun _ h => h) hdg pX_obj (by simp [rV, h0]) kk
theorem ax_geta (E : EX p R s m args meth c cc nL RX0 ret D cs b H0 XK hh fr lo z u) (k : Nat) {index i : Nat} (hk : k < 43) (h0 : lArr (lKd lyX k) = true) (hi : lOff lyX k = i) (hlink : Cond.fieldLink RX0 index (TX0 k).1 (TX0 k).2.1 (TX0 k).2.2.1 ∈ lw_all) (hdg : decode cc pc = .ok (.getfield index, 3)) (kk : AX p l e R s m args below meth c D cs b nL o z u Qp (pc + 3) lv (.ref (o + i) :: rest) S) : AX p l e R s m args below meth c D cs b nL o z u Qp pc lv (.ref o :: rest) S :=
  ag_get E.1 (ci := 1) (C := RX0) (T := TX0) (N := 43) (k := k) rfl in_X0 hk hlink (fun _ h => h) hdg pX_obj (by rw [← hi]; unfold rV; rw [if_neg (fun h => by rw [h] at h0; cases h0), if_pos h0]) kk
theorem ax_geto (E : EX p R s m args meth c cc nL RX0 ret D cs b H0 XK hh fr lo z u) (k : Nat) {index i : Nat} (hk : k < 43) (h0 : lKd lyX k = 4) (hi : ∀ L, ovX o L k = .ref (o + i)) (hlink : Cond.fieldLink RX0 index (TX0 k).1 (TX0 k).2.1 (TX0 k).2.2.1 ∈ lw_all) (hdg : decode cc pc = .ok (.getfield index, 3)) (kk : AX p l e R s m args below meth c D cs b nL o z u Qp (pc + 3) lv (.ref (o + i) :: rest) S) : AX p l e R s m args below meth c D cs b nL o z u Qp pc lv (.ref o :: rest) S :=
  ag_get E.1 (ci := 1) (C := RX0) (T := TX0) (N := 43) (k := k) rfl in_X0 hk hlink (fun _ h => h) hdg pX_obj (by unfold rV; rw [h0, if_neg (by decide), if_neg (by decide), hi]) kk
theorem ax_getl (E : EX p R s m args meth c cc nL RX0 ret D cs b H0 XK hh fr lo z u) {index : Nat} (hlink : Cond.fieldLink RX0 index (TX0 18).1 (TX0 18).2.1 (TX0 18).2.2.1 ∈ lw_all) (hdg : decode cc pc = .ok (.getfield index, 3)) (kk : AX p l e R s m args below meth c D cs b nL o z u Qp (pc + 3) lv (.long S.2.1.1 :: rest) S) : AX p l e R s m args below meth c D cs b nL o z u Qp pc lv (.ref o :: rest) S :=
  ag_get E.1 (ci := 1) (C := RX0) (T := TX0) (N := 43) (k := 18) rfl in_X0 (by decide) hlink (fun _ h => h) hdg pX_obj rfl kk
theorem ax_getfrom (E : EX p R s m args meth c cc nL RX0 ret D cs b H0 XK hh fr lo z u) {index : Nat} {a : Nat} (ha : S.2.1.2 = some a) (hlink : Cond.fieldLink RX0 index (TX0 22).1 (TX0 22).2.1 (TX0 22).2.2.1 ∈ lw_all) (hdg : decode cc pc = .ok (.getfield index, 3)) (kk : AX p l e R s m args below meth c D cs b nL o z u Qp (pc + 3) lv (.ref a :: rest) S) : AX p l e R s m args below meth c D cs b nL o z u Qp pc lv (.ref o :: rest) S :=
  ag_get E.1 (ci := 1) (C := RX0) (T := TX0) (N := 43) (k := 22) rfl in_X0 (by decide) hlink (fun _ h => h) hdg pX_obj (by show va_rf S.2.1.2 = _; rw [ha]; rfl) kk
theorem ax_puti (E : EX p R s m args meth c cc nL RX0 ret D cs b H0 XK hh fr lo z u) (k : Nat) {index : Nat} {v : Int32} (hk : k < 43) (h0 : lKd lyX k = 0) (hlink : Cond.fieldLink RX0 index (TX0 k).1 (TX0 k).2.1 (TX0 k).2.2.1 ∈ lw_all) (hfin : (TX0 k).2.2.2 = false) {ty : FieldType} (hd : parseFieldDescriptor (TX0 k).2.2.1 = some ty) (hn : narrow ty (.int v) = .int v) (hfit : fits ty (.int v) = true) (hdg : decode cc pc = .ok (.putfield index, 3)) (kk : ∀ S' : XS, S' = (upd2 S.1 99 k v, S.2) → AX p l e R s m args below meth c D cs b nL o z u Qp (pc + 3) lv rest S') : AX p l e R s m args below meth c D cs b nL o z u Qp pc lv (.int v :: .ref o :: rest) S :=
  ag_put E.1 (ci := 1) (C := RX0) (T := TX0) (N := 43) (k := k) tyX0 tyX0_ok nmX0 rfl in_X0 hk hlink (fun _ h => h) hfin hd hn hfit hdg pX_obj (by
    have K := kk _ rfl
    unfold AX at K
    rw [← pX_puti h0] at K
    exact K)
theorem ax_putl (E : EX p R s m args meth c cc nL RX0 ret D cs b H0 XK hh fr lo z u) {index : Nat} {v : Int64} (hlink : Cond.fieldLink RX0 index (TX0 18).1 (TX0 18).2.1 (TX0 18).2.2.1 ∈ lw_all) (hdg : decode cc pc = .ok (.putfield index, 3)) (kk : ∀ S' : XS, S' = (S.1, (v, S.2.1.2), S.2.2) → AX p l e R s m args below meth c D cs b nL o z u Qp (pc + 3) lv rest S') : AX p l e R s m args below meth c D cs b nL o z u Qp pc lv (.long v :: .ref o :: rest) S :=
  ag_put E.1 (ci := 1) (C := RX0) (T := TX0) (N := 43) (k := 18) (ty := .long) tyX0 tyX0_ok nmX0 rfl in_X0 (by decide) hlink (fun _ h => h) rfl (by decide +kernel) rfl rfl hdg pX_obj (by
    have K := kk _ rfl
    unfold AX at K
    have e : (updP (wX o cs S).1 o (.inr (1, updV (rV lyX o (ovX o S.2.1) S.1) 18 (.long v))), (wX o cs S).2) = wX o cs (S.1, (v, S.2.1.2), S.2.2) := by
      unfold wX pXP
      congr 1
      funext a
      by_cases ha : a = o
      · subst ha
        simp only [updP, rP, if_pos]
        congr 3
        funext j
        by_cases hj : j = 18
        · subst hj
          rfl
        · simp [updV, rV, ovX, hj]
      · simp [updP, rP, ha]
    rw [← e] at K
    exact K)
theorem ax_putfrom (E : EX p R s m args meth c cc nL RX0 ret D cs b H0 XK hh fr lo z u) {index : Nat} {v : Nat} (hlink : Cond.fieldLink RX0 index (TX0 22).1 (TX0 22).2.1 (TX0 22).2.2.1 ∈ lw_all) (hdg : decode cc pc = .ok (.putfield index, 3)) (kk : ∀ S' : XS, S' = (S.1, (S.2.1.1, some v), S.2.2) → AX p l e R s m args below meth c D cs b nL o z u Qp (pc + 3) lv rest S') : AX p l e R s m args below meth c D cs b nL o z u Qp pc lv (.ref v :: .ref o :: rest) S :=
  ag_put E.1 (ci := 1) (C := RX0) (T := TX0) (N := 43) (k := 22) (ty := .object "MarketDays$Giving") tyX0 tyX0_ok nmX0 rfl in_X0 (by decide) hlink (fun _ h => h) rfl (by decide +kernel) rfl rfl hdg pX_obj (by
    have K := kk _ rfl
    unfold AX at K
    have e : (updP (wX o cs S).1 o (.inr (1, updV (rV lyX o (ovX o S.2.1) S.1) 22 (.ref v))), (wX o cs S).2) = wX o cs (S.1, (S.2.1.1, some v), S.2.2) := by
      unfold wX pXP
      congr 1
      funext a
      by_cases ha : a = o
      · subst ha
        simp only [updP, rP, if_pos]
        congr 3
        funext j
        by_cases hj : j = 22
        · subst hj
          rfl
        · simp [updV, rV, ovX, hj]
      · simp [updP, rP, ha]
    rw [← e] at K
    exact K)
theorem ax_iald (E : EX p R s m args meth c cc nL own ret D cs b H0 XK hh fr lo z u) (k : Nat) {n j : Nat} {i : Int32} (h0 : lKd lyX k = 1) (hj : lOff lyX k = j) (hn : lLen lyX k = n) (h60 : k < 60) (hin : vp_in i n) (hdg : decode cc pc = .ok (.iaload, 1)) (kk : AX p l e R s m args below meth c D cs b nL o z u Qp (pc + 1) lv (.int (S.1 k i.toNatClampNeg) :: rest) S) : AX p l e R s m args below meth c D cs b nL o z u Qp pc lv (.int i :: .ref (o + j) :: rest) S := by
  subst hj; subst hn
  refine ag_iald E.1 (t0 := 0) (f := S.1 k) (cA := cs 0) (pX_arr h0 rfl h60) rfl hin hdg kk
theorem ax_bald (E : EX p R s m args meth c cc nL own ret D cs b H0 XK hh fr lo z u) (k : Nat) {n j : Nat} {i : Int32} (h0 : lKd lyX k = 2) (hj : lOff lyX k = j) (hn : lLen lyX k = n) (h60 : k < 60) (hin : vp_in i n) (hdg : decode cc pc = .ok (.baload, 1)) (kk : AX p l e R s m args below meth c D cs b nL o z u Qp (pc + 1) lv (.int (S.1 k i.toNatClampNeg) :: rest) S) : AX p l e R s m args below meth c D cs b nL o z u Qp pc lv (.int i :: .ref (o + j) :: rest) S := by
  subst hj; subst hn
  refine ag_bald E.1 (t0 := 1) (f := S.1 k) (cA := cs 1) (pX_arr h0 rfl h60) rfl hin hdg kk
theorem ax_iast (E : EX p R s m args meth c cc nL own ret D cs b H0 XK hh fr lo z u) (k : Nat) {n j : Nat} {i x : Int32} (h0 : lKd lyX k = 1) (hj : lOff lyX k = j) (hn : lLen lyX k = n) (h60 : k < 60) (hin : vp_in i n) (hdg : decode cc pc = .ok (.iastore, 1)) (kk : ∀ S' : XS, S' = (upd2 S.1 k i.toNatClampNeg x, S.2) → AX p l e R s m args below meth c D cs b nL o z u Qp (pc + 1) lv rest S') : AX p l e R s m args below meth c D cs b nL o z u Qp pc lv (.int x :: .int i :: .ref (o + j) :: rest) S := by
  subst hj; subst hn
  refine ag_iast E.1 (t0 := 0) (f := S.1 k) (cA := cs 0) (pX_arr h0 rfl h60) rfl hin hdg ?_
  have K := kk _ rfl
  unfold AX at K
  rw [← pX_puta h0 rfl h60] at K
  exact K
theorem ax_bast (E : EX p R s m args meth c cc nL own ret D cs b H0 XK hh fr lo z u) (k : Nat) {n j : Nat} {i x : Int32} (h0 : lKd lyX k = 2) (hj : lOff lyX k = j) (hn : lLen lyX k = n) (h60 : k < 60) (hin : vp_in i n) (hdg : decode cc pc = .ok (.bastore, 1)) (kk : ∀ S' : XS, S' = (upd2 S.1 k i.toNatClampNeg (vp_nar .byte x), S.2) → AX p l e R s m args below meth c D cs b nL o z u Qp (pc + 1) lv rest S') : AX p l e R s m args below meth c D cs b nL o z u Qp pc lv (.int x :: .int i :: .ref (o + j) :: rest) S := by
  subst hj; subst hn
  refine ag_bast E.1 (t0 := 1) (f := S.1 k) (cA := cs 1) (pX_arr h0 rfl h60) rfl hin hdg ?_
  have K := kk _ rfl
  unfold AX at K
  rw [← pX_puta h0 rfl h60] at K
  exact K
theorem ax_iret (E : EX p R s m args meth c cc nL own ret D cs b H0 XK hh fr lo z u) {r : Int32} (hret : ret = some .int) (hq : Qp (some (.int r)) S) (hdg : decode cc pc = .ok (.ireturn, 1)) : AX p l e R s m args below meth c D cs b nL o z u Qp pc lv [.int r] S := ag_iret hret E.1.2.2.2.2.2.1 E.1 (w0 := ((wX o cs S).1, z, u)) E.2 ⟨S, rfl, hq⟩ hdg
theorem ax_zret (E : EX p R s m args meth c cc nL own ret D cs b H0 XK hh fr lo z u) {r : Int32} (hret : ret = some .boolean) (hr : vz r) (hq : Qp (some (.int r)) S) (hdg : decode cc pc = .ok (.ireturn, 1)) : AX p l e R s m args below meth c D cs b nL o z u Qp pc lv [.int r] S := ag_zret hret (vz_nar hr) E.1.2.2.2.2.2.1 E.1 (w0 := ((wX o cs S).1, z, u)) E.2 ⟨S, rfl, hq⟩ hdg
theorem ax_lret (E : EX p R s m args meth c cc nL own ret D cs b H0 XK hh fr lo z u) {r : Int64} (hret : ret = some .long) (hq : Qp (some (.long r)) S) (hdg : decode cc pc = .ok (.lreturn, 1)) : AX p l e R s m args below meth c D cs b nL o z u Qp pc lv [.long r] S := ag_lret hret E.1.2.2.2.2.2.1 E.1 (w0 := ((wX o cs S).1, z, u)) E.2 ⟨S, rfl, hq⟩ hdg
theorem ax_vret (E : EX p R s m args meth c cc nL own ret D cs b H0 XK hh fr lo z u) (hret : ret = none) (hq : Qp none S) (hdg : decode cc pc = .ok (.return_, 1)) : AX p l e R s m args below meth c D cs b nL o z u Qp pc lv [] S := ag_vret hret E.1.2.2.2.2.2.1 E.1 (w0 := ((wX o cs S).1, z, u)) E.2 ⟨S, rfl, hq⟩ hdg
theorem ax_callVi (E : EX p R s m args meth c cc nL own ret D cs b H0 XK hh fr lo z u) {index n fr2 lo2 : Nat} {y : MethodName} {bytes : ByteArray} {maxL : Nat} {ret2 : Option FieldType} (As : List Value) {Q2 : Int32 → XS → Prop} (hcon : CX l D cs b H0 XK o y bytes maxL ret2 fr2 lo2 (.ref o :: As) S (xI Q2)) (hG0 : GoodIn lw_all (wsV own index RX0 y (ws_ y bytes maxL ret2))) (hd : y.cls = RX0 ∧ y.cls ≠ "java/lang/invoke/MethodHandle" ∧ y.cls ≠ "java/lang/invoke/VarHandle" ∧ (parseMethodDescriptor y.desc).map (fun d => d.parameters.length) = some n) (hfr : fr2 + 1 ≤ fr) (hlo : 8 + (maxL + 11) + lo2 ≤ lo) (hn : As.length = n) (hst : (rest.map fun v => v.category).sum ≤ 8) (hdg : decode cc pc = .ok (.invokevirtual index, 3)) {st0 : List Value} (hst0 : st0 = As.reverse ++ .ref o :: rest) (kk : ∀ (r : Int32) (S' : XS), Q2 r S' → AX p l e R s m args below meth c D cs b nL o z u Qp (pc + 3) lv (.int r :: rest) S') : AX p l e R s m args below meth c D cs b nL o z u Qp pc lv st0 S :=
  ag_callV E.1 (ci := 1) (T0 := TX0) (n2 := 43) pX_obj rfl hcon hG0 hd hfr hlo hn hst hdg (fun v w' hv => by obtain ⟨S', rfl, r, rfl, hq⟩ := hv; exact kk r S' hq) hst0
theorem ax_callSi (E : EX p R s m args meth c cc nL own ret D cs b H0 XK hh fr lo z u) {index n fr2 lo2 : Nat} {y : MethodName} {bytes : ByteArray} {maxL : Nat} {ret2 : Option FieldType} (As : List Value) {Q2 : Int32 → XS → Prop} (hcon : CX l D cs b H0 XK o y bytes maxL ret2 fr2 lo2 As S (xI Q2)) (hG0 : GoodIn lw_all (va_wsS own index y (ws_ y bytes maxL ret2))) (hd : y.cls ≠ "java/lang/invoke/MethodHandle" ∧ y.cls ≠ "java/lang/invoke/VarHandle" ∧ (parseMethodDescriptor y.desc).map (fun d => d.parameters.length) = some n) (hfr : fr2 + 1 ≤ fr) (hlo : 8 + (maxL + 11) + lo2 ≤ lo) (hn : As.length = n) (hst : (rest.map fun v => v.category).sum ≤ 8) (hdg : decode cc pc = .ok (.invokestatic index, 3)) {st0 : List Value} (hst0 : st0 = As.reverse ++ rest) (kk : ∀ (r : Int32) (S' : XS), Q2 r S' → AX p l e R s m args below meth c D cs b nL o z u Qp (pc + 3) lv (.int r :: rest) S') : AX p l e R s m args below meth c D cs b nL o z u Qp pc lv st0 S :=
  ag_callS E.1 hcon hG0 hd hfr hlo hn hst hdg (fun v w' hv => by obtain ⟨S', rfl, r, rfl, hq⟩ := hv; exact kk r S' hq) hst0
theorem ax_callVl (E : EX p R s m args meth c cc nL own ret D cs b H0 XK hh fr lo z u) {index n fr2 lo2 : Nat} {y : MethodName} {bytes : ByteArray} {maxL : Nat} {ret2 : Option FieldType} (As : List Value) {Q2 : Int64 → XS → Prop} (hcon : CX l D cs b H0 XK o y bytes maxL ret2 fr2 lo2 (.ref o :: As) S (xJ Q2)) (hG0 : GoodIn lw_all (wsV own index RX0 y (ws_ y bytes maxL ret2))) (hd : y.cls = RX0 ∧ y.cls ≠ "java/lang/invoke/MethodHandle" ∧ y.cls ≠ "java/lang/invoke/VarHandle" ∧ (parseMethodDescriptor y.desc).map (fun d => d.parameters.length) = some n) (hfr : fr2 + 1 ≤ fr) (hlo : 8 + (maxL + 11) + lo2 ≤ lo) (hn : As.length = n) (hst : (rest.map fun v => v.category).sum ≤ 8) (hdg : decode cc pc = .ok (.invokevirtual index, 3)) {st0 : List Value} (hst0 : st0 = As.reverse ++ .ref o :: rest) (kk : ∀ (r : Int64) (S' : XS), Q2 r S' → AX p l e R s m args below meth c D cs b nL o z u Qp (pc + 3) lv (.long r :: rest) S') : AX p l e R s m args below meth c D cs b nL o z u Qp pc lv st0 S :=
  ag_callV E.1 (ci := 1) (T0 := TX0) (n2 := 43) pX_obj rfl hcon hG0 hd hfr hlo hn hst hdg (fun v w' hv => by obtain ⟨S', rfl, r, rfl, hq⟩ := hv; exact kk r S' hq) hst0
theorem ax_callSl (E : EX p R s m args meth c cc nL own ret D cs b H0 XK hh fr lo z u) {index n fr2 lo2 : Nat} {y : MethodName} {bytes : ByteArray} {maxL : Nat} {ret2 : Option FieldType} (As : List Value) {Q2 : Int64 → XS → Prop} (hcon : CX l D cs b H0 XK o y bytes maxL ret2 fr2 lo2 As S (xJ Q2)) (hG0 : GoodIn lw_all (va_wsS own index y (ws_ y bytes maxL ret2))) (hd : y.cls ≠ "java/lang/invoke/MethodHandle" ∧ y.cls ≠ "java/lang/invoke/VarHandle" ∧ (parseMethodDescriptor y.desc).map (fun d => d.parameters.length) = some n) (hfr : fr2 + 1 ≤ fr) (hlo : 8 + (maxL + 11) + lo2 ≤ lo) (hn : As.length = n) (hst : (rest.map fun v => v.category).sum ≤ 8) (hdg : decode cc pc = .ok (.invokestatic index, 3)) {st0 : List Value} (hst0 : st0 = As.reverse ++ rest) (kk : ∀ (r : Int64) (S' : XS), Q2 r S' → AX p l e R s m args below meth c D cs b nL o z u Qp (pc + 3) lv (.long r :: rest) S') : AX p l e R s m args below meth c D cs b nL o z u Qp pc lv st0 S :=
  ag_callS E.1 hcon hG0 hd hfr hlo hn hst hdg (fun v w' hv => by obtain ⟨S', rfl, r, rfl, hq⟩ := hv; exact kk r S' hq) hst0
theorem ax_callVv (E : EX p R s m args meth c cc nL own ret D cs b H0 XK hh fr lo z u) {index n fr2 lo2 : Nat} {y : MethodName} {bytes : ByteArray} {maxL : Nat} {ret2 : Option FieldType} (As : List Value) {Q2 : XS → Prop} (hcon : CX l D cs b H0 XK o y bytes maxL ret2 fr2 lo2 (.ref o :: As) S (xV Q2)) (hG0 : GoodIn lw_all (wsV own index RX0 y (ws_ y bytes maxL ret2))) (hd : y.cls = RX0 ∧ y.cls ≠ "java/lang/invoke/MethodHandle" ∧ y.cls ≠ "java/lang/invoke/VarHandle" ∧ (parseMethodDescriptor y.desc).map (fun d => d.parameters.length) = some n) (hfr : fr2 + 1 ≤ fr) (hlo : 8 + (maxL + 11) + lo2 ≤ lo) (hn : As.length = n) (hst : (rest.map fun v => v.category).sum ≤ 8) (hdg : decode cc pc = .ok (.invokevirtual index, 3)) {st0 : List Value} (hst0 : st0 = As.reverse ++ .ref o :: rest) (kk : ∀ (S' : XS), Q2 S' → AX p l e R s m args below meth c D cs b nL o z u Qp (pc + 3) lv rest S') : AX p l e R s m args below meth c D cs b nL o z u Qp pc lv st0 S :=
  ag_callV E.1 (ci := 1) (T0 := TX0) (n2 := 43) pX_obj rfl hcon hG0 hd hfr hlo hn hst hdg (fun v w' hv => by obtain ⟨S', rfl, rfl, hq⟩ := hv; exact kk S' hq) hst0
theorem ax_callSv (E : EX p R s m args meth c cc nL own ret D cs b H0 XK hh fr lo z u) {index n fr2 lo2 : Nat} {y : MethodName} {bytes : ByteArray} {maxL : Nat} {ret2 : Option FieldType} (As : List Value) {Q2 : XS → Prop} (hcon : CX l D cs b H0 XK o y bytes maxL ret2 fr2 lo2 As S (xV Q2)) (hG0 : GoodIn lw_all (va_wsS own index y (ws_ y bytes maxL ret2))) (hd : y.cls ≠ "java/lang/invoke/MethodHandle" ∧ y.cls ≠ "java/lang/invoke/VarHandle" ∧ (parseMethodDescriptor y.desc).map (fun d => d.parameters.length) = some n) (hfr : fr2 + 1 ≤ fr) (hlo : 8 + (maxL + 11) + lo2 ≤ lo) (hn : As.length = n) (hst : (rest.map fun v => v.category).sum ≤ 8) (hdg : decode cc pc = .ok (.invokestatic index, 3)) {st0 : List Value} (hst0 : st0 = As.reverse ++ rest) (kk : ∀ (S' : XS), Q2 S' → AX p l e R s m args below meth c D cs b nL o z u Qp (pc + 3) lv rest S') : AX p l e R s m args below meth c D cs b nL o z u Qp pc lv st0 S :=
  ag_callS E.1 hcon hG0 hd hfr hlo hn hst hdg (fun v w' hv => by obtain ⟨S', rfl, rfl, hq⟩ := hv; exact kk S' hq) hst0
theorem ax_callVr (E : EX p R s m args meth c cc nL own ret D cs b H0 XK hh fr lo z u) {index n fr2 lo2 : Nat} {y : MethodName} {bytes : ByteArray} {maxL : Nat} {ret2 : Option FieldType} (As : List Value) {Q2 : Nat → XS → Prop} (hcon : CX l D cs b H0 XK o y bytes maxL ret2 fr2 lo2 (.ref o :: As) S (xR Q2)) (hG0 : GoodIn lw_all (wsV own index RX0 y (ws_ y bytes maxL ret2))) (hd : y.cls = RX0 ∧ y.cls ≠ "java/lang/invoke/MethodHandle" ∧ y.cls ≠ "java/lang/invoke/VarHandle" ∧ (parseMethodDescriptor y.desc).map (fun d => d.parameters.length) = some n) (hfr : fr2 + 1 ≤ fr) (hlo : 8 + (maxL + 11) + lo2 ≤ lo) (hn : As.length = n) (hst : (rest.map fun v => v.category).sum ≤ 8) (hdg : decode cc pc = .ok (.invokevirtual index, 3)) {st0 : List Value} (hst0 : st0 = As.reverse ++ .ref o :: rest) (kk : ∀ (r : Nat) (S' : XS), Q2 r S' → AX p l e R s m args below meth c D cs b nL o z u Qp (pc + 3) lv (.ref r :: rest) S') : AX p l e R s m args below meth c D cs b nL o z u Qp pc lv st0 S :=
  ag_callV E.1 (ci := 1) (T0 := TX0) (n2 := 43) pX_obj rfl hcon hG0 hd hfr hlo hn hst hdg (fun v w' hv => by obtain ⟨S', rfl, r, rfl, hq⟩ := hv; exact kk r S' hq) hst0
theorem ax_callSr (E : EX p R s m args meth c cc nL own ret D cs b H0 XK hh fr lo z u) {index n fr2 lo2 : Nat} {y : MethodName} {bytes : ByteArray} {maxL : Nat} {ret2 : Option FieldType} (As : List Value) {Q2 : Nat → XS → Prop} (hcon : CX l D cs b H0 XK o y bytes maxL ret2 fr2 lo2 As S (xR Q2)) (hG0 : GoodIn lw_all (va_wsS own index y (ws_ y bytes maxL ret2))) (hd : y.cls ≠ "java/lang/invoke/MethodHandle" ∧ y.cls ≠ "java/lang/invoke/VarHandle" ∧ (parseMethodDescriptor y.desc).map (fun d => d.parameters.length) = some n) (hfr : fr2 + 1 ≤ fr) (hlo : 8 + (maxL + 11) + lo2 ≤ lo) (hn : As.length = n) (hst : (rest.map fun v => v.category).sum ≤ 8) (hdg : decode cc pc = .ok (.invokestatic index, 3)) {st0 : List Value} (hst0 : st0 = As.reverse ++ rest) (kk : ∀ (r : Nat) (S' : XS), Q2 r S' → AX p l e R s m args below meth c D cs b nL o z u Qp (pc + 3) lv (.ref r :: rest) S') : AX p l e R s m args below meth c D cs b nL o z u Qp pc lv st0 S :=
  ag_callS E.1 hcon hG0 hd hfr hlo hn hst hdg (fun v w' hv => by obtain ⟨S', rfl, r, rfl, hq⟩ := hv; exact kk r S' hq) hst0
theorem cx_of {y : MethodName} {av : List Value} (hy : plainName y.cls = true) (hn : (lg_sl av).length ≤ nL)
    (k : ∀ (p : Program) (e : Env) (R : Room) (s : State) (m : MethodId) (below : List Frame) (meth : Method) (c : Code), EX p R s m av.toArray meth c cc nL y.cls ret D cs b H0 XK [] fr lo S.2.2.2.1 S.2.2.2.2 → AX p l e R s m av.toArray below meth c D cs b nL o S.2.2.2.1 S.2.2.2.2 Qp 0 (lv_args 0 av) [] S) : CX l D cs b H0 XK o y cc nL ret fr lo av S Qp := by
  refine con_of hy hn (fun p e R s m below meth c E h0 _ => ?_)
  exact k p e R s m below meth c ⟨E, h0⟩
end AXR
