/-! THE WORLD's LAYOUT: a record object and its arrays at fixed places behind it -/
set_option maxRecDepth 100000
abbrev St : Type := Nat → Nat → Int32
def upd2 (f : St) (r i : Nat) (v : Int32) : St := fun a => if a = r then upd (f r) i v else f a
theorem upd2_s {f : St} {r i : Nat} {v : Int32} : upd2 f r i v r = upd (f r) i v := by simp [upd2]
theorem upd2_n {f : St} {r i a : Nat} {v : Int32} (h : a ≠ r) : upd2 f r i v a = f a := by simp [upd2, h]
/-- a layout: class number, kinds of fields (0 a whole number; 1, 2, 3 an array of int, byte, boolean; 4 else), the array's place, the place's field, the array's length, number of places -/
abbrev Lay : Type := Nat × (List Nat) × (List Nat) × (List Nat) × (List Nat) × Nat
def lKd (L : Lay) (k : Nat) : Nat := L.2.1.getD k 4
def lOff (L : Lay) (k : Nat) : Nat := L.2.2.1.getD k 0
def lFld (L : Lay) (i : Nat) : Nat := L.2.2.2.1.getD i 99
def lLen (L : Lay) (k : Nat) : Nat := L.2.2.2.2.1.getD k 0
def lArr (k : Nat) : Bool := k == 1 || k == 2 || k == 3
def lOk (L : Lay) : Bool := ((List.range 60).all fun k => !(lArr (lKd L k)) || (lOff L k != 0 && decide (lOff L k < L.2.2.2.2.2) && lFld L (lOff L k) == k)) && (List.range L.2.2.2.2.2).all fun i => !(lArr (lKd L (lFld L i))) || lOff L (lFld L i) == i
def rV (L : Lay) (o : Nat) (ov : Nat → Value) (f : St) (k : Nat) : Value := if lKd L k = 0 then .int (f 99 k) else if lArr (lKd L k) = true then .ref (o + lOff L k) else ov k
def rP (L : Lay) (o : Nat) (cs : Nat → ClassId) (ov : Nat → Value) (f : St) (Z : cP) : cP := fun a => if a = o then some (.inr (L.1, rV L o ov f)) else if o < a ∧ a - o < L.2.2.2.2.2 ∧ lArr (lKd L (lFld L (a - o))) = true then some (.inl (cs (lKd L (lFld L (a - o)) - 1), lLen L (lFld L (a - o)), .inl (f (lFld L (a - o))))) else Z a
theorem rP_obj {L : Lay} {o : Nat} {cs : Nat → ClassId} {ov : Nat → Value} {f : St} {Z : cP} : rP L o cs ov f Z o = some (.inr (L.1, rV L o ov f)) := by simp [rP]
theorem lOk_at {L : Lay} (h : lOk L = true) {k : Nat} (hk : lArr (lKd L k) = true) (h60 : k < 60) : 0 < lOff L k ∧ lOff L k < L.2.2.2.2.2 ∧ lFld L (lOff L k) = k := by
  unfold lOk at h
  have h1 := List.all_eq_true.mp (Bool.and_eq_true_iff.mp h).1 k (List.mem_range.mpr h60)
  simp [hk] at h1
  exact ⟨Nat.pos_of_ne_zero h1.1.1, h1.1.2, h1.2⟩
theorem lOk_inv {L : Lay} (h : lOk L = true) {i : Nat} (hi : i < L.2.2.2.2.2) (hk : lArr (lKd L (lFld L i)) = true) : lOff L (lFld L i) = i := by
  unfold lOk at h
  have h1 := List.all_eq_true.mp (Bool.and_eq_true_iff.mp h).2 i (List.mem_range.mpr hi)
  simpa [hk] using h1
theorem rP_arr {L : Lay} {o : Nat} {cs : Nat → ClassId} {ov : Nat → Value} {f : St} {Z : cP} (h : lOk L = true) {k : Nat} (hk : lArr (lKd L k) = true) (h60 : k < 60) : rP L o cs ov f Z (o + lOff L k) = some (.inl (cs (lKd L k - 1), lLen L k, .inl (f k))) := by
  obtain ⟨h1, h2, h3⟩ := lOk_at h hk h60
  unfold rP
  rw [if_neg (by omega), Nat.add_sub_cancel_left, h3, if_pos ⟨by omega, h2, hk⟩]
theorem rV_puti {L : Lay} {o : Nat} {ov : Nat → Value} {f : St} {k : Nat} {v : Int32} (hk : lKd L k = 0) : updV (rV L o ov f) k (.int v) = rV L o ov (upd2 f 99 k v) := by
  funext j
  by_cases hj : j = k
  · subst hj
    simp [updV, rV, hk, upd2, upd]
  · simp [updV, rV, hj, upd2, upd]
theorem rP_congr {L : Lay} {o : Nat} {cs : Nat → ClassId} {ov : Nat → Value} {f f' : St} {Z : cP} (a : Nat) (ha : a ≠ o) (h : ∀ k, lArr (lKd L k) = true → f k = f' k) : rP L o cs ov f Z a = rP L o cs ov f' Z a := by
  unfold rP
  rw [if_neg ha, if_neg ha]
  by_cases hc : o < a ∧ a - o < L.2.2.2.2.2 ∧ lArr (lKd L (lFld L (a - o))) = true
  · rw [if_pos hc, if_pos hc, h _ hc.2.2]
  · rw [if_neg hc, if_neg hc]
theorem rP_puti {L : Lay} {o : Nat} {cs : Nat → ClassId} {ov : Nat → Value} {f : St} {Z : cP} {k : Nat} {v : Int32} (hk : lKd L k = 0) (h99 : lArr (lKd L 99) = false) : updP (rP L o cs ov f Z) o (.inr (L.1, updV (rV L o ov f) k (.int v))) = rP L o cs ov (upd2 f 99 k v) Z := by
  funext a
  by_cases ha : a = o
  · subst ha
    simp [updP, rP, rV_puti hk]
  · rw [show updP (rP L o cs ov f Z) o (.inr (L.1, updV (rV L o ov f) k (.int v))) a = rP L o cs ov f Z a by simp [updP, ha]]
    refine rP_congr a ha (fun k' hk' => ?_)
    rw [upd2_n]
    intro e
    rw [e, h99] at hk'
    cases hk'
theorem rP_puta {L : Lay} {o : Nat} {cs : Nat → ClassId} {ov : Nat → Value} {f : St} {Z : cP} (h : lOk L = true) {k i : Nat} {v : Int32} (hk : lArr (lKd L k) = true) (h60 : k < 60) : updP (rP L o cs ov f Z) (o + lOff L k) (.inl (cs (lKd L k - 1), lLen L k, .inl (upd (f k) i v))) = rP L o cs ov (upd2 f k i v) Z := by
  obtain ⟨h1, h2, h3⟩ := lOk_at h hk h60
  funext a
  by_cases ha : a = o + lOff L k
  · rw [show updP (rP L o cs ov f Z) (o + lOff L k) (.inl (cs (lKd L k - 1), lLen L k, .inl (upd (f k) i v))) a = some (.inl (cs (lKd L k - 1), lLen L k, .inl (upd (f k) i v))) by simp [updP, ha]]
    rw [ha, rP_arr h hk h60, upd2_s]
  · rw [show updP (rP L o cs ov f Z) (o + lOff L k) (.inl (cs (lKd L k - 1), lLen L k, .inl (upd (f k) i v))) a = rP L o cs ov f Z a by simp [updP, ha]]
    by_cases ho : a = o
    · subst ho
      rw [rP_obj, rP_obj]
      congr 3
      funext j
      simp [rV, upd2_n (show 99 ≠ k by omega)]
    · unfold rP
      rw [if_neg ho, if_neg ho]
      by_cases hc : o < a ∧ a - o < L.2.2.2.2.2 ∧ lArr (lKd L (lFld L (a - o))) = true
      · rw [if_pos hc, if_pos hc]
        by_cases hf : lFld L (a - o) = k
        · exfalso
          have h5 := lOk_inv h hc.2.1 hc.2.2
          rw [hf] at h5
          exact ha (by omega)
        · rw [upd2_n hf]
      · rw [if_neg hc, if_neg hc]
def lyM : Lay := (0, [0, 1, 1, 1, 1, 1, 0, 0, 1, 1, 1, 0, 1, 1, 0, 0, 0, 1, 1, 1, 0, 0, 1, 0, 1, 0, 0, 0, 0, 0, 1, 1, 1, 1, 1, 1, 1, 1, 1, 1, 0, 0, 0, 0, 4, 1, 0, 0, 0, 1, 1, 3, 1, 1, 3, 1], [0, 1, 2, 3, 4, 5, 0, 0, 6, 7, 8, 0, 9, 10, 0, 0, 0, 11, 12, 13, 0, 0, 14, 0, 15, 0, 0, 0, 0, 0, 16, 17, 18, 19, 20, 21, 22, 23, 24, 25, 0, 0, 0, 0, 26, 27, 0, 0, 0, 28, 29, 30, 31, 32, 33, 34], [99, 1, 2, 3, 4, 5, 8, 9, 10, 12, 13, 17, 18, 19, 22, 24, 30, 31, 32, 33, 34, 35, 36, 37, 38, 39, 44, 45, 49, 50, 51, 52, 53, 54, 55], [0, 6, 6, 6, 6, 36, 0, 0, 10, 10, 160, 0, 1200, 24, 0, 0, 0, 12, 12, 72, 0, 0, 6, 0, 7, 0, 0, 0, 0, 0, 6, 6, 6, 36, 10, 10, 4, 4, 160, 36, 0, 0, 0, 0, 11, 200, 0, 0, 0, 200, 6, 36, 6, 29400, 29400, 1968], 35)
theorem lyM_ok : lOk lyM = true := by decide +kernel
def clC : List vw_C := [(RX7, TX7, 56), (RX0, TX0, 43), (RX1, TX1, 3), (RX8, TX8, 3), (RX9, TX9, 3), (RX10, TX10, 3), (RX11, TX11, 3), (RX12, TX12, 3), (RX13, TX13, 3), (RX4, TX4, 2), (RX5, TX5, 2), (RX6, TX6, 3), (RX2, TX2, 8), (RX3, TX3, 7), (RX14, TX14, 7), (RX15, TX15, 1), (RJ2, TJ2, 3), (RJ3, TJ3, 4), (RJ8, TJ8, 4)]
def tysC (cs : Nat → ClassId) : List (ClassId × FieldType) := [(cs 0, .int), (cs 1, .byte), (cs 2, .boolean), (cs 3, .long), (cs 4, .object "java/lang/Object"), (cs 5, .object "MarketDays$Node"), (cs 6, .array (.object "MarketDays$Node")), (cs 7, .object "MarketDays$Sheet")]
/-- the reference's constant words -/
def mWords (j : Nat) : Int64 := [1852137842, 512970880104, 448546566771, 1936292453, 478694368626, 6578553, 2002873972, 2003133803, 28530, 6385252, 7237492].getD j 0
def ovM (o : Nat) (k : Nat) : Value := .ref (o + lOff lyM k)
def pM (o : Nat) (cs : Nat → ClassId) (f : St) (Z : cP) : cP := rP lyM o cs (ovM o) f (fun a => if a = o + lOff lyM 44 then some (.inl (cs 3, 11, .inr (.inl mWords))) else Z a)
theorem pM_words {o : Nat} {cs : Nat → ClassId} {f : St} {Z : cP} : pM o cs f Z (o + lOff lyM 44) = some (.inl (cs 3, 11, .inr (.inl mWords))) := by
  have e : o + lOff lyM 44 - o = lOff lyM 44 := by omega
  unfold pM rP
  rw [if_neg (show ¬ o + lOff lyM 44 = o by have : 0 < lOff lyM 44 := by decide
                                            omega), e, if_neg (fun h => absurd h.2.2 (by decide))]
  simp
theorem pM_obj {o : Nat} {cs : Nat → ClassId} {f : St} {Z : cP} : pM o cs f Z o = some (.inr (0, rV lyM o (ovM o) f)) := by
  unfold pM
  exact rP_obj
theorem pM_arr {o : Nat} {cs : Nat → ClassId} {f : St} {Z : cP} {k d : Nat} (hd : lKd lyM k = d) (hk : lArr d = true) (h60 : k < 60) : pM o cs f Z (o + lOff lyM k) = some (.inl (cs (d - 1), lLen lyM k, .inl (f k))) := by
  subst hd
  unfold pM
  exact rP_arr lyM_ok hk h60
theorem pM_puti {o : Nat} {cs : Nat → ClassId} {f : St} {Z : cP} {k : Nat} {v : Int32} (hk : lKd lyM k = 0) : updP (pM o cs f Z) o (.inr (0, updV (rV lyM o (ovM o) f) k (.int v))) = pM o cs (upd2 f 99 k v) Z := by
  unfold pM
  exact rP_puti hk (by decide)
theorem pM_puta {o : Nat} {cs : Nat → ClassId} {f : St} {Z : cP} {k d i : Nat} {v : Int32} (hd : lKd lyM k = d) (hk : lArr d = true) (h60 : k < 60) : updP (pM o cs f Z) (o + lOff lyM k) (.inl (cs (d - 1), lLen lyM k, .inl (upd (f k) i v))) = pM o cs (upd2 f k i v) Z := by
  subst hd
  unfold pM
  exact rP_puta lyM_ok hk h60
abbrev pI (Q : Int32 → St → Prop) : Option Value → St → Prop := fun v f => ∃ r : Int32, v = some (.int r) ∧ Q r f
abbrev pJ (Q : Int64 → St → Prop) : Option Value → St → Prop := fun v f => ∃ r : Int64, v = some (.long r) ∧ Q r f
abbrev pV (Q : St → Prop) : Option Value → St → Prop := fun v f => v = none ∧ Q f
def qM (o : Nat) (cs : Nat → ClassId) (Z : cP) (z u : Nat) (Qp : Option Value → St → Prop) : Option Value → cW → Prop := fun v w => ∃ f : St, w = (pM o cs f Z, z, u) ∧ Qp v f
/-- a contract of the reference's methods -/
abbrev CM (l : Launch) (D : va_G) (cs : Nat → ClassId) (b : Nat) (H0 : Heap) (XK : State → Prop) (o : Nat) (Z : cP) (z u : Nat) (y : MethodName) (cc : ByteArray) (nL : Nat) (ret : Option FieldType) (fr lo : Nat) (av : List Value) (f : St) (Qp : Option Value → St → Prop) : Prop := CON l D clC (tysC cs) b H0 XK y cc nL ret fr lo av (pM o cs f Z, z, u) (qM o cs Z z u Qp)
abbrev AM (p : Program) (l : Launch) (e : Env) (R : Room) (s : State) (m : MethodId) (args : Array Value) (below : List Frame) (meth : Method) (c : Code) (D : va_G) (cs : Nat → ClassId) (b nL o : Nat) (Z : cP) (z u : Nat) (Qp : Option Value → St → Prop) (pc : Nat) (lv : List (Nat × Value)) (st : List Value) (f : St) : Prop :=
  AG p l e R s m args below meth c D clC b nL (MQ below (QX D clC b (qM o cs Z z u Qp)) args s (b + cB - z) (sB - u) (fun q => b ≤ q)) pc lv st (pM o cs f Z, z, u)
abbrev EM (p : Program) (R : Room) (s : State) (m : MethodId) (args : Array Value) (meth : Method) (c : Code) (cc : ByteArray) (nL : Nat) (ret : Option FieldType) (D : va_G) (cs : Nat → ClassId) (b : Nat) (H0 : Heap) (XK : State → Prop) (fr lo z u : Nat) : Prop := EE p R s m args meth c cc nL RX7 ret D clC (tysC cs) b H0 XK [] fr lo ∧ s.heap.size = z ∧ us b s.heap = u
def vz (r : Int32) : Prop := r = 0 ∨ r = 1
theorem vz_nar {r : Int32} (h : vz r) : narrow .boolean (.int r) = .int r := by
  rcases h with rfl | rfl <;> rfl
theorem vz_fit {r : Int32} (h : vz r) : fits .boolean (.int r) = true := by
  rcases h with rfl | rfl <;> rfl
theorem vz_vp {r : Int32} (h : vz r) : vp_nar .boolean r = r := by
  rcases h with rfl | rfl <;> rfl
section AMR
variable {p : Program} {l : Launch} {e : Env} {R : Room} {s : State} {m : MethodId} {args : Array Value} {below : List Frame} {meth : Method} {c : Code} {D : va_G} {cs : Nat → ClassId} {b nL fr lo o z u : Nat} {Z : cP} {H0 : Heap} {XK : State → Prop} {cc : ByteArray} {ret : Option FieldType} {Qp : Option Value → St → Prop} {pc : Nat} {lv : List (Nat × Value)} {rest : List Value} {f : St}
theorem am_geti (E : EM p R s m args meth c cc nL ret D cs b H0 XK fr lo z u) (k : Nat) {index : Nat} (hk : k < 56) (h0 : lKd lyM k = 0) (hlink : Cond.fieldLink RX7 index (TX7 k).1 (TX7 k).2.1 (TX7 k).2.2.1 ∈ lw_all) (hdg : decode cc pc = .ok (.getfield index, 3)) (kk : AM p l e R s m args below meth c D cs b nL o Z z u Qp (pc + 3) lv (.int (f 99 k) :: rest) f) : AM p l e R s m args below meth c D cs b nL o Z z u Qp pc lv (.ref o :: rest) f :=
  ag_get E.1 (ci := 0) (C := RX7) (T := TX7) (N := 56) (k := k) rfl in_X7 hk hlink (fun _ h => h) hdg pM_obj (by simp [rV, h0]) kk
theorem am_geta (E : EM p R s m args meth c cc nL ret D cs b H0 XK fr lo z u) (k : Nat) {index i : Nat} (hk : k < 56) (h0 : lKd lyM k ≠ 0) (hi : lOff lyM k = i) (hlink : Cond.fieldLink RX7 index (TX7 k).1 (TX7 k).2.1 (TX7 k).2.2.1 ∈ lw_all) (hdg : decode cc pc = .ok (.getfield index, 3)) (kk : AM p l e R s m args below meth c D cs b nL o Z z u Qp (pc + 3) lv (.ref (o + i) :: rest) f) : AM p l e R s m args below meth c D cs b nL o Z z u Qp pc lv (.ref o :: rest) f :=
  ag_get E.1 (ci := 0) (C := RX7) (T := TX7) (N := 56) (k := k) rfl in_X7 hk hlink (fun _ h => h) hdg pM_obj (by rw [← hi]; unfold rV; rw [if_neg h0]; split <;> rfl) kk
theorem am_puti (E : EM p R s m args meth c cc nL ret D cs b H0 XK fr lo z u) (k : Nat) {index : Nat} {v : Int32} (hk : k < 56) (h0 : lKd lyM k = 0) (hlink : Cond.fieldLink RX7 index (TX7 k).1 (TX7 k).2.1 (TX7 k).2.2.1 ∈ lw_all) (hfin : (TX7 k).2.2.2 = false) {ty : FieldType} (hd : parseFieldDescriptor (TX7 k).2.2.1 = some ty) (hn : narrow ty (.int v) = .int v) (hfit : fits ty (.int v) = true) (hdg : decode cc pc = .ok (.putfield index, 3)) (kk : ∀ f' : St, f' = upd2 f 99 k v → AM p l e R s m args below meth c D cs b nL o Z z u Qp (pc + 3) lv rest f') : AM p l e R s m args below meth c D cs b nL o Z z u Qp pc lv (.int v :: .ref o :: rest) f :=
  ag_put E.1 (ci := 0) (C := RX7) (T := TX7) (N := 56) (k := k) tyX7 tyX7_ok nmX7 rfl in_X7 hk hlink (fun _ h => h) hfin hd hn hfit hdg pM_obj (by
    have K := kk _ rfl
    unfold AM at K
    rw [← pM_puti h0] at K
    exact K)
theorem am_iald (E : EM p R s m args meth c cc nL ret D cs b H0 XK fr lo z u) (k : Nat) {n j : Nat} {i : Int32} (h0 : lKd lyM k = 1) (hj : lOff lyM k = j) (hn : lLen lyM k = n) (h60 : k < 60) (hin : vp_in i n) (hdg : decode cc pc = .ok (.iaload, 1)) (kk : AM p l e R s m args below meth c D cs b nL o Z z u Qp (pc + 1) lv (.int (f k i.toNatClampNeg) :: rest) f) : AM p l e R s m args below meth c D cs b nL o Z z u Qp pc lv (.int i :: .ref (o + j) :: rest) f := by
  subst hj; subst hn
  refine ag_iald E.1 (t0 := 0) (f := f k) (cA := cs 0) (pM_arr h0 rfl h60) rfl hin hdg kk
theorem am_zald (E : EM p R s m args meth c cc nL ret D cs b H0 XK fr lo z u) (k : Nat) {n j : Nat} {i : Int32} (h0 : lKd lyM k = 3) (hj : lOff lyM k = j) (hn : lLen lyM k = n) (h60 : k < 60) (hin : vp_in i n) (hdg : decode cc pc = .ok (.baload, 1)) (kk : AM p l e R s m args below meth c D cs b nL o Z z u Qp (pc + 1) lv (.int (f k i.toNatClampNeg) :: rest) f) : AM p l e R s m args below meth c D cs b nL o Z z u Qp pc lv (.int i :: .ref (o + j) :: rest) f := by
  subst hj; subst hn
  refine ag_zald E.1 (t0 := 2) (f := f k) (cA := cs 2) (pM_arr h0 rfl h60) rfl hin hdg kk
theorem am_lald (E : EM p R s m args meth c cc nL ret D cs b H0 XK fr lo z u) {j : Nat} {i : Int32} (hj : lOff lyM 44 = j) (hin : vp_in i 11) (hdg : decode cc pc = .ok (.laload, 1)) (kk : AM p l e R s m args below meth c D cs b nL o Z z u Qp (pc + 1) lv (.long (mWords i.toNatClampNeg) :: rest) f) : AM p l e R s m args below meth c D cs b nL o Z z u Qp pc lv (.int i :: .ref (o + j) :: rest) f := by
  subst hj
  exact ag_lald E.1 (t0 := 3) (f := mWords) (cA := cs 3) pM_words rfl hin hdg kk
theorem am_iast (E : EM p R s m args meth c cc nL ret D cs b H0 XK fr lo z u) (k : Nat) {n j : Nat} {i x : Int32} (h0 : lKd lyM k = 1) (hj : lOff lyM k = j) (hn : lLen lyM k = n) (h60 : k < 60) (hin : vp_in i n) (hdg : decode cc pc = .ok (.iastore, 1)) (kk : ∀ f' : St, f' = upd2 f k i.toNatClampNeg x → AM p l e R s m args below meth c D cs b nL o Z z u Qp (pc + 1) lv rest f') : AM p l e R s m args below meth c D cs b nL o Z z u Qp pc lv (.int x :: .int i :: .ref (o + j) :: rest) f := by
  subst hj; subst hn
  refine ag_iast E.1 (t0 := 0) (f := f k) (cA := cs 0) (pM_arr h0 rfl h60) rfl hin hdg ?_
  have K := kk _ rfl
  unfold AM at K
  rw [← pM_puta h0 rfl h60] at K
  exact K
theorem am_zast (E : EM p R s m args meth c cc nL ret D cs b H0 XK fr lo z u) (k : Nat) {n j : Nat} {i x : Int32} (h0 : lKd lyM k = 3) (hj : lOff lyM k = j) (hn : lLen lyM k = n) (h60 : k < 60) (hx : vz x) (hin : vp_in i n) (hdg : decode cc pc = .ok (.bastore, 1)) (kk : ∀ f' : St, f' = upd2 f k i.toNatClampNeg x → AM p l e R s m args below meth c D cs b nL o Z z u Qp (pc + 1) lv rest f') : AM p l e R s m args below meth c D cs b nL o Z z u Qp pc lv (.int x :: .int i :: .ref (o + j) :: rest) f := by
  subst hj; subst hn
  refine ag_zast E.1 (t0 := 2) (f := f k) (cA := cs 2) (pM_arr h0 rfl h60) rfl hin hdg ?_
  have K := kk _ rfl
  unfold AM at K
  rw [← pM_puta h0 rfl h60] at K
  rw [vz_vp hx]
  exact K
theorem am_iret (E : EM p R s m args meth c cc nL ret D cs b H0 XK fr lo z u) {r : Int32} (hret : ret = some .int) (hq : Qp (some (.int r)) f) (hdg : decode cc pc = .ok (.ireturn, 1)) : AM p l e R s m args below meth c D cs b nL o Z z u Qp pc lv [.int r] f := ag_iret hret E.1.2.2.2.2.2.1 E.1 (w0 := (pM o cs f Z, z, u)) E.2 ⟨f, rfl, hq⟩ hdg
theorem am_zret (E : EM p R s m args meth c cc nL ret D cs b H0 XK fr lo z u) {r : Int32} (hret : ret = some .boolean) (hr : vz r) (hq : Qp (some (.int r)) f) (hdg : decode cc pc = .ok (.ireturn, 1)) : AM p l e R s m args below meth c D cs b nL o Z z u Qp pc lv [.int r] f := ag_zret hret (vz_nar hr) E.1.2.2.2.2.2.1 E.1 (w0 := (pM o cs f Z, z, u)) E.2 ⟨f, rfl, hq⟩ hdg
theorem am_lret (E : EM p R s m args meth c cc nL ret D cs b H0 XK fr lo z u) {r : Int64} (hret : ret = some .long) (hq : Qp (some (.long r)) f) (hdg : decode cc pc = .ok (.lreturn, 1)) : AM p l e R s m args below meth c D cs b nL o Z z u Qp pc lv [.long r] f := ag_lret hret E.1.2.2.2.2.2.1 E.1 (w0 := (pM o cs f Z, z, u)) E.2 ⟨f, rfl, hq⟩ hdg
theorem am_vret (E : EM p R s m args meth c cc nL ret D cs b H0 XK fr lo z u) (hret : ret = none) (hq : Qp none f) (hdg : decode cc pc = .ok (.return_, 1)) : AM p l e R s m args below meth c D cs b nL o Z z u Qp pc lv [] f := ag_vret hret E.1.2.2.2.2.2.1 E.1 (w0 := (pM o cs f Z, z, u)) E.2 ⟨f, rfl, hq⟩ hdg
theorem am_callVi (E : EM p R s m args meth c cc nL ret D cs b H0 XK fr lo z u) {index n fr2 lo2 : Nat} {y : MethodName} {bytes : ByteArray} {maxL : Nat} {ret2 : Option FieldType} (As : List Value) {Q2 : Int32 → St → Prop} (hcon : CM l D cs b H0 XK o Z z u y bytes maxL ret2 fr2 lo2 (.ref o :: As) f (pI Q2)) (hG0 : GoodIn lw_all (wsV RX7 index RX7 y (ws_ y bytes maxL ret2))) (hd : y.cls = RX7 ∧ y.cls ≠ "java/lang/invoke/MethodHandle" ∧ y.cls ≠ "java/lang/invoke/VarHandle" ∧ (parseMethodDescriptor y.desc).map (fun d => d.parameters.length) = some n) (hfr : fr2 + 1 ≤ fr) (hlo : 8 + (maxL + 11) + lo2 ≤ lo) (hn : As.length = n) (hst : (rest.map fun v => v.category).sum ≤ 8) (hdg : decode cc pc = .ok (.invokevirtual index, 3)) {st0 : List Value} (hst0 : st0 = As.reverse ++ .ref o :: rest) (kk : ∀ (r : Int32) (f' : St), Q2 r f' → AM p l e R s m args below meth c D cs b nL o Z z u Qp (pc + 3) lv (.int r :: rest) f') : AM p l e R s m args below meth c D cs b nL o Z z u Qp pc lv st0 f :=
  ag_callV E.1 (ci := 0) (T0 := TX7) (n2 := 56) pM_obj rfl hcon hG0 hd hfr hlo hn hst hdg (fun v w' hv => by obtain ⟨f', rfl, r, rfl, hq⟩ := hv; exact kk r f' hq) hst0
theorem am_callSi (E : EM p R s m args meth c cc nL ret D cs b H0 XK fr lo z u) {index n fr2 lo2 : Nat} {y : MethodName} {bytes : ByteArray} {maxL : Nat} {ret2 : Option FieldType} (As : List Value) {Q2 : Int32 → St → Prop} (hcon : CM l D cs b H0 XK o Z z u y bytes maxL ret2 fr2 lo2 As f (pI Q2)) (hG0 : GoodIn lw_all (va_wsS RX7 index y (ws_ y bytes maxL ret2))) (hd : y.cls ≠ "java/lang/invoke/MethodHandle" ∧ y.cls ≠ "java/lang/invoke/VarHandle" ∧ (parseMethodDescriptor y.desc).map (fun d => d.parameters.length) = some n) (hfr : fr2 + 1 ≤ fr) (hlo : 8 + (maxL + 11) + lo2 ≤ lo) (hn : As.length = n) (hst : (rest.map fun v => v.category).sum ≤ 8) (hdg : decode cc pc = .ok (.invokestatic index, 3)) {st0 : List Value} (hst0 : st0 = As.reverse ++ rest) (kk : ∀ (r : Int32) (f' : St), Q2 r f' → AM p l e R s m args below meth c D cs b nL o Z z u Qp (pc + 3) lv (.int r :: rest) f') : AM p l e R s m args below meth c D cs b nL o Z z u Qp pc lv st0 f :=
  ag_callS E.1 hcon hG0 hd hfr hlo hn hst hdg (fun v w' hv => by obtain ⟨f', rfl, r, rfl, hq⟩ := hv; exact kk r f' hq) hst0
theorem am_callVl (E : EM p R s m args meth c cc nL ret D cs b H0 XK fr lo z u) {index n fr2 lo2 : Nat} {y : MethodName} {bytes : ByteArray} {maxL : Nat} {ret2 : Option FieldType} (As : List Value) {Q2 : Int64 → St → Prop} (hcon : CM l D cs b H0 XK o Z z u y bytes maxL ret2 fr2 lo2 (.ref o :: As) f (pJ Q2)) (hG0 : GoodIn lw_all (wsV RX7 index RX7 y (ws_ y bytes maxL ret2))) (hd : y.cls = RX7 ∧ y.cls ≠ "java/lang/invoke/MethodHandle" ∧ y.cls ≠ "java/lang/invoke/VarHandle" ∧ (parseMethodDescriptor y.desc).map (fun d => d.parameters.length) = some n) (hfr : fr2 + 1 ≤ fr) (hlo : 8 + (maxL + 11) + lo2 ≤ lo) (hn : As.length = n) (hst : (rest.map fun v => v.category).sum ≤ 8) (hdg : decode cc pc = .ok (.invokevirtual index, 3)) {st0 : List Value} (hst0 : st0 = As.reverse ++ .ref o :: rest) (kk : ∀ (r : Int64) (f' : St), Q2 r f' → AM p l e R s m args below meth c D cs b nL o Z z u Qp (pc + 3) lv (.long r :: rest) f') : AM p l e R s m args below meth c D cs b nL o Z z u Qp pc lv st0 f :=
  ag_callV E.1 (ci := 0) (T0 := TX7) (n2 := 56) pM_obj rfl hcon hG0 hd hfr hlo hn hst hdg (fun v w' hv => by obtain ⟨f', rfl, r, rfl, hq⟩ := hv; exact kk r f' hq) hst0
theorem am_callSl (E : EM p R s m args meth c cc nL ret D cs b H0 XK fr lo z u) {index n fr2 lo2 : Nat} {y : MethodName} {bytes : ByteArray} {maxL : Nat} {ret2 : Option FieldType} (As : List Value) {Q2 : Int64 → St → Prop} (hcon : CM l D cs b H0 XK o Z z u y bytes maxL ret2 fr2 lo2 As f (pJ Q2)) (hG0 : GoodIn lw_all (va_wsS RX7 index y (ws_ y bytes maxL ret2))) (hd : y.cls ≠ "java/lang/invoke/MethodHandle" ∧ y.cls ≠ "java/lang/invoke/VarHandle" ∧ (parseMethodDescriptor y.desc).map (fun d => d.parameters.length) = some n) (hfr : fr2 + 1 ≤ fr) (hlo : 8 + (maxL + 11) + lo2 ≤ lo) (hn : As.length = n) (hst : (rest.map fun v => v.category).sum ≤ 8) (hdg : decode cc pc = .ok (.invokestatic index, 3)) {st0 : List Value} (hst0 : st0 = As.reverse ++ rest) (kk : ∀ (r : Int64) (f' : St), Q2 r f' → AM p l e R s m args below meth c D cs b nL o Z z u Qp (pc + 3) lv (.long r :: rest) f') : AM p l e R s m args below meth c D cs b nL o Z z u Qp pc lv st0 f :=
  ag_callS E.1 hcon hG0 hd hfr hlo hn hst hdg (fun v w' hv => by obtain ⟨f', rfl, r, rfl, hq⟩ := hv; exact kk r f' hq) hst0
theorem am_callVv (E : EM p R s m args meth c cc nL ret D cs b H0 XK fr lo z u) {index n fr2 lo2 : Nat} {y : MethodName} {bytes : ByteArray} {maxL : Nat} {ret2 : Option FieldType} (As : List Value) {Q2 : St → Prop} (hcon : CM l D cs b H0 XK o Z z u y bytes maxL ret2 fr2 lo2 (.ref o :: As) f (pV Q2)) (hG0 : GoodIn lw_all (wsV RX7 index RX7 y (ws_ y bytes maxL ret2))) (hd : y.cls = RX7 ∧ y.cls ≠ "java/lang/invoke/MethodHandle" ∧ y.cls ≠ "java/lang/invoke/VarHandle" ∧ (parseMethodDescriptor y.desc).map (fun d => d.parameters.length) = some n) (hfr : fr2 + 1 ≤ fr) (hlo : 8 + (maxL + 11) + lo2 ≤ lo) (hn : As.length = n) (hst : (rest.map fun v => v.category).sum ≤ 8) (hdg : decode cc pc = .ok (.invokevirtual index, 3)) {st0 : List Value} (hst0 : st0 = As.reverse ++ .ref o :: rest) (kk : ∀ (f' : St), Q2 f' → AM p l e R s m args below meth c D cs b nL o Z z u Qp (pc + 3) lv rest f') : AM p l e R s m args below meth c D cs b nL o Z z u Qp pc lv st0 f :=
  ag_callV E.1 (ci := 0) (T0 := TX7) (n2 := 56) pM_obj rfl hcon hG0 hd hfr hlo hn hst hdg (fun v w' hv => by obtain ⟨f', rfl, rfl, hq⟩ := hv; exact kk f' hq) hst0
theorem am_callSv (E : EM p R s m args meth c cc nL ret D cs b H0 XK fr lo z u) {index n fr2 lo2 : Nat} {y : MethodName} {bytes : ByteArray} {maxL : Nat} {ret2 : Option FieldType} (As : List Value) {Q2 : St → Prop} (hcon : CM l D cs b H0 XK o Z z u y bytes maxL ret2 fr2 lo2 As f (pV Q2)) (hG0 : GoodIn lw_all (va_wsS RX7 index y (ws_ y bytes maxL ret2))) (hd : y.cls ≠ "java/lang/invoke/MethodHandle" ∧ y.cls ≠ "java/lang/invoke/VarHandle" ∧ (parseMethodDescriptor y.desc).map (fun d => d.parameters.length) = some n) (hfr : fr2 + 1 ≤ fr) (hlo : 8 + (maxL + 11) + lo2 ≤ lo) (hn : As.length = n) (hst : (rest.map fun v => v.category).sum ≤ 8) (hdg : decode cc pc = .ok (.invokestatic index, 3)) {st0 : List Value} (hst0 : st0 = As.reverse ++ rest) (kk : ∀ (f' : St), Q2 f' → AM p l e R s m args below meth c D cs b nL o Z z u Qp (pc + 3) lv rest f') : AM p l e R s m args below meth c D cs b nL o Z z u Qp pc lv st0 f :=
  ag_callS E.1 hcon hG0 hd hfr hlo hn hst hdg (fun v w' hv => by obtain ⟨f', rfl, rfl, hq⟩ := hv; exact kk f' hq) hst0
theorem cm_of {y : MethodName} {av : List Value} (hy : plainName y.cls = true) (hown : y.cls = RX7) (hn : (lg_sl av).length ≤ nL)
    (k : ∀ (p : Program) (e : Env) (R : Room) (s : State) (m : MethodId) (below : List Frame) (meth : Method) (c : Code), EM p R s m av.toArray meth c cc nL ret D cs b H0 XK fr lo z u → AM p l e R s m av.toArray below meth c D cs b nL o Z z u Qp 0 (lv_args 0 av) [] f) : CM l D cs b H0 XK o Z z u y cc nL ret fr lo av f Qp := by
  refine con_of hy hn (fun p e R s m below meth c E h0 _ => ?_)
  rw [hown] at E
  exact k p e R s m below meth c ⟨E, h0⟩
end AMR
