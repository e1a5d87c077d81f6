/-! THE WORLD: cells by address; the judgement AG: from any machine state that holds the world, at pc, with these locals and this stack, the method comes to Q -/
set_option maxRecDepth 100000
abbrev cE : Type := (ClassId × vp_A) ⊕ (Nat × (Nat → Value))
abbrev cP : Type := Nat → Option cE
abbrev cW : Type := cP × Nat × Nat
def cB : Nat := 601024
def sB : Nat := 7293034
def cAt (D : va_G) (cl : List vw_C) (a : Nat) (e : cE) (H : Heap) : Prop := match e with
  | .inl x => H[a]? = some (vp_cell x.1 x.2)
  | .inr o => ∃ r : vw_C, cl[o.1]? = some r ∧ t_OB a (D.1 o.1) r.2.2 (D.2 o.1) H o.2
theorem cAt.kept {D : va_G} {cl : List vw_C} {a : Nat} {e : cE} {H H1 : Heap} (h : cAt D cl a e H) (hq : H1[a]? = H[a]?) : cAt D cl a e H1 := by
  cases e with
  | inl x => exact hq.trans h
  | inr o =>
    obtain ⟨r, h1, h2⟩ := h
    exact ⟨r, h1, h2.kept hq⟩
theorem cAt.lt {D : va_G} {cl : List vw_C} {a : Nat} {e : cE} {H : Heap} (h : cAt D cl a e H) : a < H.size := by
  cases e with
  | inl x => exact (Array.getElem?_eq_some_iff.mp h).1
  | inr o =>
    obtain ⟨r, h1, cell, h2, -⟩ := h
    exact (Array.getElem?_eq_some_iff.mp h2).1
def cSz (H : Heap) : List Nat := H.toList.map (·.slots.size)
def us (b : Nat) (H : Heap) : Nat := ((H.toList.drop b).map (·.slots.size)).sum
theorem us_eq (b : Nat) (H : Heap) : us b H = ((cSz H).drop b).sum := by
  simp [us, cSz, List.map_drop]
theorem cSz_get (H : Heap) (q : Nat) : (cSz H)[q]? = (H[q]?).map (·.slots.size) := by
  simp [cSz]
theorem us_same {b : Nat} {H H1 : Heap} {a : Nat} {c0 c1 : Cell} (h0 : H[a]? = some c0) (h1 : H1[a]? = some c1) (hz : c1.slots.size = c0.slots.size) (ho : ∀ q : Nat, q ≠ a → H1[q]? = H[q]?) : us b H1 = us b H := by
  have e : cSz H1 = cSz H := by
    apply List.ext_getElem?
    intro q
    rw [cSz_get, cSz_get]
    by_cases hq : q = a
    · subst hq
      rw [h0, h1]
      simp [hz]
    · rw [ho q hq]
  rw [us_eq, us_eq, e]
theorem us_push {b : Nat} {H H1 : Heap} {c1 : Cell} (hb : b ≤ H.size) (hz : H1.size = H.size + 1) (h1 : H1[H.size]? = some c1) (ho : ∀ q : Nat, q < H.size → H1[q]? = H[q]?) : us b H1 = us b H + c1.slots.size := by
  have e : cSz H1 = cSz H ++ [c1.slots.size] := by
    apply List.ext_getElem?
    intro q
    by_cases hq : q < H.size
    · rw [List.getElem?_append_left (by simpa [cSz] using hq), cSz_get, cSz_get, ho q hq]
    · by_cases hq2 : q = H.size
      · subst hq2
        rw [cSz_get, h1, List.getElem?_append_right (by simp [cSz])]
        simp [cSz]
      · rw [List.getElem?_eq_none (by simp [cSz]; omega), List.getElem?_eq_none (by simp [cSz]; omega)]
  rw [us_eq, us_eq, e, List.drop_append_of_le_length (by simpa [cSz] using hb)]
  simp
def GW (D : va_G) (cl : List vw_C) (b : Nat) (w : cW) (H : Heap) : Prop := H.size = w.2.1 ∧ us b H = w.2.2 ∧ (b ≤ w.2.1 ∧ w.2.1 ≤ b + cB ∧ w.2.2 ≤ sB) ∧ ∀ (a : Nat) (e : cE), w.1 a = some e → b ≤ a ∧ cAt D cl a e H
def updP (P : cP) (a : Nat) (e : cE) : cP := fun q => if q = a then some e else P q
theorem GW.put {D : va_G} {cl : List vw_C} {b : Nat} {w : cW} {H H1 : Heap} {a : Nat} {e0 e1 : cE} {c0 c1 : Cell} (h : GW D cl b w H) (hp : w.1 a = some e0) (h0 : H[a]? = some c0) (h1 : H1[a]? = some c1) (hz : c1.slots.size = c0.slots.size) (z : H1.size = H.size) (ho : ∀ q : Nat, q ≠ a → H1[q]? = H[q]?) (he : cAt D cl a e1 H1) : GW D cl b (updP w.1 a e1, w.2) H1 := by
  obtain ⟨g1, g2, g3, g4⟩ := h
  refine ⟨by rw [z]; exact g1, by rw [us_same h0 h1 hz ho]; exact g2, g3, fun q e hq => ?_⟩
  by_cases hqa : q = a
  · subst hqa
    have : e = e1 := by
      simp [updP] at hq
      exact hq.symm
    subst this
    exact ⟨(g4 q e0 hp).1, he⟩
  · have hq2 : w.1 q = some e := by
      simpa [updP, hqa] using hq
    exact ⟨(g4 q e hq2).1, (g4 q e hq2).2.kept (ho q hqa)⟩
theorem GW.push {D : va_G} {cl : List vw_C} {b : Nat} {w : cW} {H H1 : Heap} {e1 : cE} {c1 : Cell} {n : Nat} (h : GW D cl b w H) (hz : H1.size = H.size + 1) (h1 : H1[H.size]? = some c1) (hn : c1.slots.size = n) (ho : ∀ q : Nat, q < H.size → H1[q]? = H[q]?) (he : cAt D cl H.size e1 H1) (r1 : w.2.1 + 1 ≤ b + cB) (r2 : w.2.2 + n ≤ sB) : GW D cl b (updP w.1 w.2.1 e1, w.2.1 + 1, w.2.2 + n) H1 := by
  obtain ⟨g1, g2, g3, g4⟩ := h
  refine ⟨by rw [hz, g1], by rw [us_push (by rw [g1]; exact g3.1) hz h1 ho, hn, g2], ⟨Nat.le_succ_of_le g3.1, r1, r2⟩, fun q e hq => ?_⟩
  by_cases hqa : q = w.2.1
  · subst hqa
    have : e = e1 := by
      simp [updP] at hq
      exact hq.symm
    subst this
    exact ⟨g3.1, by rw [← g1]; exact he⟩
  · have hq2 : w.1 q = some e := by
      simpa [updP, hqa] using hq
    exact ⟨(g4 q e hq2).1, (g4 q e hq2).2.kept (ho q (g4 q e hq2).2.lt)⟩
def usd (s : State) (H : Heap) : Nat := us s.heap.size H
section EX
variable {p : Program} {l : Launch} {e : Env} {R : Room} {s : State} {m : MethodId} {args : Array Value} {below : List Frame} {meth : Method} {c : Code} {H : Heap} {locs : List Loc} {cells slots : Nat} {Q : State → Prop}
theorem stand_exact {T : State} (X : Stand p l e R s m args below meth c T locs cells slots) : Stand p l e R s m args below meth c T locs (T.heap.size - s.heap.size) (usd s T.heap) := by
  obtain ⟨h1, h2, h3, h4, h5, h6⟩ := X.same
  have h2' : s.heap.size ≤ T.heap.size := h2
  exact { X with same := ⟨h1, h2, (by show T.heap.size ≤ s.heap.size + (T.heap.size - s.heap.size); omega), h4, Nat.le_refl _, h6⟩ }
theorem W.exact {g : JFrame} (kk : W p l e R s m args below meth c H locs (H.size - s.heap.size) (usd s H) Q g) : W p l e R s m args below meth c H locs cells slots Q g := by
  intro T hT X
  have X2 := stand_exact X
  rw [hT] at X2
  exact kk T hT X2
theorem stand_us {T : State} {b : Nat} (X : Stand p l e R s m args below meth c T locs cells slots) (hb : b ≤ s.heap.size) : us b T.heap = us b s.heap + usd s T.heap := by
  obtain ⟨h1, h2, h3, h4, h5, h6⟩ := X.same
  have e1 : (cSz T.heap).take s.heap.size = cSz s.heap := by
    apply List.ext_getElem?
    intro q
    by_cases hq : q < s.heap.size
    · rw [List.getElem?_take, if_pos hq, cSz_get, cSz_get]
      obtain ⟨c', r1, r2, r3, -⟩ := h6 q s.heap[q] (Array.getElem?_eq_getElem hq)
      have r1' : T.heap[q]? = some c' := r1
      rw [r1', Array.getElem?_eq_getElem hq]
      simp [r3]
    · rw [List.getElem?_eq_none (by simp [cSz]; omega), List.getElem?_eq_none (by simp [cSz]; omega)]
  have e2 : cSz T.heap = cSz s.heap ++ (cSz T.heap).drop s.heap.size := by
    rw [← e1, List.take_append_drop]
  rw [us_eq, us_eq, usd, us_eq]
  conv => lhs; rw [e2]
  rw [List.drop_append_of_le_length (by simpa [cSz] using hb)]
  simp
end EX
/-- classes, array classes, and what else is known of the tables (XK), which warmer tables keep -/
def kK (D : va_G) (cl : List vw_C) (tys : List (ClassId × FieldType)) (XK : State → Prop) (U : State) : Prop := va_K D cl tys U ∧ XK U ∧ ∀ u V : State, u.WarmedH V.vm → XK u → XK V
theorem kK.warm {D : va_G} {cl : List vw_C} {tys : List (ClassId × FieldType)} {XK : State → Prop} {u U : State} (hW : u.WarmedH U.vm) (h : kK D cl tys XK u) : kK D cl tys XK U := ⟨va_K.moved hW.alike h.1, h.2.2 u U hW h.2.1, h.2.2⟩
/-- what a method's walk stands on -/
def EE (p : Program) (R : Room) (s : State) (m : MethodId) (args : Array Value) (meth : Method) (c : Code) (cc : ByteArray) (nL : Nat) (own : String) (ret : Option FieldType) (D : va_G) (cl : List vw_C) (tys : List (ClassId × FieldType)) (b : Nat) (H0 : Heap) (XK : State → Prop) (hh : List (Nat × Nat × Nat × Nat)) (fr lo : Nat) : Prop :=
  CallFix p m c cc nL s args lw_all own ∧ kK D cl tys XK s ∧ meth.sig.returnType = ret ∧ meth.locks = false ∧ (∀ q : Nat, q < b → s.heap[q]? = H0[q]?) ∧ b ≤ s.heap.size ∧ R.cells = b + cB - s.heap.size ∧ R.slots = sB - us b s.heap ∧ fr ≤ R.frames ∧ lo ≤ R.locals ∧ c.exceptionTable.toList = tableOf hh
def AG (p : Program) (l : Launch) (e : Env) (R : Room) (s : State) (m : MethodId) (args : Array Value) (below : List Frame) (meth : Method) (c : Code) (D : va_G) (cl : List vw_C) (b nL : Nat) (Q : State → Prop) (pc : Nat) (lv : List (Nat × Value)) (st : List Value) (w : cW) : Prop :=
  ∀ (H : Heap) (locs : List Loc) (ls : Array Slot), GW D cl b w H → va_S (fun q => b ≤ q) s.heap H locs → lv_has ls nL lv → W p l e R s m args below meth c H locs (H.size - s.heap.size) (usd s H) Q (F0 m pc ls st)
/-- a contract's end -/
def QX (D : va_G) (cl : List vw_C) (b : Nat) (Qp : Option Value → cW → Prop) : Array Value → State → Outcome → State → Prop := fun _ st oc t => (∃ (v : Option Value) (w : cW), oc = .returned v ∧ Qp v w ∧ GW D cl b w t.heap) ∧ va_F (fun q => b ≤ q) st t
def qI (Q : Int32 → cW → Prop) : Option Value → cW → Prop := fun v w => ∃ r : Int32, v = some (.int r) ∧ Q r w
def qL (Q : Int64 → cW → Prop) : Option Value → cW → Prop := fun v w => ∃ r : Int64, v = some (.long r) ∧ Q r w
def qV (Q : cW → Prop) : Option Value → cW → Prop := fun v w => v = none ∧ Q w
def qR (Q : Nat → cW → Prop) : Option Value → cW → Prop := fun v w => ∃ a : Nat, v = some (.ref a) ∧ Q a w
def rmC (b fr lo : Nat) (w : cW) : Room := { frames := fr, cells := b + cB - w.2.1, slots := sB - w.2.2, locals := lo }
def pcC (D : va_G) (cl : List vw_C) (tys : List (ClassId × FieldType)) (b : Nat) (H0 : Heap) (XK : State → Prop) (av : List Value) (w : cW) : Array Value → State → Prop := va_Pc av (fun U => kK D cl tys XK U ∧ GW D cl b w U.heap ∧ ∀ q : Nat, q < b → U.heap[q]? = H0[q]?)
def CON (l : Launch) (D : va_G) (cl : List vw_C) (tys : List (ClassId × FieldType)) (b : Nat) (H0 : Heap) (XK : State → Prop) (y : MethodName) (cc : ByteArray) (nL : Nat) (ret : Option FieldType) (fr lo : Nat) (av : List Value) (w : cW) (Qp : Option Value → cW → Prop) : Prop :=
  Met l y (ws_ y cc nL ret) (rmC b fr lo w) (pcC D cl tys b H0 XK av w) (QX D cl b Qp) (b + cB - w.2.1) (sB - w.2.2) (fun q => b ≤ q)
theorem con_of {l : Launch} {D : va_G} {cl : List vw_C} {tys : List (ClassId × FieldType)} {b : Nat} {H0 : Heap} {XK : State → Prop} {y : MethodName} {cc : ByteArray} {nL : Nat} {ret : Option FieldType} {fr lo : Nat} {av : List Value} {w : cW} {Qp : Option Value → cW → Prop} (hy : plainName y.cls = true) (hn : (lg_sl av).length ≤ nL)
    (k : ∀ (p : Program) (e : Env) (R : Room) (s : State) (m : MethodId) (below : List Frame) (meth : Method) (c : Code), EE p R s m av.toArray meth c cc nL y.cls ret D cl tys b H0 XK [] fr lo → (s.heap.size = w.2.1 ∧ us b s.heap = w.2.2) → (y.name = "<init>" → meth.name = "<init>") →
      AG p l e R s m av.toArray below meth c D cl b nL (MQ below (QX D cl b Qp) av.toArray s (b + cB - w.2.1) (sB - w.2.2) (fun q => b ≤ q)) 0 (lv_args 0 av) [] w) : CON l D cl tys b H0 XK y cc nL ret fr lo av w Qp := by
  refine Met.ofW (cc := cc) (maxL := nL) (ret := ret) hy rfl ?_
  intro p e s m args below meth c s₁ B hml hv
  obtain ⟨rfl, hK, hG, hO⟩ := hv
  have hts := atoms_spec (ws := ws_ y cc nL ret) B.pre
  have hno : c.exceptionTable.toList = tableOf [] := by
    have h := B.noHandlers (hts _ List.mem_cons_self)
    rw [Array.isEmpty_iff] at h
    rw [h]
    rfl
  have hts : ∀ w ∈ lw_all, w.before _ s = true := fun w h => hts w (List.mem_cons_of_mem _ h)
  have hown : s.vm.findClass y.cls = some m.cls := findClass_of_methodNamed B.named
  have hb : b ≤ s.heap.size := by rw [hG.1]; exact hG.2.2.1.1
  have hl := lv_entry av (n := nL) hn
  rw [lg_entry_eq]
  have hz : s.heap.size - s.heap.size = 0 := Nat.sub_self _
  have hu : usd s s.heap = 0 := by
    rw [usd, us, List.drop_of_length_le (by simp)]
    rfl
  have K := k p e (headSpec (ws_ y cc nL ret) (rmC b fr lo w)).room s m below meth c ⟨⟨B.exec, B.bytes, hml, hown, hts⟩, hK, B.returns, B.notSynchronized, hO, hb, by rw [hG.1]; rfl, by rw [hG.2.1]; rfl, Nat.le_refl _, Nat.le_refl _, hno⟩ ⟨hG.1, hG.2.1⟩ (fun h => (name_of_methodNamed B.named B.method).1.trans h) s.heap [] _ hG va_S.rf hl
  rw [hz, hu] at K
  exact K
