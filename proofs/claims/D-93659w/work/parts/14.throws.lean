/-! METHODS THAT MAY THROW: contract CONX (a post for the return, a post for the throw); rows -/
set_option maxRecDepth 100000
def FEX (first : State) (t : State) (L : List Loc) (k n : Nat) : Prop := first.WarmedH t.vm ∧ first.sameButNew ({ t with vm := first.vm } : State) L k n
def MetX (l : Launch) (y : MethodName) (ws : List Cond) (rm : Room) (Pc : Array Value → State → Prop) (Qc : Array Value → State → Outcome → State → Prop) (mc ms : Nat) (free : Addr → Prop) : Prop :=
  MetFree l y (headSpec ws rm) Pc (fun _ _ _ _ _ => True) (fun a st o t => Qc a st o t ∧ ∃ L, FEX st t L mc ms ∧ ∀ q ∈ L, free q.base)
def MQX (below : List Frame) (Qc : Array Value → State → Outcome → State → Prop) (a : Array Value) (s : State) (mc ms : Nat) (free : Addr → Prop) : State → Prop := fun t =>
  ∃ o, t.status = .running ∧ Ended t below o ∧ Qc a s o t ∧ ∃ L, FEX s t L mc ms ∧ ∀ q ∈ L, free q.base
def QXX (D : va_G) (cl : List vw_C) (b : Nat) (Qp : Option Value → cW → Prop) (Xp : Nat → cW → Prop) : Array Value → State → Outcome → State → Prop := fun _ st oc t => ((∃ (v : Option Value) (w : cW), oc = .returned v ∧ Qp v w ∧ GW D cl b w t.heap) ∨ ∃ (a : Nat) (w : cW), oc = .threw a ∧ Xp a w ∧ GW D cl b w t.heap) ∧ va_F (fun q => b ≤ q) st t
def CONX (l : Launch) (D : va_G) (cl : List vw_C) (tys : List (ClassId × FieldType)) (b : Nat) (H0 : Heap) (XK : State → Prop) (y : MethodName) (cc : ByteArray) (nL : Nat) (ret : Option FieldType) (fr lo : Nat) (av : List Value) (w : cW) (Qp : Option Value → cW → Prop) (Xp : Nat → cW → Prop) : Prop :=
  MetX l y (ws_ y cc nL ret) (rmC b fr lo w) (pcC D cl tys b H0 XK av w) (QXX D cl b Qp Xp) (b + cB - w.2.1) (sB - w.2.2) (fun q => b ≤ q)
theorem W.mono {p : Program} {l : Launch} {e : Env} {R : Room} {s : State} {m : MethodId} {args : Array Value} {below : List Frame} {meth : Method} {c : Code} {H : Heap} {locs : List Loc} {cells slots : Nat} {Q Q' : State → Prop} {g : JFrame} (h : ∀ t, Q t → Q' t) (k : W p l e R s m args below meth c H locs cells slots Q g) : W p l e R s m args below meth c H locs cells slots Q' g := by
  intro T hT X
  obtain ⟨t, a, b⟩ := k T hT X
  exact ⟨t, a, h t b⟩
theorem conx_of {l : Launch} {D : va_G} {cl : List vw_C} {tys : List (ClassId × FieldType)} {b : Nat} {H0 : Heap} {XK : State → Prop} {y : MethodName} {cc : ByteArray} {nL : Nat} {ret : Option FieldType} {fr lo : Nat} {av : List Value} {w : cW} {Qp : Option Value → cW → Prop} {Xp : Nat → cW → Prop} (hy : plainName y.cls = true) (hn : (lg_sl av).length ≤ nL)
    (k : ∀ (p : Program) (e : Env) (R : Room) (s : State) (m : MethodId) (below : List Frame) (meth : Method) (c : Code), EE p R s m av.toArray meth c cc nL y.cls ret D cl tys b H0 XK [] fr lo → (s.heap.size = w.2.1 ∧ us b s.heap = w.2.2) → (y.name = "<init>" → meth.name = "<init>") →
      AG p l e R s m av.toArray below meth c D cl b nL (MQX below (QXX D cl b Qp Xp) av.toArray s (b + cB - w.2.1) (sB - w.2.2) (fun q => b ≤ q)) 0 (lv_args 0 av) [] w) : CONX l D cl tys b H0 XK y cc nL ret fr lo av w Qp Xp := by
  unfold CONX MetX
  refine MetFree.of_bodyS (code := cc) (maxLocals := nL) (ret := ret) hy ?_ ?_
  · intro args s m h hn
    obtain ⟨meth, c, h1, h2, h3, h4, h5, h6, -, -⟩ := Cond.code_spec hn (atoms_spec (ws := ws_ y cc nL ret) h _ List.mem_cons_self)
    exact ⟨meth, c, h1, h2, h3, h4, h5, h6⟩
  · intro p e s m args below meth c s₁ B hml hP _
    have hh0 : s₁.heap = s.heap := by rw [B.state]; rfl
    obtain ⟨rfl, hK, hG, hO⟩ := hP
    have hts := atoms_spec (ws := ws_ y cc nL ret) B.pre
    have hno : c.exceptionTable.toList = tableOf [] := by
      have h := B.noHandlers (hts _ List.mem_cons_self)
      rw [Array.isEmpty_iff] at h
      rw [h]
      rfl
    have hts : ∀ w ∈ lw_all, w.before _ s = true := fun w h => hts w (List.mem_cons_of_mem _ h)
    have hown : s.vm.findClass y.cls = some m.cls := findClass_of_methodNamed B.named
    have hb : b ≤ s.heap.size := by rw [hG.1]; exact hG.2.2.1.1
    have hl := lv_entry av (n := nL) hn
    have hz : s.heap.size - s.heap.size = 0 := Nat.sub_self _
    have hu : usd s s.heap = 0 := by
      rw [usd, us, List.drop_of_length_le (by simp)]
      rfl
    have K := k p e (headSpec (ws_ y cc nL ret) (rmC b fr lo w)).room s m below meth c ⟨⟨B.exec, B.bytes, hml, hown, hts⟩, hK, B.returns, B.notSynchronized, hO, hb, by rw [hG.1]; rfl, by rw [hG.2.1]; rfl, Nat.le_refl _, Nat.le_refl _, hno⟩ ⟨hG.1, hG.2.1⟩ (fun h => (name_of_methodNamed B.named B.method).1.trans h) s.heap [] _ hG va_S.rf hl
    rw [hz, hu] at K
    have K2 : W p l e (headSpec (ws_ y cc nL ret) (rmC b fr lo w)).room s m av.toArray below meth c s.heap [] 0 0 (MQX below (QXX D cl b Qp Xp) av.toArray s (b + cB - w.2.1) (sB - w.2.2) (fun q => b ≤ q)) (entryFrame m av.toArray nL) := by
      rw [lg_entry_eq]
      exact K
    obtain ⟨t, a1, o, b1, b2, b3⟩ := K2 s₁ hh0 (Stand.of_body B)
    exact ⟨t, o, a1, b1, b2, b3.1, b3.2⟩
section AGX
variable {p : Program} {l : Launch} {e : Env} {R : Room} {s : State} {m : MethodId} {args : Array Value} {below : List Frame} {meth : Method} {c : Code} {D : va_G} {cl : List vw_C} {tys : List (ClassId × FieldType)} {b nL fr lo : Nat} {H0 : Heap} {XK : State → Prop} {hh : List (Nat × Nat × Nat × Nat)} {cc : ByteArray} {own : String} {ret : Option FieldType} {Q : State → Prop} {pc : Nat} {lv : List (Nat × Value)} {rest : List Value} {w : cW}
/-- a return in a method that may throw -/
theorem ag_xret {Qp : Option Value → cW → Prop} {Xp : Nat → cW → Prop} {st : List Value} {mc ms : Nat} (h : AG p l e R s m args below meth c D cl b nL (MQ below (QX D cl b Qp) args s mc ms (fun q => b ≤ q)) pc lv st w) : AG p l e R s m args below meth c D cl b nL (MQX below (QXX D cl b Qp Xp) args s mc ms (fun q => b ≤ q)) pc lv st w := by
  intro H locs ls hG hS hl
  refine W.mono (fun t ht => ?_) (h H locs ls hG hS hl)
  obtain ⟨o, h1, h2, ⟨⟨v, w', h3, h4, h5⟩, h6⟩, L, h7, h8⟩ := ht
  exact ⟨o, h1, h2, ⟨Or.inl ⟨v, w', h3, h4, h5⟩, h6⟩, L, h7.2, h8⟩
theorem ag_athrow (E : EE p R s m args meth c cc nL own ret D cl tys b H0 XK hh fr lo) {Qp : Option Value → cW → Prop} {Xp : Nat → cW → Prop} {w0 : cW} (hw0 : s.heap.size = w0.2.1 ∧ us b s.heap = w0.2.2) {a : Nat} (hout : (tableOf hh).all (fun x => !covers x pc) = true) (hq : Xp a w) (hdg : decode cc pc = .ok (.athrow, 1)) : AG p l e R s m args below meth c D cl b nL (MQX below (QXX D cl b Qp Xp) args s (b + cB - w0.2.1) (sB - w0.2.2) (fun q => b ≤ q)) pc lv (.ref a :: rest) w := by
  intro H locs ls hG hS hl T hT X
  have h1 := stand_us X E.2.2.2.2.2.1
  rw [hT] at h1
  have hz := hS.1
  have X2 := stand_widen (k := b + cB - w0.2.1) (n := sB - w0.2.2) X (by have := hG.1; have := hG.2.2.1; have := hw0.1; omega) (by have := hG.2.1; have := hG.2.2.1; have := hw0.2; omega)
  obtain ⟨k1, k2, k3, k4, k5⟩ := X2.athrowLeaves E.1.1 (g := F0 m pc ls (.ref a :: rest)) rfl rfl rfl (outside_of_table E.2.2.2.2.2.2.2.2.2.2 hout) rfl (by rw [E.1.2.1]; exact hdg) E.2.2.2.1
  exact ⟨_, k1, .threw a, k2, k3, ⟨Or.inr ⟨a, w, rfl, hq, by show GW D cl b w T.heap; rw [hT]; exact hG⟩, hS.F (show (T.setFrames (.throwing a :: below)).heap = H from hT)⟩, locs, ⟨k4, k5⟩, hS.2.2⟩
end AGX
