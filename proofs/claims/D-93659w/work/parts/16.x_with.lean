/-! METHODS WITH HANDLERS: contract CONW (words wsW_), call row -/
set_option maxRecDepth 100000
def CONW (l : Launch) (D : va_G) (cl : List vw_C) (tys : List (ClassId × FieldType)) (b : Nat) (H0 : Heap) (XK : State → Prop) (y : MethodName) (cc : ByteArray) (nL : Nat) (ret : Option FieldType) (hh : List (Nat × Nat × Nat × Nat)) (fr lo : Nat) (av : List Value) (w : cW) (Qp : Option Value → cW → Prop) (Xp : Nat → cW → Prop) : Prop :=
  MetX l y (wsW_ y cc nL ret hh) (rmC b fr lo w) (pcC D cl tys b H0 XK av w) (QXX D cl b Qp Xp) (b + cB - w.2.1) (sB - w.2.2) (fun q => b ≤ q)
theorem conw_of {l : Launch} {D : va_G} {cl : List vw_C} {tys : List (ClassId × FieldType)} {b : Nat} {H0 : Heap} {XK : State → Prop} {y : MethodName} {cc : ByteArray} {nL : Nat} {ret : Option FieldType} {hh : List (Nat × Nat × Nat × Nat)} {fr lo : Nat} {av : List Value} {w : cW} {Qp : Option Value → cW → Prop} {Xp : Nat → cW → Prop} (hy : plainName y.cls = true) (hn : (lg_sl av).length ≤ nL)
    (k : ∀ (p : Program) (e : Env) (R : Room) (s : State) (m : MethodId) (below : List Frame) (meth : Method) (c : Code), EE p R s m av.toArray meth c cc nL y.cls ret D cl tys b H0 XK hh fr lo → (s.heap.size = w.2.1 ∧ us b s.heap = w.2.2) → (y.name = "<init>" → meth.name = "<init>") →
      AG p l e R s m av.toArray below meth c D cl b nL (MQX below (QXX D cl b Qp Xp) av.toArray s (b + cB - w.2.1) (sB - w.2.2) (fun q => b ≤ q)) 0 (lv_args 0 av) [] w) : CONW l D cl tys b H0 XK y cc nL ret hh fr lo av w Qp Xp := by
  unfold CONW MetX
  refine MetFree.of_bodyS (code := cc) (maxLocals := nL) (ret := ret) hy ?_ ?_
  · intro args s m h hn
    obtain ⟨m', meth, c, h0, h1, h2, h3, h4, -, h5, h6, -⟩ := Cond.codeWith_spec (atoms_spec (ws := wsW_ y cc nL ret hh) h _ List.mem_cons_self)
    cases hn.symm.trans h0
    exact ⟨meth, c, h1, h2, h3, h4, h5, h6⟩
  · intro p e s m args below meth c s₁ B hml hP _
    have hh0 : s₁.heap = s.heap := by rw [B.state]; rfl
    obtain ⟨rfl, hK, hG, hO⟩ := hP
    have hts := atoms_spec (ws := wsW_ y cc nL ret hh) B.pre
    have hno : c.exceptionTable.toList = tableOf hh := by
      obtain ⟨m', meth', c', h0, h1, h2, -, -, h5, -⟩ := Cond.codeWith_spec (hts _ List.mem_cons_self)
      cases B.named.symm.trans h0
      cases B.method.symm.trans h1
      cases (Stand.of_body B).code.symm.trans h2
      rw [← h5, table_eq]
    have hts : ∀ w ∈ lw_all, w.before _ s = true := fun w h => hts w (List.mem_cons_of_mem _ h)
    have hown : s.vm.findClass y.cls = some m.cls := findClass_of_methodNamed B.named
    have hb : b ≤ s.heap.size := by rw [hG.1]; exact hG.2.2.1.1
    have hl := lv_entry av (n := nL) hn
    have hz : s.heap.size - s.heap.size = 0 := Nat.sub_self _
    have hu : usd s s.heap = 0 := by
      rw [usd, us, List.drop_of_length_le (by simp)]
      rfl
    have K := k p e (headSpec (wsW_ y cc nL ret hh) (rmC b fr lo w)).room s m below meth c ⟨⟨B.exec, B.bytes, hml, hown, hts⟩, hK, B.returns, B.notSynchronized, hO, hb, by rw [hG.1]; rfl, by rw [hG.2.1]; rfl, Nat.le_refl _, Nat.le_refl _, hno⟩ ⟨hG.1, hG.2.1⟩ (fun h => (name_of_methodNamed B.named B.method).1.trans h) s.heap [] _ hG va_S.rf hl
    rw [hz, hu] at K
    have K2 : W p l e (headSpec (wsW_ y cc nL ret hh) (rmC b fr lo w)).room s m av.toArray below meth c s.heap [] 0 0 (MQX below (QXX D cl b Qp Xp) av.toArray s (b + cB - w.2.1) (sB - w.2.2) (fun q => b ≤ q)) (entryFrame m av.toArray nL) := by
      rw [lg_entry_eq]
      exact K
    obtain ⟨t, a1, o, b1, b2, b3⟩ := K2 s₁ hh0 (Stand.of_body B)
    exact ⟨t, o, a1, b1, b2, b3.1, b3.2⟩

section CXB
variable {p : Program} {l : Launch} {e : Env} {R : Room} {s : State} {sargs : Array Value} {below : List Frame} {y : MethodName}
theorem backx_ofW {ws : List Cond} {rm : Room} {Pc : Array Value → State → Prop} {Qc : Array Value → State → Outcome → State → Prop} {mc ms : Nat} {free : Addr → Prop} {bytes : ByteArray} {maxL : Nat} {ret : Option FieldType} {hh : List (Nat × Nat × Nat × Nat)}
    (hM : MetX l y ws rm Pc Qc mc ms free) (hblind : FrameBlind Pc) (hrc : rm.cells = mc) (hrs : rm.slots = ms) (hframes : rm.frames + 1 ≤ R.frames) (hlocals : 8 + (maxL + 11) + rm.locals ≤ R.locals)
    (hws : ∀ w ∈ ws, ∀ (a' : Array Value) (U : State), s.WarmedH U.vm → w.before a' U = true) (hcode : Cond.codeWith y bytes maxL ret hh ∈ ws) (hinit : ∀ (a' : Array Value) (U : State), s.WarmedH U.vm → (Cond.initialized y.cls).before a' U = true)
    {m : MethodId} {meth : Method} {c : Code} {U : State} {Ls : List Loc} {c0 s0 : Nat} {g : JFrame} {ig : Instr} {mk : MethodId} {a : Array Value} (X : Stand p l e R s m sargs below meth c U Ls c0 s0) (hg : g.method = m) (hsize : g.locals.size = c.maxLocals) (hdg : decode c.code g.pc = .ok (ig, 3)) (hW8 : 2 * g.monitorRoom + (g.stack.map fun v => v.category).sum ≤ 8) (hn : U.methodNamed? y = some mk) (hf : c0 + mc ≤ R.cells ∧ s0 + ms ≤ R.slots) (hp : Pc a U)
    (hoc : ∀ a st o t, Qc a st o t → (∃ v, o = .returned v) ∨ ∃ x, o = .threw x) :
    ∃ (o : Outcome) (t B : State) (L : List Loc), Stand p l e R s m sargs below meth c B (Ls ++ L) (c0 + mc) (s0 + ms) ∧ B.heap = t.heap ∧ B.vm = t.vm ∧ Qc a (U.calling g mk a) o t ∧ (∀ q ∈ L, free q.base) ∧
      ((∃ v, o = .returned v ∧ Steps p.tables e below (doInvoke e (U.setTop g) [] mk a).1 (B.setTop { g with pc := g.pc + 3, stack := v.toList ++ g.stack })) ∨ ∃ x, o = .threw x ∧ Steps p.tables e below (doInvoke e (U.setTop g) [] mk a).1 ((B.setTop g).pushFrame (.throwing x))) := by
  have h1 : (headSpec ws rm).pre.before a U = true := atoms_intro fun w hw => hws w hw _ _ X.warmed
  have h2 := hws _ hcode a U X.warmed
  have h3 := hinit a U X.warmed
  obtain ⟨mY, methY, cY, hnY, hmY, hcY, -, hlY, -, -, -, -⟩ := Cond.codeWith_spec h2
  cases hn.symm.trans hnY
  obtain ⟨kY, hkY, -⟩ := className_of_methodNamed hn
  have hinitY : kY.init = .initialized := Cond.initialized_spec (findClass_of_methodNamed hn) hkY h3
  have h : At U g.method c below := by rw [hg]; exact X.here
  have happ : (headSpec ws rm).appliesLoose y e.platform (U.calling g mk a) = true :=
    Spec.appliesLoose_calling (g := g) h hdg hn hkY hinitY
      (X.room_calling (g := g) (R' := (headSpec ws rm).room) hsize hmY hcY hframes (by rw [hlY]; show 2 * g.monitorRoom + _ + (maxL + 11) + rm.locals ≤ _; omega) (by show c0 + rm.cells ≤ _; rw [hrc]; exact hf.1) (by show s0 + rm.slots ≤ _; rw [hrs]; exact hf.2)) h1
  obtain ⟨mid, hmid⟩ := h.above
  have hfr : (U.setTop g).frames = (.java g :: mid) ++ below := by rw [State.frames_setTop' g h.top, hmid]; rfl
  obtain ⟨o, s₂, hsteps, -, hend, hq⟩ := Steps.callFree hM p X.admits X.cas X.clock (acts := []) hfr happ (hblind _ _ _ _ hp) trivial
  have hq' : Qc a (U.calling g mk a) o s₂ := hq.1
  rw [State.frames_setTop' g h.top] at hend
  have hqa : ∃ L, FEX (U.calling g mk a) s₂ L mc ms ∧ ∀ q ∈ L, free q.base := hq.2
  obtain ⟨L, ⟨hW₂, e2, q2, q3, q4, q5, q6⟩, hL⟩ := hqa
  have e3 : s₂ = ({ (U.calling g mk a).setFrames s₂.frames with heap := s₂.heap, slotsUsed := s₂.slotsUsed } : State).setVm s₂.vm := by
    have : s₂ = ({ s₂ with vm := (U.calling g mk a).vm } : State).setVm s₂.vm := rfl
    rw [e2] at this
    exact this
  have hW' : U.WarmedH s₂.vm := hW₂
  obtain ⟨g₀, hg0⟩ := Option.isSome_iff_exists.mp h.top
  obtain ⟨r, hr⟩ := State.topJava?_eq_some.mp hg0
  have hsame : U.sameButNew ({ U with heap := s₂.heap, slotsUsed := s₂.slotsUsed } : State) L mc ms := by
    refine ⟨?_, q2, q3, q4, q5, q6⟩
    obtain ⟨t, ht, -⟩ := State.frames_cons hr
    show ({ U with heap := s₂.heap, slotsUsed := s₂.slotsUsed } : State) = { U.setFrames U.frames with heap := s₂.heap, slotsUsed := s₂.slotsUsed }
    rw [State.setFrames_self ht]
  have hr' : (({ U with heap := s₂.heap, slotsUsed := s₂.slotsUsed } : State).setVm s₂.vm).frames = .java g₀ :: r := hr
  have XB : Stand p l e R s m sargs below meth c (({ U with heap := s₂.heap, slotsUsed := s₂.slotsUsed } : State).setVm s₂.vm) (Ls ++ L) (c0 + mc) (s0 + ms) :=
    ⟨X.admits, X.cas, X.clock, X.frames, X.room, X.hears, X.method, X.code, (X.here.setHeapUsed s₂.heap s₂.slotsUsed).setVm hW'.alike, X.tail, State.WarmedH.trans X.warmed hW', X.limits, X.bytes, X.same.trans (hsame.setVm s.vm)⟩
  refine ⟨o, s₂, ({ U with heap := s₂.heap, slotsUsed := s₂.slotsUsed } : State).setVm s₂.vm, L, XB, rfl, rfl, hq', hL, ?_⟩
  rcases hoc _ _ _ _ hq' with ⟨v, rfl⟩ | ⟨x, rfl⟩
  · left
    obtain ⟨c₂, i₂, len₂, hc₂, hd₂, hf₂⟩ := hend
    have hcc : c₂ = c := by
      have h1 : s₂.code? g.method = U.code? g.method := by
        rw [State.code?_eq, State.code?_eq, hW'.alike.method?]
      exact Option.some.inj (hc₂.symm.trans (h1.trans h.code))
    subst hcc
    have hlen : len₂ = 3 := by rw [hdg] at hd₂; cases hd₂; rfl
    subst hlen
    have hs₂ : s₂ = (({ U with heap := s₂.heap, slotsUsed := s₂.slotsUsed } : State).setVm s₂.vm).setTop { g with pc := g.pc + 3, stack := v.toList ++ g.stack } := by
      refine e3.trans ?_
      rw [hf₂, State.calling_eq h.top, State.setFrames_setFrames, State.setTop_of_frames _ hr', hr]
      rfl
    refine ⟨v, rfl, ?_⟩
    rw [← hs₂]
    exact hsteps
  · right
    have hf₂ : s₂.frames = .throwing x :: .java g :: U.frames.tail := hend
    have hs₂ : s₂ = ((({ U with heap := s₂.heap, slotsUsed := s₂.slotsUsed } : State).setVm s₂.vm).setTop g).pushFrame (.throwing x) := by
      refine e3.trans ?_
      rw [hf₂, State.calling_eq h.top, State.setFrames_setFrames, State.pushFrame, State.frames_setTop _ hr', State.setTop_of_frames _ hr', State.setFrames_setFrames, hr]
      rfl
    refine ⟨x, rfl, ?_⟩
    rw [← hs₂]
    exact hsteps
end CXB

section AGC
variable {p : Program} {l : Launch} {e : Env} {R : Room} {s : State} {m : MethodId} {args : Array Value} {below : List Frame} {meth : Method} {c : Code} {D : va_G} {cl : List vw_C} {tys : List (ClassId × FieldType)} {b nL fr lo : Nat} {H0 : Heap} {XK : State → Prop} {hh : List (Nat × Nat × Nat × Nat)} {cc : ByteArray} {own : String} {ret : Option FieldType} {Q : State → Prop} {pc : Nat} {lv : List (Nat × Value)} {rest : List Value} {w : cW}
theorem ag_callVW (E : EE p R s m args meth c cc nL own ret D cl tys b H0 XK hh fr lo) {C : String} {index n n2 a ci fr2 lo2 : Nat} {y : MethodName} {bytes : ByteArray} {maxL : Nat} {ret2 : Option FieldType} {hh2 : List (Nat × Nat × Nat × Nat)} {V : Nat → Value} {As : List Value} {Qp : Option Value → cW → Prop} {Xp : Nat → cW → Prop} {T0 : u_T} (hP : w.1 a = some (.inr (ci, V))) (hc : cl[ci]? = some (C, T0, n2)) (hcon : CONW l D cl tys b H0 XK y bytes maxL ret2 hh2 fr2 lo2 (.ref a :: As) w Qp Xp) (hG0 : GoodIn lw_all (wsV own index C y (wsW_ y bytes maxL ret2 hh2))) (hd : y.cls = C ∧ y.cls ≠ "java/lang/invoke/MethodHandle" ∧ y.cls ≠ "java/lang/invoke/VarHandle" ∧ (parseMethodDescriptor y.desc).map (fun d => d.parameters.length) = some n) (hfr : fr2 + 1 ≤ fr) (hlo : 8 + (maxL + 11) + lo2 ≤ lo) (hn : As.length = n) (hst : (rest.map fun v => v.category).sum ≤ 8) (hdg : decode cc pc = .ok (.invokevirtual index, 3))
    {st0 : List Value} (hst0 : st0 = As.reverse ++ .ref a :: rest) (kk : ∀ (v : Option Value) (w' : cW), Qp v w' → AG p l e R s m args below meth c D cl b nL Q (pc + 3) lv (v.toList ++ rest) w') (kx : ∀ (x : Nat) (w' : cW), Xp x w' → TH p l e R s m args below meth c D cl b nL Q pc lv rest x w') : AG p l e R s m args below meth c D cl b nL Q pc lv st0 w := by
  intro H locs ls hG hS hl T hT X
  have h1 := stand_us X E.2.2.2.2.2.1
  rw [hT] at h1
  have hz := hS.1
  have hO : ∀ q : Nat, q < b → H[q]? = H0[q]? := fun q hq => (hS.2.1 q (Nat.lt_of_lt_of_le hq E.2.2.2.2.2.1) (Nat.not_le.mpr hq)).trans (E.2.2.2.2.1 q hq)
  have r1 := E.2.2.2.2.2.2.1
  have r2 := E.2.2.2.2.2.2.2.1
  have g1 := hG.1
  have g2 := hG.2.1
  have g3 := hG.2.2.1
  have hf : H.size - s.heap.size + (b + cB - w.2.1) ≤ R.cells ∧ usd s H + (sB - w.2.2) ≤ R.slots := ⟨by rw [r1]; omega, by rw [r2]; omega⟩
  subst hst0
  obtain ⟨hC0, hd1, hd2, hd3⟩ := hd
  subst hC0
  have ok : ∀ w ∈ wsV own index y.cls y (wsW_ y bytes maxL ret2 hh2), w.before args s = true := fun w h => E.1.2.2.2.2 w (hG0 w h).1
  have hin := ok (.instanceMethod y) (by simp [wsV])
  have hse := ok (.selects y.cls y y) (by simp [wsV])
  have hlk := ok (.methodLink own index y) (by simp [wsV])
  have hini := ok (.initialized y.cls) (by simp [wsV])
  have hcode := ok (.codeWith y bytes maxL ret2 hh2) (by simp [wsV])
  have hws := pay_in E.1.2.2.2.2 (fun w h => hG0 w (by unfold wsV; exact List.mem_append_right _ h) : GoodIn lw_all (wsW_ y bytes maxL ret2 hh2))
  have hcw : Cond.codeWith y bytes maxL ret2 hh2 ∈ wsW_ y bytes maxL ret2 hh2 := List.mem_cons_self
  have hy : y.cls ≠ "java/lang/invoke/MethodHandle" ∧ y.cls ≠ "java/lang/invoke/VarHandle" := ⟨hd1, hd2⟩
  have hfrR : fr2 + 1 ≤ R.frames := Nat.le_trans hfr E.2.2.2.2.2.2.2.2.1
  have hloR : 8 + (maxL + 11) + lo2 ≤ R.locals := Nat.le_trans hlo E.2.2.2.2.2.2.2.2.2.1
  have hlen : ∀ sig, parseMethodDescriptor y.desc = some sig → n = sig.parameters.length := fun sig h => by
    rw [h] at hd3
    exact (Option.some.inj hd3).symm
  obtain ⟨-, r, k1, cellB, k2, k3, k4, -⟩ := hG.2.2.2 a _ hP
  have hr : r = (y.cls, T0, n2) := Option.some.inj (k1.symm.trans hc)
  subst hr
  have hcls : s.vm.findClass y.cls = some cellB.cls := by rw [k3]; exact (E.2.1.1.1 ci _ hc).2.1
  obtain ⟨mk, methM, hnamed, hmethM, hstM, habM⟩ := Cond.instanceMethod_spec hin
  obtain ⟨m3, methM', cM, hnamed', hmethM', -, -, -, -, -, -, hsigM⟩ := Cond.codeWith_spec hcode
  cases hnamed.symm.trans hnamed'
  cases hmethM.symm.trans hmethM'
  obtain ⟨c2, r2', m2, q1, q2, q3, q4, kP, hkP, hkPi⟩ := Cond.selects_spec hse
  cases hcls.symm.trans q1
  cases (State.methodFound?_of_named hnamed hy).symm.trans q2
  cases hnamed.symm.trans q3
  have hselP : selectMethod e.platform s.vm cellB.cls mk = .method mk := by rw [Launch.admits_selectMethod X.admits]; exact q4
  obtain ⟨vm₁, X₁, hstep₁⟩ := X.invokevirtual E.1.1 E.1.2.2.2.1 hlk hnamed hmethM hstM hkP hkPi hy (a := a) (cell := cellB) (by rw [hT]; exact k2)
    (fun z h => by rw [h] at k4; cases k4) hselP hmethM habM hkP hkPi (g := F0 m pc ls (As.reverse ++ .ref a :: rest)) rfl (argsL := As) (rest := rest) (hn.trans (hlen _ hsigM)) rfl (by rw [E.1.2.1]; exact hdg)
  obtain ⟨o, t, B, L, XB, e1, e2, hq, hL, hgo⟩ := backx_ofW (rm := rmC b fr2 lo2 w) (mc := b + cB - w.2.1) (ms := sB - w.2.2) (bytes := bytes) (maxL := maxL) (ret := ret2) hcon pcC_blind rfl rfl hfrR hloR hws hcw (fun a' U hW => word_at hW (Or.inl (by first | rfl | simp [Cond.onTables, Cond.keeps, Cond.steady])) hini) (g := F0 m pc ls rest) (ig := .invokevirtual index) (mk := mk) (a := (Value.ref a :: As).toArray) X₁ rfl (hl.1.trans E.1.2.2.1.symm) (by rw [E.1.2.1]; exact hdg) (lv_room hst) (X₁.named hnamed) hf
    ⟨rfl, kK.warm X₁.warmed E.2.1, by show GW D cl b w T.heap; rw [hT]; exact hG, by show ∀ q : Nat, q < b → T.heap[q]? = H0[q]?; rw [hT]; exact hO⟩ QXX_oc
  refine ag_runx (g0 := F0 m pc ls (As.reverse ++ .ref a :: rest)) (vm₁ := vm₁) (mk := mk) (st₀ := (T.setVm vm₁).calling (F0 m pc ls rest) mk (Value.ref a :: As).toArray) (a := (Value.ref a :: As).toArray) hS hl hT ⟨o, t, B, L, XB, e1, e2, hq, hL, ?_⟩ kk kx
  rcases hgo with ⟨v, rfl, hgo⟩ | ⟨x, rfl, hgo⟩
  · exact Or.inl ⟨v, rfl, fun tg h => hstep₁ _ fun acts => by rw [doInvoke_state]; exact hgo.trans h⟩
  · exact Or.inr ⟨x, rfl, fun tg h => hstep₁ _ fun acts => by rw [doInvoke_state]; exact hgo.trans h⟩
end AGC
