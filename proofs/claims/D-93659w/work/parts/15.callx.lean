/-! CALLS OF METHODS THAT MAY THROW -/
set_option maxRecDepth 100000
section CXB
variable {p : Program} {l : Launch} {e : Env} {R : Room} {s : State} {sargs : Array Value} {below : List Frame} {y : MethodName}
theorem backx_of {ws : List Cond} {rm : Room} {Pc : Array Value → State → Prop} {Qc : Array Value → State → Outcome → State → Prop} {mc ms : Nat} {free : Addr → Prop} {bytes : ByteArray} {maxL : Nat} {ret : Option FieldType}
    (hM : MetX l y ws rm Pc Qc mc ms free) (hblind : FrameBlind Pc) (hrc : rm.cells = mc) (hrs : rm.slots = ms) (hframes : rm.frames + 1 ≤ R.frames) (hlocals : 8 + (maxL + 11) + rm.locals ≤ R.locals)
    (hws : ∀ w ∈ ws, ∀ (a' : Array Value) (U : State), s.WarmedH U.vm → w.before a' U = true) (hcode : Cond.code y bytes maxL ret ∈ ws) (hinit : ∀ (a' : Array Value) (U : State), s.WarmedH U.vm → (Cond.initialized y.cls).before a' U = true)
    {m : MethodId} {meth : Method} {c : Code} {U : State} {Ls : List Loc} {c0 s0 : Nat} {g : JFrame} {ig : Instr} {mk : MethodId} {a : Array Value} (X : Stand p l e R s m sargs below meth c U Ls c0 s0) (hg : g.method = m) (hsize : g.locals.size = c.maxLocals) (hdg : decode c.code g.pc = .ok (ig, 3)) (hW8 : 2 * g.monitorRoom + (g.stack.map fun v => v.category).sum ≤ 8) (hn : U.methodNamed? y = some mk) (hf : c0 + mc ≤ R.cells ∧ s0 + ms ≤ R.slots) (hp : Pc a U)
    (hoc : ∀ a st o t, Qc a st o t → (∃ v, o = .returned v) ∨ ∃ x, o = .threw x) :
    ∃ (o : Outcome) (t B : State) (L : List Loc), Stand p l e R s m sargs below meth c B (Ls ++ L) (c0 + mc) (s0 + ms) ∧ B.heap = t.heap ∧ B.vm = t.vm ∧ Qc a (U.calling g mk a) o t ∧ (∀ q ∈ L, free q.base) ∧
      ((∃ v, o = .returned v ∧ Steps p.tables e below (doInvoke e (U.setTop g) [] mk a).1 (B.setTop { g with pc := g.pc + 3, stack := v.toList ++ g.stack })) ∨ ∃ x, o = .threw x ∧ Steps p.tables e below (doInvoke e (U.setTop g) [] mk a).1 ((B.setTop g).pushFrame (.throwing x))) := by
  have h1 : (headSpec ws rm).pre.before a U = true := atoms_intro fun w hw => hws w hw _ _ X.warmed
  have h2 := hws _ hcode a U X.warmed
  have h3 := hinit a U X.warmed
  obtain ⟨methY, cY, hmY, hcY, -, hlY, -, -, -, -⟩ := Cond.code_spec hn h2
  obtain ⟨kY, hkY, -⟩ := className_of_methodNamed hn
  have hinitY : kY.init = .initialized := Cond.initialized_spec (findClass_of_methodNamed hn) hkY h3
  have h : At U g.method c below := by rw [hg]; exact X.here
  have happ : (headSpec ws rm).appliesLoose y e.platform (U.calling g mk a) = true :=
    Spec.appliesLoose_calling (g := g) h hdg hn hkY hinitY
      (X.room_calling (g := g) (R' := (headSpec ws rm).room) hsize hmY hcY hframes (by rw [hlY]; show 2 * g.monitorRoom + _ + (maxL + 11) + rm.locals ≤ _; omega) (by show c0 + rm.cells ≤ _; rw [hrc]; exact hf.1) (by show s0 + rm.slots ≤ _; rw [hrs]; exact hf.2)) h1
  obtain ⟨mid, hmid⟩ := h.above
  have hfr : (U.setTop g).frames = (.java g :: mid) ++ below := by rw [State.frames_setTop' g h.top, hmid]; rfl
  obtain ⟨o, s₂, hsteps, -, hend, hq⟩ := Steps.callFree hM p X.admits X.cas X.clock (acts := []) hfr happ (hblind _ _ _ _ hp) trivial
  have hq' : Qc a (U.calling g mk a) o s₂ := hq.1
  rw [State.frames_setTop' g h.top] at hend
  have hqa : ∃ L, FEX (U.calling g mk a) s₂ L mc ms ∧ ∀ q ∈ L, free q.base := hq.2
  obtain ⟨L, ⟨hW₂, e2, q2, q3, q4, q5, q6⟩, hL⟩ := hqa
  have e3 : s₂ = ({ (U.calling g mk a).setFrames s₂.frames with heap := s₂.heap, slotsUsed := s₂.slotsUsed } : State).setVm s₂.vm := by
    have : s₂ = ({ s₂ with vm := (U.calling g mk a).vm } : State).setVm s₂.vm := rfl
    rw [e2] at this
    exact this
  have hW' : U.WarmedH s₂.vm := hW₂
  obtain ⟨g₀, hg0⟩ := Option.isSome_iff_exists.mp h.top
  obtain ⟨r, hr⟩ := State.topJava?_eq_some.mp hg0
  have hsame : U.sameButNew ({ U with heap := s₂.heap, slotsUsed := s₂.slotsUsed } : State) L mc ms := by
    refine ⟨?_, q2, q3, q4, q5, q6⟩
    obtain ⟨t, ht, -⟩ := State.frames_cons hr
    show ({ U with heap := s₂.heap, slotsUsed := s₂.slotsUsed } : State) = { U.setFrames U.frames with heap := s₂.heap, slotsUsed := s₂.slotsUsed }
    rw [State.setFrames_self ht]
  have hr' : (({ U with heap := s₂.heap, slotsUsed := s₂.slotsUsed } : State).setVm s₂.vm).frames = .java g₀ :: r := hr
  have XB : Stand p l e R s m sargs below meth c (({ U with heap := s₂.heap, slotsUsed := s₂.slotsUsed } : State).setVm s₂.vm) (Ls ++ L) (c0 + mc) (s0 + ms) :=
    ⟨X.admits, X.cas, X.clock, X.frames, X.room, X.hears, X.method, X.code, (X.here.setHeapUsed s₂.heap s₂.slotsUsed).setVm hW'.alike, X.tail, State.WarmedH.trans X.warmed hW', X.limits, X.bytes, X.same.trans (hsame.setVm s.vm)⟩
  refine ⟨o, s₂, ({ U with heap := s₂.heap, slotsUsed := s₂.slotsUsed } : State).setVm s₂.vm, L, XB, rfl, rfl, hq', hL, ?_⟩
  rcases hoc _ _ _ _ hq' with ⟨v, rfl⟩ | ⟨x, rfl⟩
  · left
    obtain ⟨c₂, i₂, len₂, hc₂, hd₂, hf₂⟩ := hend
    have hcc : c₂ = c := by
      have h1 : s₂.code? g.method = U.code? g.method := by
        rw [State.code?_eq, State.code?_eq, hW'.alike.method?]
      exact Option.some.inj (hc₂.symm.trans (h1.trans h.code))
    subst hcc
    have hlen : len₂ = 3 := by rw [hdg] at hd₂; cases hd₂; rfl
    subst hlen
    have hs₂ : s₂ = (({ U with heap := s₂.heap, slotsUsed := s₂.slotsUsed } : State).setVm s₂.vm).setTop { g with pc := g.pc + 3, stack := v.toList ++ g.stack } := by
      refine e3.trans ?_
      rw [hf₂, State.calling_eq h.top, State.setFrames_setFrames, State.setTop_of_frames _ hr', hr]
      rfl
    refine ⟨v, rfl, ?_⟩
    rw [← hs₂]
    exact hsteps
  · right
    have hf₂ : s₂.frames = .throwing x :: .java g :: U.frames.tail := hend
    have hs₂ : s₂ = ((({ U with heap := s₂.heap, slotsUsed := s₂.slotsUsed } : State).setVm s₂.vm).setTop g).pushFrame (.throwing x) := by
      refine e3.trans ?_
      rw [hf₂, State.calling_eq h.top, State.setFrames_setFrames, State.pushFrame, State.frames_setTop _ hr', State.setTop_of_frames _ hr', State.setFrames_setFrames, hr]
      rfl
    refine ⟨x, rfl, ?_⟩
    rw [← hs₂]
    exact hsteps
end CXB
section AGC
variable {p : Program} {l : Launch} {e : Env} {R : Room} {s : State} {m : MethodId} {args : Array Value} {below : List Frame} {meth : Method} {c : Code} {D : va_G} {cl : List vw_C} {tys : List (ClassId × FieldType)} {b nL fr lo : Nat} {H0 : Heap} {XK : State → Prop} {hh : List (Nat × Nat × Nat × Nat)} {cc : ByteArray} {own : String} {ret : Option FieldType} {Q : State → Prop} {pc : Nat} {lv : List (Nat × Value)} {rest : List Value} {w : cW}
/-- what the machine does behind a throw that came out of a call at pc: 'kt' says how it goes on -/
def TH (p : Program) (l : Launch) (e : Env) (R : Room) (s : State) (m : MethodId) (args : Array Value) (below : List Frame) (meth : Method) (c : Code) (D : va_G) (cl : List vw_C) (b nL : Nat) (Q : State → Prop) (pc : Nat) (lv : List (Nat × Value)) (rest : List Value) (a : Nat) (w : cW) : Prop :=
  ∀ (T : State) (locs : List Loc) (ls : Array Slot), GW D cl b w T.heap → va_S (fun q => b ≤ q) s.heap T.heap locs → lv_has ls nL lv → Stand p l e R s m args below meth c T locs (T.heap.size - s.heap.size) (usd s T.heap) → ∃ t, Steps p.tables e below ((T.setTop (F0 m pc ls rest)).pushFrame (.throwing a)) t ∧ Q t
/-- the method itself ends by it: no handler of its own covers pc -/
theorem th_out (E : EE p R s m args meth c cc nL own ret D cl tys b H0 XK hh fr lo) {Qp : Option Value → cW → Prop} {Xp : Nat → cW → Prop} {w0 : cW} (hw0 : s.heap.size = w0.2.1 ∧ us b s.heap = w0.2.2) {a : Nat} (hout : (tableOf hh).all (fun x => !covers x pc) = true) (hq : Xp a w) : TH p l e R s m args below meth c D cl b nL (MQX below (QXX D cl b Qp Xp) args s (b + cB - w0.2.1) (sB - w0.2.2) (fun q => b ≤ q)) pc lv rest a w := by
  intro T locs ls hG hS hl X
  have h1 := stand_us X E.2.2.2.2.2.1
  have hz := hS.1
  have X2 := stand_widen (k := b + cB - w0.2.1) (n := sB - w0.2.2) X (by have := hG.1; have := hG.2.2.1; have := hw0.1; omega) (by have := hG.2.1; have := hG.2.2.1; have := hw0.2; omega)
  obtain ⟨k1, k2, k3, k4, k5⟩ := X2.leaveThrown a (g := F0 m pc ls rest) rfl rfl rfl (outside_of_table E.2.2.2.2.2.2.2.2.2.2 hout) E.2.2.2.1
  exact ⟨_, k1, .threw a, k2, k3, ⟨Or.inr ⟨a, w, rfl, hq, hG⟩, hS.F rfl⟩, locs, ⟨k4, k5⟩, hS.2.2⟩
theorem QXX_oc {Qp : Option Value → cW → Prop} {Xp : Nat → cW → Prop} (a : Array Value) (st : State) (o : Outcome) (t : State) (h : QXX D cl b Qp Xp a st o t) : (∃ v, o = .returned v) ∨ ∃ x, o = .threw x := by
  rcases h.1 with ⟨v, _, h, -⟩ | ⟨x, _, h, -⟩
  · exact Or.inl ⟨v, h⟩
  · exact Or.inr ⟨x, h⟩
/-- the end of both call rows -/
theorem ag_runx {Qp : Option Value → cW → Prop} {Xp : Nat → cW → Prop} {mc ms : Nat} {a : Array Value} {ls : Array Slot} {H : Heap} {locs : List Loc} {g0 : JFrame} {vm₁ : Vm} {mk : MethodId} {st₀ : State} {T : State} (hS : va_S (fun q => b ≤ q) s.heap H locs) (hl : lv_has ls nL lv) {cells slots : Nat}
    (hst₀ : st₀.heap = H)
    (hrun : ∃ (o : Outcome) (t B : State) (L : List Loc), Stand p l e R s m args below meth c B (locs ++ L) (cells + mc) (slots + ms) ∧ B.heap = t.heap ∧ B.vm = t.vm ∧ QXX D cl b Qp Xp a st₀ o t ∧ (∀ q ∈ L, b ≤ q.base) ∧
      ((∃ v, o = .returned v ∧ ∀ tg, Steps p.tables e below (B.setTop (F0 m (pc + 3) ls (v.toList ++ rest))) tg → Steps p.tables e below (T.setTop g0) tg) ∨ ∃ x, o = .threw x ∧ ∀ tg, Steps p.tables e below ((B.setTop (F0 m pc ls rest)).pushFrame (.throwing x)) tg → Steps p.tables e below (T.setTop g0) tg))
    (kk : ∀ (v : Option Value) (w' : cW), Qp v w' → AG p l e R s m args below meth c D cl b nL Q (pc + 3) lv (v.toList ++ rest) w')
    (kx : ∀ (x : Nat) (w' : cW), Xp x w' → TH p l e R s m args below meth c D cl b nL Q pc lv rest x w') : ∃ t, Steps p.tables e below (T.setTop g0) t ∧ Q t := by
  obtain ⟨o, t, B, L, XB, e1, e2, ⟨hq, hz, hk⟩, hL, hgo⟩ := hrun
  rw [hst₀] at hz hk
  have hS' : va_S (fun q => b ≤ q) s.heap B.heap (locs ++ L) := ⟨Nat.le_trans hS.1 (by rw [e1]; exact hz), fun q h1 h2 => by rw [e1, hk q (Nat.lt_of_lt_of_le h1 hS.1) h2]; exact hS.2.1 q h1 h2, fun q hq => by
      rcases List.mem_append.mp hq with h | h
      · exact hS.2.2 q h
      · exact hL q h⟩
  rcases hq with ⟨v, w', rfl, hp, hg⟩ | ⟨x, w', rfl, hp, hg⟩
  · rcases hgo with ⟨v', hv, hgo⟩ | ⟨x', hx, -⟩
    · cases hv
      obtain ⟨t2, a1, b1⟩ := W.exact (cells := cells + mc) (slots := slots + ms) (kk v w' hp B.heap (locs ++ L) ls (by rw [e1]; exact hg) hS' hl) B rfl XB
      exact ⟨t2, hgo t2 a1, b1⟩
    · cases hx
  · rcases hgo with ⟨v', hv, -⟩ | ⟨x', hx, hgo⟩
    · cases hv
    · cases hx
      obtain ⟨t2, a1, b1⟩ := kx x w' hp B (locs ++ L) ls (by rw [e1]; exact hg) hS' hl (stand_exact XB)
      exact ⟨t2, hgo t2 a1, b1⟩
theorem ag_callVX (E : EE p R s m args meth c cc nL own ret D cl tys b H0 XK hh fr lo) {C : String} {index n n2 a ci fr2 lo2 : Nat} {y : MethodName} {bytes : ByteArray} {maxL : Nat} {ret2 : Option FieldType} {V : Nat → Value} {As : List Value} {Qp : Option Value → cW → Prop} {Xp : Nat → cW → Prop} {T0 : u_T} (hP : w.1 a = some (.inr (ci, V))) (hc : cl[ci]? = some (C, T0, n2)) (hcon : CONX l D cl tys b H0 XK y bytes maxL ret2 fr2 lo2 (.ref a :: As) w Qp Xp) (hG0 : GoodIn lw_all (wsV own index C y (ws_ y bytes maxL ret2))) (hd : y.cls = C ∧ y.cls ≠ "java/lang/invoke/MethodHandle" ∧ y.cls ≠ "java/lang/invoke/VarHandle" ∧ (parseMethodDescriptor y.desc).map (fun d => d.parameters.length) = some n) (hfr : fr2 + 1 ≤ fr) (hlo : 8 + (maxL + 11) + lo2 ≤ lo) (hn : As.length = n) (hst : (rest.map fun v => v.category).sum ≤ 8) (hdg : decode cc pc = .ok (.invokevirtual index, 3))
    {st0 : List Value} (hst0 : st0 = As.reverse ++ .ref a :: rest) (kk : ∀ (v : Option Value) (w' : cW), Qp v w' → AG p l e R s m args below meth c D cl b nL Q (pc + 3) lv (v.toList ++ rest) w') (kx : ∀ (x : Nat) (w' : cW), Xp x w' → TH p l e R s m args below meth c D cl b nL Q pc lv rest x w') : AG p l e R s m args below meth c D cl b nL Q pc lv st0 w := by
  intro H locs ls hG hS hl T hT X
  have h1 := stand_us X E.2.2.2.2.2.1
  rw [hT] at h1
  have hz := hS.1
  have hO : ∀ q : Nat, q < b → H[q]? = H0[q]? := fun q hq => (hS.2.1 q (Nat.lt_of_lt_of_le hq E.2.2.2.2.2.1) (Nat.not_le.mpr hq)).trans (E.2.2.2.2.1 q hq)
  have r1 := E.2.2.2.2.2.2.1
  have r2 := E.2.2.2.2.2.2.2.1
  have g1 := hG.1
  have g2 := hG.2.1
  have g3 := hG.2.2.1
  have hf : H.size - s.heap.size + (b + cB - w.2.1) ≤ R.cells ∧ usd s H + (sB - w.2.2) ≤ R.slots := ⟨by rw [r1]; omega, by rw [r2]; omega⟩
  subst hst0
  obtain ⟨cb, hin, hse⟩ := cwV (R := R) (rm := rmC b fr2 lo2 w) (mc := b + cB - w.2.1) (ms := sB - w.2.2) n E.1.2.2.2.2 hG0 rfl rfl rfl hd ⟨Nat.le_trans hfr E.2.2.2.2.2.2.2.2.1, Nat.le_trans hlo E.2.2.2.2.2.2.2.2.2.1⟩
  obtain ⟨hrc, hrs, hfrR, hloR, hws, hcw, hcode, hini, hy, hlen, hlk⟩ := cb
  obtain ⟨-, r, k1, cellB, k2, k3, k4, -⟩ := hG.2.2.2 a _ hP
  have hr : r = (C, T0, n2) := Option.some.inj (k1.symm.trans hc)
  subst hr
  have hcls : s.vm.findClass C = some cellB.cls := by rw [k3]; exact (E.2.1.1.1 ci _ hc).2.1
  obtain ⟨mk, methM, hnamed, hmethM, hstM, habM⟩ := Cond.instanceMethod_spec hin
  obtain ⟨methM', cM, hmethM', -, -, -, -, -, -, hsigM⟩ := Cond.code_spec hnamed hcode
  cases hmethM.symm.trans hmethM'
  obtain ⟨c2, r2', m2, q1, q2, q3, q4, kP, hkP, hkPi⟩ := Cond.selects_spec hse
  cases hcls.symm.trans q1
  cases (State.methodFound?_of_named hnamed hy).symm.trans q2
  cases hnamed.symm.trans q3
  have hselP : selectMethod e.platform s.vm cellB.cls mk = .method mk := by rw [Launch.admits_selectMethod X.admits]; exact q4
  obtain ⟨vm₁, X₁, hstep₁⟩ := X.invokevirtual E.1.1 E.1.2.2.2.1 hlk hnamed hmethM hstM hkP hkPi hy (a := a) (cell := cellB) (by rw [hT]; exact k2)
    (fun z h => by rw [h] at k4; cases k4) hselP hmethM habM hkP hkPi (g := F0 m pc ls (As.reverse ++ .ref a :: rest)) rfl (argsL := As) (rest := rest) (hn.trans (hlen _ hsigM)) rfl (by rw [E.1.2.1]; exact hdg)
  obtain ⟨o, t, B, L, XB, e1, e2, hq, hL, hgo⟩ := backx_of (bytes := bytes) (maxL := maxL) (ret := ret2) hcon pcC_blind hrc hrs hfrR hloR hws hcw (fun a' U hW => word_at hW (Or.inl (by first | rfl | simp [Cond.onTables, Cond.keeps, Cond.steady])) hini) (g := F0 m pc ls rest) (ig := .invokevirtual index) (mk := mk) (a := (Value.ref a :: As).toArray) X₁ rfl (hl.1.trans E.1.2.2.1.symm) (by rw [E.1.2.1]; exact hdg) (lv_room hst) (X₁.named hnamed) hf
    ⟨rfl, kK.warm X₁.warmed E.2.1, by show GW D cl b w T.heap; rw [hT]; exact hG, by show ∀ q : Nat, q < b → T.heap[q]? = H0[q]?; rw [hT]; exact hO⟩ QXX_oc
  refine ag_runx (g0 := F0 m pc ls (As.reverse ++ .ref a :: rest)) (vm₁ := vm₁) (mk := mk) (st₀ := (T.setVm vm₁).calling (F0 m pc ls rest) mk (Value.ref a :: As).toArray) (a := (Value.ref a :: As).toArray) hS hl hT ⟨o, t, B, L, XB, e1, e2, hq, hL, ?_⟩ kk kx
  rcases hgo with ⟨v, rfl, hgo⟩ | ⟨x, rfl, hgo⟩
  · exact Or.inl ⟨v, rfl, fun tg h => hstep₁ _ fun acts => by rw [doInvoke_state]; exact hgo.trans h⟩
  · exact Or.inr ⟨x, rfl, fun tg h => hstep₁ _ fun acts => by rw [doInvoke_state]; exact hgo.trans h⟩
theorem ag_callSX (E : EE p R s m args meth c cc nL own ret D cl tys b H0 XK hh fr lo) {index n fr2 lo2 : Nat} {y : MethodName} {bytes : ByteArray} {maxL : Nat} {ret2 : Option FieldType} {As : List Value} {Qp : Option Value → cW → Prop} {Xp : Nat → cW → Prop} (hcon : CONX l D cl tys b H0 XK y bytes maxL ret2 fr2 lo2 As w Qp Xp) (hG0 : GoodIn lw_all (va_wsS own index y (ws_ y bytes maxL ret2))) (hd : y.cls ≠ "java/lang/invoke/MethodHandle" ∧ y.cls ≠ "java/lang/invoke/VarHandle" ∧ (parseMethodDescriptor y.desc).map (fun d => d.parameters.length) = some n) (hfr : fr2 + 1 ≤ fr) (hlo : 8 + (maxL + 11) + lo2 ≤ lo) (hn : As.length = n) (hst : (rest.map fun v => v.category).sum ≤ 8) (hdg : decode cc pc = .ok (.invokestatic index, 3))
    {st0 : List Value} (hst0 : st0 = As.reverse ++ rest) (kk : ∀ (v : Option Value) (w' : cW), Qp v w' → AG p l e R s m args below meth c D cl b nL Q (pc + 3) lv (v.toList ++ rest) w') (kx : ∀ (x : Nat) (w' : cW), Xp x w' → TH p l e R s m args below meth c D cl b nL Q pc lv rest x w') : AG p l e R s m args below meth c D cl b nL Q pc lv st0 w := by
  intro H locs ls hG hS hl T hT X
  have h1 := stand_us X E.2.2.2.2.2.1
  rw [hT] at h1
  have hz := hS.1
  have hO : ∀ q : Nat, q < b → H[q]? = H0[q]? := fun q hq => (hS.2.1 q (Nat.lt_of_lt_of_le hq E.2.2.2.2.2.1) (Nat.not_le.mpr hq)).trans (E.2.2.2.2.1 q hq)
  have r1 := E.2.2.2.2.2.2.1
  have r2 := E.2.2.2.2.2.2.2.1
  have g1 := hG.1
  have g2 := hG.2.1
  have g3 := hG.2.2.1
  have hf : H.size - s.heap.size + (b + cB - w.2.1) ≤ R.cells ∧ usd s H + (sB - w.2.2) ≤ R.slots := ⟨by rw [r1]; omega, by rw [r2]; omega⟩
  subst hst0
  obtain ⟨cb, hstt⟩ := va_cwS (R := R) (rm := rmC b fr2 lo2 w) (mc := b + cB - w.2.1) (ms := sB - w.2.2) n E.1.2.2.2.2 hG0 rfl rfl rfl hd ⟨Nat.le_trans hfr E.2.2.2.2.2.2.2.2.1, Nat.le_trans hlo E.2.2.2.2.2.2.2.2.2.1⟩
  obtain ⟨hrc, hrs, hfrR, hloR, hws, hcw, hcode, hini, hy, hlen, hlk⟩ := cb
  obtain ⟨mk, hnamed⟩ := Cond.code_named hcode
  obtain ⟨methM, cM, hmethM, -, -, -, -, -, -, hsigM⟩ := Cond.code_spec hnamed hcode
  have hstatic : methM.isStatic = true := Cond.static_spec hnamed hmethM hstt
  obtain ⟨kP, hkP, -⟩ := className_of_methodNamed hnamed
  have hinitP : kP.init = .initialized := Cond.initialized_spec (findClass_of_methodNamed hnamed) hkP hini
  obtain ⟨vm₁, X₁, hstep₁⟩ := X.invokestatic E.1.1 E.1.2.2.2.1 hlk hnamed hmethM hstatic hkP hinitP hy (g := F0 m pc ls (As.reverse ++ rest)) rfl (argsL := As) (rest := rest) (hn.trans (hlen _ hsigM)) rfl (by rw [E.1.2.1]; exact hdg)
  obtain ⟨o, t, B, L, XB, e1, e2, hq, hL, hgo⟩ := backx_of (bytes := bytes) (maxL := maxL) (ret := ret2) hcon pcC_blind hrc hrs hfrR hloR hws hcw (fun a' U hW => word_at hW (Or.inl (by first | rfl | simp [Cond.onTables, Cond.keeps, Cond.steady])) hini) (g := F0 m pc ls rest) (ig := .invokestatic index) (mk := mk) (a := As.toArray) X₁ rfl (hl.1.trans E.1.2.2.1.symm) (by rw [E.1.2.1]; exact hdg) (lv_room hst) (X₁.named hnamed) hf
    ⟨rfl, kK.warm X₁.warmed E.2.1, by show GW D cl b w T.heap; rw [hT]; exact hG, by show ∀ q : Nat, q < b → T.heap[q]? = H0[q]?; rw [hT]; exact hO⟩ QXX_oc
  refine ag_runx (g0 := F0 m pc ls (As.reverse ++ rest)) (vm₁ := vm₁) (mk := mk) (st₀ := (T.setVm vm₁).calling (F0 m pc ls rest) mk As.toArray) (a := As.toArray) hS hl hT ⟨o, t, B, L, XB, e1, e2, hq, hL, ?_⟩ kk kx
  rcases hgo with ⟨v, rfl, hgo⟩ | ⟨x, rfl, hgo⟩
  · exact Or.inl ⟨v, rfl, fun tg h => hstep₁ _ fun acts => by rw [doInvoke_state]; exact hgo.trans h⟩
  · exact Or.inr ⟨x, rfl, fun tg h => hstep₁ _ fun acts => by rw [doInvoke_state]; exact hgo.trans h⟩
end AGC
