/-! A HANDLER CATCHES: the catch type may be resolved by the search itself -/
set_option maxRecDepth 100000
section CATCH
variable {E : CtlPost} {e : Env} {d : Bool} {acts : List Action} {s : State} {f : JFrame} {a : Addr} {Q : Handler → Pre}
theorem go_cold {x : ExceptionTableEntry} {t : List ExceptionTableEntry} {c : ClassId} {cell : Cell} {vm' : Vm} (hx : covers x f.pc = true) (h0 : x.catchType ≠ 0)
    (hg : (resolveClass f.method.cls x.catchType).Gives e.toSetting s.vm (.ok c) vm') (hsz : vm'.classes.size ≤ s.vm.classes.size) (hcell : s.heap[a]? = some cell) (hobj : ∀ k, cell.vm ≠ .statics k)
    (hk : ∃ k, vm'.classes[cell.cls]? = some k) (hc : ∃ k, vm'.classes[c]? = some k) (hfit : vm'.assignable cell.cls c = true) :
    wp (findHandler.go f a (x :: t)) Q E e d acts s ↔ Q (.found x.handlerPc) d acts (s.setVm vm') := by
  obtain ⟨ha, ht⟩ := hg.op (op := VmOp.resolveClass f.method.cls x.catchType) rfl
  simp only [covers] at hx
  simp [findHandler.go, hx, h0, ha, VmOp.lands_eq (s := s) ht hsz, hcell, hobj, hk, hc, hfit, VmOp.dirties, VmOp.acts]
def FindsC (e : Env) (s : State) (f : JFrame) (a : Addr) (pc : Nat) (vm' : Vm) : Prop :=
  ∀ (Q : Handler → Pre) (E : CtlPost) (d : Bool) (acts : List Action), wp (findHandler f a) Q E e d acts s ↔ Q (.found pc) d acts (s.setVm vm')
theorem stepThrowing_catchC {r : List Frame} {pc : Nat} {vm' : Vm} (hfind : FindsC e s f a pc vm') :
    (stepThrowing e s a (.java f :: r)).Is ((s.setVm vm').setFrames (.java { f with pc := pc, stack := [.ref a] } :: r)) [] := by
  simp only [stepThrowing, searchFrame, vmDo]
  generalize hr : Sem.go _ e false [] s = res
  obtain ⟨as, rfl, ha⟩ := Sem.eq_ok_of hr (a := Handler.found pc) (s' := s.setVm vm') (acts' := []) (by simp [hfind _ _ _ _])
  exact ⟨rfl, ha⟩
theorem caughtC {tb : Tables} {target : State} {g : JFrame} {c : Code} {below : List Frame} (h : At s g.method c below) {pc : Nat} {vm' : Vm} (hfind : FindsC e ((s.setTop g).pushFrame (.throwing a)) g a pc vm')
    (hrest : Steps tb e below ((s.setVm vm').setTop { g with pc := pc, stack := [.ref a] }) target) :
    Steps tb e below ((s.setTop g).pushFrame (.throwing a)) target := by
  obtain ⟨hgo, hw⟩ := h.throwing a
  refine Steps.head hgo hw ?_
  rw [stepThread_throwing (frames_entered h.top _), (stepThrowing_catchC (s := (s.setTop g).pushFrame (.throwing a)) hfind).1]
  obtain ⟨g₀, hg⟩ := Option.isSome_iff_exists.mp h.top
  obtain ⟨r, hr⟩ := State.topJava?_eq_some.mp hg
  have hr' : (s.setVm vm').frames = .java g₀ :: r := hr
  rw [State.setTop_of_frames _ hr'] at hrest
  have e1 : (((s.setTop g).pushFrame (.throwing a)).setVm vm').setFrames (.java { g with pc := pc, stack := [.ref a] } :: s.frames.tail) = (s.setVm vm').setFrames (.java { g with pc := pc, stack := [.ref a] } :: r) := by
    rw [State.setTop_of_frames _ hr, hr]
    show (((s.setFrames _).setFrames _).setVm vm').setFrames _ = _
    rw [State.setFrames_setFrames]
    show ((s.setVm vm').setFrames _).setFrames _ = _
    rw [State.setFrames_setFrames]
    rfl
  rw [e1]
  exact hrest
end CATCH
section THC
variable {p : Program} {l : Launch} {e : Env} {R : Room} {s : State} {m : MethodId} {args : Array Value} {below : List Frame} {meth : Method} {c : Code} {D : va_G} {cl : List vw_C} {tys : List (ClassId × FieldType)} {b nL fr lo : Nat} {H0 : Heap} {XK : State → Prop} {hh : List (Nat × Nat × Nat × Nat)} {cc : ByteArray} {own : String} {ret : Option FieldType} {Q : State → Prop} {pc : Nat} {lv : List (Nat × Value)} {rest : List Value} {w : cW}
/-- the method's own handler x catches: the exception is of just the class that x names -/
theorem th_catch (E : EE p R s m args meth c cc nL own ret D cl tys b H0 XK hh fr lo) (pre post : List (Nat × Nat × Nat × Nat)) (x : Nat × Nat × Nat × Nat) {a ci n2 : Nat} {C : String} {T0 : u_T} {V : Nat → Value} (hsp : hh = pre ++ x :: post) (hskip : (tableOf pre).all (fun y => !covers y pc) = true) (hx : covers ⟨x.1, x.2.1, x.2.2.1, x.2.2.2⟩ pc = true) (h0 : x.2.2.2 ≠ 0) (hlink : Cond.classLink own x.2.2.2 C ∈ lw_all) (hc : cl[ci]? = some (C, T0, n2)) (hP : w.1 a = some (.inr (ci, V)))
    (kk : AG p l e R s m args below meth c D cl b nL Q x.2.2.1 lv [.ref a] w) : TH p l e R s m args below meth c D cl b nL Q pc lv rest a w := by
  intro T locs ls hG hS hl X
  obtain ⟨-, r, k1, cell, k2, k3, k4, -⟩ := hG.2.2.2 a _ hP
  have hr : r = (C, T0, n2) := Option.some.inj (k1.symm.trans hc)
  subst hr
  have hat := (E.2.1.1.1 ci _ hc).2
  have hpl : e.platform.magicAccessors = ({} : Platform).magicAccessors := by rw [X.admits.platform]
  obtain ⟨cT, hcT, hcl⟩ := Cond.classLink_spec E.1.2.2.2.1 (E.1.2.2.2.2 _ hlink) e.platform hpl
  have hcT2 : cT = D.1 ci := Option.some.inj (hcT.symm.trans hat.1)
  obtain ⟨dk, _, _, kt, hd, _, _, _, _, hkt, _, hopen⟩ := hcl.here
  have hcl₀ := X.warmed.classLinks hcl
  have hW' : s.WarmedH (T.vm.noted m.cls x.2.2.2 (.cls cT)) := X.warmed.noted hd hopen (State.rightAt_cls hcl)
  obtain ⟨kt', hkt', -⟩ := hW'.alike.2.2 _ _ hkt
  have hasg : s.vm.assignable cell.cls cT = true := by rw [k3, hcT2]; exact va_assign hat
  have hasg' : (T.vm.noted m.cls x.2.2.2 (.cls cT)).assignable cell.cls cT = true := by rw [hW'.alike.assignable]; exact hasg
  have hsz : (T.vm.noted m.cls x.2.2.2 (.cls cT)).classes.size ≤ T.vm.classes.size := by no_record
  have XN := X.noted hW'
  have hfind : FindsC e ((T.setTop (F0 m pc ls rest)).pushFrame (.throwing a)) (F0 m pc ls rest) a x.2.2.1 (T.vm.noted m.cls x.2.2.2 (.cls cT)) := by
    intro Q0 E0 d0 acts0
    have hvm := Stand.throwing_vm T (F0 m pc ls rest) a
    have hhp := Stand.throwing_heap T (F0 m pc ls rest) a
    rw [W.findHandler_eq (meth := meth) (code := c) (by rw [hvm]; exact X.method') X.code, E.2.2.2.2.2.2.2.2.2.2, hsp]
    have hpre : ∀ y ∈ tableOf pre, covers y pc = false := by
      intro y hy
      have h1 := List.all_eq_true.mp hskip y hy
      cases hcv : covers y pc with
      | false => rfl
      | true => rw [hcv] at h1; exact absurd h1 (by decide)
    have hsplit : tableOf (pre ++ x :: post) = tableOf pre ++ ⟨x.1, x.2.1, x.2.2.1, x.2.2.2⟩ :: tableOf post := by simp [tableOf]
    rw [hsplit]
    generalize tableOf pre = tp at hpre
    induction tp with
    | nil =>
      refine go_cold (c := cT) (cell := cell) hx h0 ?_ ?_ (by rw [hhp]; exact k2) (VmData.ne_statics_of (by rw [k4]; rfl)) (Vm.classAt_of_assignable hasg' ⟨kt', hkt'⟩) ⟨kt', hkt'⟩ hasg'
      · rw [hvm]
        exact resolveClass_links e.toSetting hcl₀
      · rw [hvm]
        exact hsz
    | cons y ys ih =>
      rw [List.cons_append, W.findHandler_go_skip (hpre y (List.mem_cons_self ..))]
      exact ih (fun z hz => hpre z (List.mem_cons_of_mem _ hz))
  have K := kk T.heap locs ls hG hS hl (T.setVm (T.vm.noted m.cls x.2.2.2 (.cls cT))) rfl XN
  obtain ⟨t, a1, b1⟩ := K
  exact ⟨t, caughtC X.here hfind a1, b1⟩
end THC
