/-! rows for what lay in the heap ahead of the law (statics, constants: nobody writes it), arraycopy, classes as objects, interface calls -/
set_option maxRecDepth 100000
section AGK
variable {p : Program} {l : Launch} {e : Env} {R : Room} {s : State} {m : MethodId} {args : Array Value} {below : List Frame} {meth : Method} {c : Code} {D : va_G} {cl : List vw_C} {tys : List (ClassId × FieldType)} {b nL fr lo : Nat} {H0 : Heap} {XK : State → Prop} {hh : List (Nat × Nat × Nat × Nat)} {cc : ByteArray} {own : String} {ret : Option FieldType} {Q : State → Prop} {pc : Nat} {lv : List (Nat × Value)} {rest : List Value} {w : cW}
theorem ee_old (E : EE p R s m args meth c cc nL own ret D cl tys b H0 XK hh fr lo) : ∀ a : Nat, a < H0.size → ¬ b ≤ a → s.heap[a]? = H0[a]? := fun a _ h => E.2.2.2.2.1 a (Nat.not_le.mp h)
theorem ag_gets (E : EE p R s m args meth c cc nL own ret D cl tys b H0 XK hh fr lo) {C n d ref : String} {v : Value} {index : Nat} (hZ : XK s → va_Z C n d v (fun q => b ≤ q) s H0) (hlk : Cond.fieldLink own index ref n d ∈ lw_all) (hsame : ∀ x, s.fieldFound? C n d = some x → s.fieldFound? ref n d = some x) (hdg : decode cc pc = .ok (.getstatic index, 3)) (kk : AG p l e R s m args below meth c D cl b nL Q (pc + 3) lv (v :: rest) w) : AG p l e R s m args below meth c D cl b nL Q pc lv rest w := fun H locs ls hG hS hl => va_gets E.1.1 E.1.2.1 ((hZ E.2.1.2.1).kept (ee_old E)) hS E.1.2.2.2.1 (E.1.2.2.2.2 _ hlk) hsame hdg (kk H locs ls hG hS hl)
theorem ag_getsN (E : EE p R s m args meth c cc nL own ret D cl tys b H0 XK hh fr lo) {C n d ref host : String} {v : Value} {index : Nat} (hZ : XK s → va_Z C n d v (fun q => b ≤ q) s H0) (hlk : XK s → va_Nw (.fieldLinkNest own index ref n d host) s) (hsame : ∀ x, s.fieldFound? C n d = some x → s.fieldFound? ref n d = some x) (hdg : decode cc pc = .ok (.getstatic index, 3)) (kk : AG p l e R s m args below meth c D cl b nL Q (pc + 3) lv (v :: rest) w) : AG p l e R s m args below meth c D cl b nL Q pc lv rest w := fun H locs ls hG hS hl => va_getsN E.1.1 E.1.2.1 ((hZ E.2.1.2.1).kept (ee_old E)) hS E.1.2.2.2.1 (va_Nw.use rfl (hlk E.2.1.2.1)) hsame hdg (kk H locs ls hG hS hl)
theorem ag_tlen (E : EE p R s m args meth c cc nL own ret D cl tys b H0 XK hh fr lo) {ty : FieldType} {t N : Nat} {f : Nat → Value} {v : Int32} (hT : XK s → va_T ty t N f (fun q => b ≤ q) s H0) (hv : Int32.ofNat N = v) (hdg : decode cc pc = .ok (.arraylength, 1)) (kk : AG p l e R s m args below meth c D cl b nL Q (pc + 1) lv (.int v :: rest) w) : AG p l e R s m args below meth c D cl b nL Q pc lv (.ref t :: rest) w := fun H locs ls hG hS hl => va_tlen E.1.1 E.1.2.1 ((hT E.2.1.2.1).kept (ee_old E)) hS hv hdg (kk H locs ls hG hS hl)
theorem ag_tb (E : EE p R s m args meth c cc nL own ret D cl tys b H0 XK hh fr lo) {t N : Nat} {f : Nat → Value} {i : Int32} {v : Value} (hT : XK s → va_T .byte t N f (fun q => b ≤ q) s H0) (hin : vp_in i N) (hv : f i.toNatClampNeg = v) (hdg : decode cc pc = .ok (.baload, 1)) (kk : AG p l e R s m args below meth c D cl b nL Q (pc + 1) lv (v :: rest) w) : AG p l e R s m args below meth c D cl b nL Q pc lv (.int i :: .ref t :: rest) w := fun H locs ls hG hS hl => va_tb E.1.1 E.1.2.1 ((hT E.2.1.2.1).kept (ee_old E)) hS hin hv hdg (kk H locs ls hG hS hl)
theorem ag_tq (E : EE p R s m args meth c cc nL own ret D cl tys b H0 XK hh fr lo) {C : String} {t N : Nat} {f : Nat → Value} {i : Int32} {v : Value} (hT : XK s → va_T (.object C) t N f (fun q => b ≤ q) s H0) (hin : vp_in i N) (hv : f i.toNatClampNeg = v) (hdg : decode cc pc = .ok (.aaload, 1)) (kk : AG p l e R s m args below meth c D cl b nL Q (pc + 1) lv (v :: rest) w) : AG p l e R s m args below meth c D cl b nL Q pc lv (.int i :: .ref t :: rest) w := fun H locs ls hG hS hl => vb_tq E.1.1 E.1.2.1 ((hT E.2.1.2.1).kept (ee_old E)) hS hin hv hdg (kk H locs ls hG hS hl)
theorem ag_rof (E : EE p R s m args meth c cc nL own ret D cl tys b H0 XK hh fr lo) {oc n d ref : String} {index q : Nat} {v : Value} (hE : XK s → va_OF oc n d v q (fun q => b ≤ q) s H0) (hlk : Cond.fieldLink own index ref n d ∈ lw_all) (hsame : ∀ x, s.fieldFound? oc n d = some x → s.fieldFound? ref n d = some x) (hdg : decode cc pc = .ok (.getfield index, 3)) (kk : AG p l e R s m args below meth c D cl b nL Q (pc + 3) lv (v :: rest) w) : AG p l e R s m args below meth c D cl b nL Q pc lv (.ref q :: rest) w := fun H locs ls hG hS hl => vk_getf E.1.1 E.1.2.1 ((hE E.2.1.2.1).kept (ee_old E)) hS E.1.2.2.2.1 (E.1.2.2.2.2 _ hlk) hsame hdg (kk H locs ls hG hS hl)
theorem ag_ldcS (E : EE p R s m args meth c cc nL own ret D cl tys b H0 XK hh fr lo) {tx : String} {index q : Nat} (hZ : XK s → vk_R own index tx q s) (hdg : decode cc pc = .ok (.ldc index, 2)) (kk : AG p l e R s m args below meth c D cl b nL Q (pc + 2) lv (.ref q :: rest) w) : AG p l e R s m args below meth c D cl b nL Q pc lv rest w := fun H locs ls hG hS hl => va_ldcS E.1.1 E.1.2.1 E.1.2.2.2.1 (hZ E.2.1.2.1) hdg (kk H locs ls hG hS hl)
theorem ag_ldcM (E : EE p R s m args meth c cc nL own ret D cl tys b H0 XK hh fr lo) {C : String} {index mi : Nat} (hlk : Cond.classLink own index C ∈ lw_all) (hM : XK s → va_Mi C mi s) (hdg : decode cc pc = .ok (.ldc index, 2)) (kk : AG p l e R s m args below meth c D cl b nL Q (pc + 2) lv (.ref mi :: rest) w) : AG p l e R s m args below meth c D cl b nL Q pc lv rest w := fun H locs ls hG hS hl => va_ldcM E.1.1 E.1.2.1 E.1.2.2.2.1 (E.1.2.2.2.2 _ hlk) (hM E.2.1.2.1) hdg (kk H locs ls hG hS hl)
/-- an object of the old heap as receiver -/
theorem ro_recv (E : EE p R s m args meth c cc nL own ret D cl tys b H0 XK hh fr lo) {C : String} {a : Nat} {H : Heap} {locs : List Loc} (hS : va_S (fun q => b ≤ q) s.heap H locs) (hO : XK s → va_O C a (fun q => b ≤ q) s H0) : ∃ cell : Cell, H[a]? = some cell ∧ cell.vm.isStatics = false ∧ s.vm.findClass C = some cell.cls := by
  obtain ⟨cell, h1, h2, h3, -⟩ := ((hO E.2.1.2.1).kept (ee_old E)).kept hS.2.1
  exact ⟨cell, h1, h2, h3⟩
theorem ag_callVR (E : EE p R s m args meth c cc nL own ret D cl tys b H0 XK hh fr lo) {C : String} {index n a fr2 lo2 : Nat} {y : MethodName} {bytes : ByteArray} {maxL : Nat} {ret2 : Option FieldType} {As : List Value} {Qp : Option Value → cW → Prop} (hRO : XK s → va_O C a (fun q => b ≤ q) s H0) (hcon : CON l D cl tys b H0 XK y bytes maxL ret2 fr2 lo2 (.ref a :: As) w Qp) (hG0 : GoodIn lw_all (wsV own index C y (ws_ y bytes maxL ret2))) (hd : y.cls = C ∧ y.cls ≠ "java/lang/invoke/MethodHandle" ∧ y.cls ≠ "java/lang/invoke/VarHandle" ∧ (parseMethodDescriptor y.desc).map (fun d => d.parameters.length) = some n) (hfr : fr2 + 1 ≤ fr) (hlo : 8 + (maxL + 11) + lo2 ≤ lo) (hn : As.length = n) (hst : (rest.map fun v => v.category).sum ≤ 8) (hdg : decode cc pc = .ok (.invokevirtual index, 3)) {st0 : List Value} (hst0 : st0 = As.reverse ++ .ref a :: rest) (kk : ∀ (v : Option Value) (w' : cW), Qp v w' → AG p l e R s m args below meth c D cl b nL Q (pc + 3) lv (v.toList ++ rest) w') : AG p l e R s m args below meth c D cl b nL Q pc lv st0 w := by
  intro H locs ls hG hS hl T hT X
  have h1 := stand_us X E.2.2.2.2.2.1
  rw [hT] at h1
  have hz := hS.1
  have r1 := E.2.2.2.2.2.2.1
  have r2 := E.2.2.2.2.2.2.2.1
  have g1 := hG.1
  have g2 := hG.2.1
  have g3 := hG.2.2.1
  have hO : ∀ q : Nat, q < b → H[q]? = H0[q]? := fun q hq => (hS.2.1 q (Nat.lt_of_lt_of_le hq E.2.2.2.2.2.1) (Nat.not_le.mpr hq)).trans (E.2.2.2.2.1 q hq)
  have hf : H.size - s.heap.size + (b + cB - w.2.1) ≤ R.cells ∧ usd s H + (sB - w.2.2) ≤ R.slots := ⟨by rw [r1]; omega, by rw [r2]; omega⟩
  subst hst0
  exact ag_run (y := y) (g := F0 m pc ls []) hG hS hl (va_runV (As := As) (rest := rest) (C := C) E.1 hcon (cwV n E.1.2.2.2.2 hG0 rfl rfl rfl hd ⟨Nat.le_trans hfr E.2.2.2.2.2.2.2.2.1, Nat.le_trans hlo E.2.2.2.2.2.2.2.2.2.1⟩) ⟨pcC_blind, ro_recv E hS hRO, fun U hU hW => ⟨rfl, kK.warm hW E.2.1, by rw [hU]; exact hG, by rw [hU]; exact hO⟩⟩ rfl hn hl.1 rfl (lv_room hst) hdg hf) kk T hT X
theorem ag_castSR (E : EE p R s m args meth c cc nL own ret D cl tys b H0 XK hh fr lo) {C : String} {index a : Nat} {cC : ClassId} (hRO : XK s → va_O C a (fun q => b ≤ q) s H0) (hat : XK s → ClassAt s C cC) (hlk : Cond.classLink own index C ∈ lw_all) (hdg : decode cc pc = .ok (.checkcast index, 3)) (kk : AG p l e R s m args below meth c D cl b nL Q (pc + 3) lv (.ref a :: rest) w) : AG p l e R s m args below meth c D cl b nL Q pc lv (.ref a :: rest) w := fun H locs ls hG hS hl => va_castS E.1.1 E.1.2.1 E.1.2.2.2.1 (E.1.2.2.2.2 _ hlk) (hat E.2.1.2.1) (ro_recv E hS hRO) hdg (kk H locs ls hG hS hl)
theorem ag_instSR (E : EE p R s m args meth c cc nL own ret D cl tys b H0 XK hh fr lo) {C : String} {index a : Nat} {cC : ClassId} (hRO : XK s → va_O C a (fun q => b ≤ q) s H0) (hat : XK s → ClassAt s C cC) (hlk : Cond.classLink own index C ∈ lw_all) (hdg : decode cc pc = .ok (.instanceof index, 3)) (kk : AG p l e R s m args below meth c D cl b nL Q (pc + 3) lv (.int 1 :: rest) w) : AG p l e R s m args below meth c D cl b nL Q pc lv (.ref a :: rest) w := fun H locs ls hG hS hl => va_instS E.1.1 E.1.2.1 E.1.2.2.2.1 (E.1.2.2.2.2 _ hlk) (hat E.2.1.2.1) (ro_recv E hS hRO) hdg (kk H locs ls hG hS hl)
theorem ag_instNoR (E : EE p R s m args meth c cc nL own ret D cl tys b H0 XK hh fr lo) {C nm : String} {index a : Nat} (hRO : XK s → va_O C a (fun q => b ≤ q) s H0) (hno : XK s → va_Nc C nm s) (hlk : Cond.classLink own index nm ∈ lw_all) (hdg : decode cc pc = .ok (.instanceof index, 3)) (kk : AG p l e R s m args below meth c D cl b nL Q (pc + 3) lv (.int 0 :: rest) w) : AG p l e R s m args below meth c D cl b nL Q pc lv (.ref a :: rest) w := fun H locs ls hG hS hl => va_instNo E.1.1 E.1.2.1 E.1.2.2.2.1 (E.1.2.2.2.2 _ hlk) (hno E.2.1.2.1) (ro_recv E hS hRO) hdg (kk H locs ls hG hS hl)
/-- invokeinterface of x: the object's class C has y for it -/
theorem ag_callF (E : EE p R s m args meth c cc nL own ret D cl tys b H0 XK hh fr lo) {C : String} {index n n2 a ci fr2 lo2 count : Nat} {x y : MethodName} {bytes : ByteArray} {maxL : Nat} {ret2 : Option FieldType} {V : Nat → Value} {As : List Value} {Q2 : Int32 → cW → Prop} {T0 : u_T} (hP : w.1 a = some (.inr (ci, V))) (hc : cl[ci]? = some (C, T0, n2)) (hcon : CON l D cl tys b H0 XK y bytes maxL ret2 fr2 lo2 (.ref a :: As) w (qI Q2)) (hG0 : GoodIn lw_all (va_wsF own index C x y (ws_ y bytes maxL ret2))) (hFw : XK s → va_Fw C x y s) (hd : x.cls ≠ "java/lang/invoke/MethodHandle" ∧ x.cls ≠ "java/lang/invoke/VarHandle" ∧ (parseMethodDescriptor x.desc).map (fun d => d.parameters.length) = some n) (hfr : fr2 + 1 ≤ fr) (hlo : 8 + (maxL + 11) + lo2 ≤ lo) (hn : As.length = n) (hst : (rest.map fun v => v.category).sum ≤ 8) (hdg : decode cc pc = .ok (.invokeinterface index count, 5)) {st0 : List Value} (hst0 : st0 = As.reverse ++ .ref a :: rest) (kk : ∀ (r : Int32) (w' : cW), Q2 r w' → AG p l e R s m args below meth c D cl b nL Q (pc + 5) lv (.int r :: rest) w') : AG p l e R s m args below meth c D cl b nL Q pc lv st0 w := by
  intro H locs ls hG hS hl T hT X
  have h1 := stand_us X E.2.2.2.2.2.1
  rw [hT] at h1
  have hz := hS.1
  have r1 := E.2.2.2.2.2.2.1
  have r2 := E.2.2.2.2.2.2.2.1
  have g1 := hG.1
  have g2 := hG.2.1
  have g3 := hG.2.2.1
  have hO : ∀ q : Nat, q < b → H[q]? = H0[q]? := fun q hq => (hS.2.1 q (Nat.lt_of_lt_of_le hq E.2.2.2.2.2.1) (Nat.not_le.mpr hq)).trans (E.2.2.2.2.1 q hq)
  have hf : H.size - s.heap.size + (b + cB - w.2.1) ≤ R.cells ∧ usd s H + (sB - w.2.2) ≤ R.slots := ⟨by rw [r1]; omega, by rw [r2]; omega⟩
  subst hst0
  have hrec : ∃ cellB : Cell, H[a]? = some cellB ∧ cellB.vm.isStatics = false ∧ s.vm.findClass C = some cellB.cls := by
    obtain ⟨-, r, k1, cell, k2, k3, k4, -⟩ := hG.2.2.2 a _ hP
    have hr : r = (C, T0, n2) := Option.some.inj (k1.symm.trans hc)
    subst hr
    exact ⟨cell, k2, by rw [k4]; rfl, by rw [k3]; exact (E.2.1.1.1 ci _ hc).2.1⟩
  have hrun := va_runF (As := As) (rest := rest) (C := C) (p := p) (l := l) (e := e) (below := below) (meth := meth) (locs := locs) (E.2.1.1.1 ci _ hc).2 E.1 hcon (va_cwF n E.1.2.2.2.2 hG0 rfl rfl rfl (hFw E.2.1.2.1) hd ⟨Nat.le_trans hfr E.2.2.2.2.2.2.2.2.1, Nat.le_trans hlo E.2.2.2.2.2.2.2.2.2.1⟩) ⟨pcC_blind, hrec, fun U hU hW => ⟨rfl, kK.warm hW E.2.1, by rw [hU]; exact hG, by rw [hU]; exact hO⟩⟩ (g := F0 m pc ls (As.reverse ++ .ref a :: rest)) rfl hn hl.1 rfl (lv_room hst) hdg hf
  obtain ⟨v, st₀, t, T', L, h0, X', hL, e1, e2, ⟨⟨v', w', hv, hp, hg⟩, hz2, hk⟩, st⟩ := hrun T hT X
  cases hv
  obtain ⟨r, rfl, hq⟩ := hp
  rw [h0] at hz2 hk
  have hS' : va_S (fun q => b ≤ q) s.heap T'.heap (locs ++ L) := ⟨Nat.le_trans hS.1 (by rw [e1]; exact hz2), fun q h1 h2 => by rw [e1, hk q (Nat.lt_of_lt_of_le h1 hS.1) h2]; exact hS.2.1 q h1 h2, fun q hq => by
      rcases List.mem_append.mp hq with h | h
      · exact hS.2.2 q h
      · exact hL q h⟩
  obtain ⟨t2, a1, b1⟩ := W.exact (kk r w' hq T'.heap (locs ++ L) ls (by rw [e1]; exact hg) hS' hl) T' rfl X'
  exact ⟨t2, st t2 a1, b1⟩
theorem clampInt {z : Int32} (hz : ¬ z < 0) : z.toInt = (z.toNatClampNeg : Int) := by
  have hz0 : (0 : Int) ≤ z.toInt := by
    have := Int32.not_lt.mp hz
    simpa using Int32.le_iff_toInt_le.mp this
  show z.toInt = ((z.toInt.toNat : Nat) : Int)
  omega
theorem ag_copyi (E : EE p R s m args meth c cc nL own ret D cl tys b H0 XK hh fr lo) {index a0 a t0 n0 n1 : Nat} {cA : ClassId} {f g : Nat → Int32} {ty : FieldType} {sp dp n : Int32} (hlk : Cond.methodLink own index arraycopyName ∈ lw_all) (hnat : Cond.native arraycopyName ∈ lw_all) (hstt : Cond.static arraycopyName ∈ lw_all) (hini : Cond.initialized "java/lang/System" ∈ lw_all) (ha0 : w.1 a0 = some (.inl (cA, n0, .inl f))) (ha1 : w.1 a = some (.inl (cA, n1, .inl g))) (ht : tys[t0]? = some (cA, ty)) (hprim : refKind ty = false) (h1 : ¬ sp < 0) (h2 : ¬ dp < 0) (h3 : ¬ n < 0) (h4 : sp.toNatClampNeg + n.toNatClampNeg ≤ n0) (h5 : dp.toNatClampNeg + n.toNatClampNeg ≤ n1) (hfit : ∀ i, i < n.toNatClampNeg → fits ty (.int (f (sp.toNatClampNeg + i))) = true)
    (hfr : 1 ≤ fr) (hlo : 8 + (nativeFrameWords "java/lang/System" "arraycopy" 5 + 11) ≤ lo) (hst : (rest.map fun v => v.category).sum ≤ 8) (hdg : decode cc pc = .ok (.invokestatic index, 3)) (kk : ∀ w' : cW, w' = (updP w.1 a (.inl (cA, n1, .inl (va_cpy f g sp.toNatClampNeg dp.toNatClampNeg n.toNatClampNeg))), w.2) → AG p l e R s m args below meth c D cl b nL Q (pc + 3) lv rest w') : AG p l e R s m args below meth c D cl b nL Q pc lv (.int n :: .int dp :: .ref a :: .int sp :: .ref a0 :: rest) w := by
  intro H locs ls hG hS hl T hT X
  obtain ⟨hba0, hc0⟩ := hG.2.2.2 a0 _ ha0
  obtain ⟨hba, hc1⟩ := hG.2.2.2 a _ ha1
  have hc0 : H[a0]? = some (vp_cell cA (n0, .inl f)) := hc0
  have hc1 : H[a]? = some (vp_cell cA (n1, .inl g)) := hc1
  obtain ⟨-, k0, hk0, cm0, hkk0⟩ := (E.2.1.1.2 t0 _ ht).1 n0 (fun j => .int (f j))
  obtain ⟨-, k1, hk1, cm1, hkk1⟩ := (E.2.1.1.2 t0 _ ht).1 n1 (fun j => .int (g j))
  have hfrR := E.2.2.2.2.2.2.2.2.1
  have hloR := E.2.2.2.2.2.2.2.2.2.1
  obtain ⟨vm', X', step⟩ := X.arraycopy E.1.1 E.1.2.2.2.1 (E.1.2.2.2.2 _ hlk) (E.1.2.2.2.2 _ hnat) (E.1.2.2.2.2 _ hstt) (E.1.2.2.2.2 _ hini) (src := a0) (dst := a) (cs := vp_cell cA (n0, .inl f)) (cd := vp_cell cA (n1, .inl g)) (srcPos := sp) (destPos := dp) (n := n) (by rw [hT]; exact hc0) (by rw [hT]; exact hc1)
    (fun _ h => by cases h) (fun _ h => by cases h) (fun h => by cases h) (fun h => by cases h) hk0 hk1 hkk0 hkk1 (by simp [hprim]) h1 h2 h3
    (by rw [clampInt h1, clampInt h3]; show ¬ _ > ((arrV cA n0 (fun j => .int (f j))).slots.size : Int); rw [arrV_size]; omega)
    (by rw [clampInt h2, clampInt h3]; show ¬ _ > ((arrV cA n1 (fun j => .int (g j))).slots.size : Int); rw [arrV_size]; omega)
    (fun vm₁ _ i hi => by
      have e : (vp_cell cA (n0, .inl f)).slots.getD (sp.toNatClampNeg + i) .null = .int (f (sp.toNatClampNeg + i)) := by
        show (arrV cA n0 (fun j => .int (f j))).slots.getD _ _ = _
        rw [Array.getD_eq_getD_getElem?, arrV_read _ _ (by omega)]
        rfl
      refine ⟨?_, ?_⟩
      · rw [e]
        exact hfit i hi
      · rw [e]
        exact trivial)
    (g := F0 m pc ls (.int n :: .int dp :: .ref a :: .int sp :: .ref a0 :: rest)) rfl (hl.1.trans E.1.2.2.1.symm) (rest := rest) rfl (by rw [E.1.2.1]; exact hdg) (Nat.le_trans hfr hfrR) (by show 2 * 0 + _ + _ ≤ _; omega)
  have e1 : copied (vp_cell cA (n0, .inl f)) (vp_cell cA (n1, .inl g)) sp dp n = vp_cell cA (n1, .inl (va_cpy f g sp.toNatClampNeg dp.toNatClampNeg n.toNatClampNeg)) := va_copied (fun z => .int z) cA cA f g h4
  rw [e1] at X' step
  generalize hH1 : ((T.setVm vm').setCell a (vp_cell cA (n1, .inl (va_cpy f g sp.toNatClampNeg dp.toNatClampNeg n.toNatClampNeg)))).heap = H1
  have hlt : a < H.size := (Array.getElem?_eq_some_iff.mp hc1).1
  have hheap : H1 = H.setIfInBounds a (vp_cell cA (n1, .inl (va_cpy f g sp.toNatClampNeg dp.toNatClampNeg n.toNatClampNeg))) := by rw [← hH1, ← hT]; rfl
  have oq : ∀ q : Nat, q ≠ a → H1[q]? = H[q]? := fun q hq => by rw [hheap]; simp [Array.getElem?_setIfInBounds, Ne.symm hq]
  have ea : H1[a]? = some (vp_cell cA (n1, .inl (va_cpy f g sp.toNatClampNeg dp.toNatClampNeg n.toNatClampNeg))) := by rw [hheap]; simp [Array.getElem?_setIfInBounds, hlt]
  have z1 : H1.size = H.size := by rw [hheap]; simp
  have hG1 := hG.put ha1 hc1 ea (by show (arrV _ _ _).slots.size = (arrV _ _ _).slots.size; rw [arrV_size, arrV_size]) z1 oq (e1 := .inl (cA, n1, .inl (va_cpy f g sp.toNatClampNeg dp.toNatClampNeg n.toNatClampNeg))) ea
  have key : ∀ locs' : List Loc, Stand p l e R s m args below meth c ((T.setVm vm').setCell a (vp_cell cA (n1, .inl (va_cpy f g sp.toNatClampNeg dp.toNatClampNeg n.toNatClampNeg)))) locs' (H.size - s.heap.size) (usd s H) → (∀ q ∈ locs', b ≤ q.base) → ∃ t, Steps p.tables e below (T.setTop (F0 m pc ls (.int n :: .int dp :: .ref a :: .int sp :: .ref a0 :: rest))) t ∧ Q t := by
    intro locs' XX hlc
    obtain ⟨t, a1, b1⟩ := W.exact (kk _ rfl H1 locs' ls hG1 ⟨by rw [z1]; exact hS.1, fun q g1 g2 => by
      rw [oq q (fun e => g2 (by rw [e]; exact hba))]
      exact hS.2.1 q g1 g2, hlc⟩ hl) _ hH1 XX
    exact ⟨t, step t a1, b1⟩
  refine key _ X' (fun q hq => ?_)
  rcases List.mem_append.mp hq with h | h
  · exact hS.2.2 q h
  · obtain ⟨z, -, hz⟩ := List.mem_map.mp h
    rw [← hz]
    exact hba
end AGK
