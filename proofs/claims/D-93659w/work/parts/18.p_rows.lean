/-! rows: arraycopy of references, getClass of an array, aastore of objects of a class known later, of arrays -/
set_option maxRecDepth 100000
section AGP
variable {p : Program} {l : Launch} {e : Env} {R : Room} {s : State} {m : MethodId} {args : Array Value} {below : List Frame} {meth : Method} {c : Code} {D : va_G} {cl : List vw_C} {tys : List (ClassId × FieldType)} {b nL fr lo : Nat} {H0 : Heap} {XK : State → Prop} {hh : List (Nat × Nat × Nat × Nat)} {cc : ByteArray} {own : String} {ret : Option FieldType} {Q : State → Prop} {pc : Nat} {lv : List (Nat × Value)} {rest : List Value} {w : cW}
/-- the object at y has a class number of which castable to Ec is known -/
def cOk (cl : List vw_C) (XK : State → Prop) (Ec : String) (ci : Nat) : Prop := ∃ r : vw_C, cl[ci]? = some r ∧ ∀ s : State, XK s → va_Nw (.castable r.1 Ec) s
theorem ag_copyq (E : EE p R s m args meth c cc nL own ret D cl tys b H0 XK hh fr lo) {index a0 a t0 n0 n1 : Nat} {cA : ClassId} {f g : Nat → Option Nat} {Ec : String} {sp dp n : Int32} (hlk : Cond.methodLink own index arraycopyName ∈ lw_all) (hnat : Cond.native arraycopyName ∈ lw_all) (hstt : Cond.static arraycopyName ∈ lw_all) (hini : Cond.initialized "java/lang/System" ∈ lw_all) (ha0 : w.1 a0 = some (.inl (cA, n0, .inr (.inr (.inr (.inr f)))))) (ha1 : w.1 a = some (.inl (cA, n1, .inr (.inr (.inr (.inr g)))))) (ht : tys[t0]? = some (cA, .object Ec)) (h1 : ¬ sp < 0) (h2 : ¬ dp < 0) (h3 : ¬ n < 0) (h4 : sp.toNatClampNeg + n.toNatClampNeg ≤ n0) (h5 : dp.toNatClampNeg + n.toNatClampNeg ≤ n1) (hel : ∀ i, i < n.toNatClampNeg → ∀ y, f (sp.toNatClampNeg + i) = some y → ∃ (ci : Nat) (V : Nat → Value), w.1 y = some (.inr (ci, V)) ∧ cOk cl XK Ec ci)
    (hfr : 1 ≤ fr) (hlo : 8 + (nativeFrameWords "java/lang/System" "arraycopy" 5 + 11) ≤ lo) (hst : (rest.map fun v => v.category).sum ≤ 8) (hdg : decode cc pc = .ok (.invokestatic index, 3)) (kk : ∀ w' : cW, w' = (updP w.1 a (.inl (cA, n1, .inr (.inr (.inr (.inr (va_cpy f g sp.toNatClampNeg dp.toNatClampNeg n.toNatClampNeg)))))), w.2) → AG p l e R s m args below meth c D cl b nL Q (pc + 3) lv rest w') : AG p l e R s m args below meth c D cl b nL Q pc lv (.int n :: .int dp :: .ref a :: .int sp :: .ref a0 :: rest) w := by
  intro H locs ls hG hS hl T hT X
  obtain ⟨hba0, hc0⟩ := hG.2.2.2 a0 _ ha0
  obtain ⟨hba, hc1⟩ := hG.2.2.2 a _ ha1
  have hc0 : H[a0]? = some (vp_cell cA (n0, .inr (.inr (.inr (.inr f))))) := hc0
  have hc1 : H[a]? = some (vp_cell cA (n1, .inr (.inr (.inr (.inr g))))) := hc1
  obtain ⟨-, k0, hk0, cm0, hkk0⟩ := (E.2.1.1.2 t0 _ ht).1 n0 (fun j => va_rf (f j))
  obtain ⟨-, k1, hk1, cm1, hkk1⟩ := (E.2.1.1.2 t0 _ ht).1 n1 (fun j => va_rf (g j))
  have hfrR := E.2.2.2.2.2.2.2.2.1
  have hloR := E.2.2.2.2.2.2.2.2.2.1
  obtain ⟨vm', X', step⟩ := X.arraycopy E.1.1 E.1.2.2.2.1 (E.1.2.2.2.2 _ hlk) (E.1.2.2.2.2 _ hnat) (E.1.2.2.2.2 _ hstt) (E.1.2.2.2.2 _ hini) (src := a0) (dst := a) (cs := vp_cell cA (n0, .inr (.inr (.inr (.inr f))))) (cd := vp_cell cA (n1, .inr (.inr (.inr (.inr g))))) (srcPos := sp) (destPos := dp) (n := n) (by rw [hT]; exact hc0) (by rw [hT]; exact hc1)
    (fun _ h => by cases h) (fun _ h => by cases h) (fun h => by cases h) (fun h => by cases h) hk0 hk1 hkk0 hkk1 rfl h1 h2 h3
    (by rw [clampInt h1, clampInt h3]; show ¬ _ > ((arrV cA n0 (fun j => va_rf (f j))).slots.size : Int); rw [arrV_size]; omega)
    (by rw [clampInt h2, clampInt h3]; show ¬ _ > ((arrV cA n1 (fun j => va_rf (g j))).slots.size : Int); rw [arrV_size]; omega)
    (fun vm₁ hal i hi => by
      have e : (vp_cell cA (n0, .inr (.inr (.inr (.inr f))))).slots.getD (sp.toNatClampNeg + i) .null = va_rf (f (sp.toNatClampNeg + i)) := by
        show (arrV cA n0 (fun j => va_rf (f j))).slots.getD _ _ = _
        rw [Array.getD_eq_getD_getElem?, arrV_read _ _ (by omega)]
        rfl
      rw [e]
      cases hy : f (sp.toNatClampNeg + i) with
      | none => exact ⟨rfl, trivial⟩
      | some y =>
        obtain ⟨ci, V, hyw, r, hr, hcast⟩ := hel i hi y hy
        obtain ⟨-, r', k1', cellV, k2, k3, k4, -⟩ := hG.2.2.2 y _ hyw
        have hrr : r' = r := Option.some.inj (k1'.symm.trans hr)
        subst hrr
        have hcls := (E.2.1.1.1 ci _ hr).2
        obtain ⟨kA, comp, r1, r2, r3, -⟩ := (E.2.1.1.2 t0 _ ht).2
        cases hk1.symm.trans r1
        cases hkk1.symm.trans r2
        obtain ⟨c0, t1, g1, g2, g3⟩ := Cond.castable_spec (va_Nw.use (A := args) rfl (hcast s E.2.1.2.1))
        have e1 : c0 = D.1 ci := Option.some.inj (g1.symm.trans hcls.1)
        have e2 : t1 = cm1 := Option.some.inj (g2.symm.trans r3)
        subst e1; subst e2
        obtain ⟨kC, hkC, -⟩ := hcls.2
        obtain ⟨kE, hkE, -⟩ := Vm.findClass_spec r3
        obtain ⟨kC', hkC', -⟩ := hal.2.2 _ _ hkC
        obtain ⟨kE', hkE', -⟩ := hal.2.2 _ _ hkE
        refine ⟨rfl, cellV, (show T.heap[y]? = some cellV by rw [hT]; exact k2), (fun q h => by rw [k4] at h; cases h), ⟨kC', by rw [k3]; exact hkC'⟩, ?_, ?_⟩
        · exact ⟨kE', hkE'⟩
        · show vm₁.assignable _ _ = true
          rw [hal.assignable, k3]
          exact g3)
    (g := F0 m pc ls (.int n :: .int dp :: .ref a :: .int sp :: .ref a0 :: rest)) rfl (hl.1.trans E.1.2.2.1.symm) (rest := rest) rfl (by rw [E.1.2.1]; exact hdg) (Nat.le_trans hfr hfrR) (by show 2 * 0 + _ + _ ≤ _; omega)
  generalize hN : va_cpy f g sp.toNatClampNeg dp.toNatClampNeg n.toNatClampNeg = fN at kk
  have e1 : copied (vp_cell cA (n0, .inr (.inr (.inr (.inr f))))) (vp_cell cA (n1, .inr (.inr (.inr (.inr g))))) sp dp n = vp_cell cA (n1, .inr (.inr (.inr (.inr fN)))) := by
    rw [vp_cell_q, vp_cell_q, vp_cell_q, ← hN]
    exact va_copied (fun z => va_rf z) cA cA f g h4
  rw [e1] at X' step
  generalize hH1 : ((T.setVm vm').setCell a (vp_cell cA (n1, .inr (.inr (.inr (.inr fN)))))).heap = H1
  have hlt : a < H.size := (Array.getElem?_eq_some_iff.mp hc1).1
  have hheap : H1 = H.setIfInBounds a (vp_cell cA (n1, .inr (.inr (.inr (.inr fN))))) := by rw [← hH1, ← hT]; rfl
  have oq : ∀ q : Nat, q ≠ a → H1[q]? = H[q]? := fun q hq => by rw [hheap]; simp [Array.getElem?_setIfInBounds, Ne.symm hq]
  have ea : H1[a]? = some (vp_cell cA (n1, .inr (.inr (.inr (.inr fN))))) := by rw [hheap]; simp [Array.getElem?_setIfInBounds, hlt]
  have z1 : H1.size = H.size := by rw [hheap]; simp
  have hG1 := hG.put ha1 hc1 ea (by show (arrV _ _ _).slots.size = (arrV _ _ _).slots.size; rw [arrV_size, arrV_size]) z1 oq (e1 := .inl (cA, n1, .inr (.inr (.inr (.inr fN))))) ea
  have key : ∀ locs' : List Loc, Stand p l e R s m args below meth c ((T.setVm vm').setCell a (vp_cell cA (n1, .inr (.inr (.inr (.inr fN)))))) locs' (H.size - s.heap.size) (usd s H) → (∀ q ∈ locs', b ≤ q.base) → ∃ t, Steps p.tables e below (T.setTop (F0 m pc ls (.int n :: .int dp :: .ref a :: .int sp :: .ref a0 :: rest))) t ∧ Q t := by
    intro locs' XX hlc
    obtain ⟨t, a1, b1⟩ := W.exact (kk _ rfl H1 locs' ls hG1 ⟨by rw [z1]; exact hS.1, fun q g1 g2 => by
      rw [oq q (fun e => g2 (by rw [e]; exact hba))]
      exact hS.2.1 q g1 g2, hlc⟩ hl) _ hH1 XX
    exact ⟨t, step t a1, b1⟩
  refine key _ X' (fun q hq => ?_)
  rcases List.mem_append.mp hq with h | h
  · exact hS.2.2 q h
  · obtain ⟨z, -, hz⟩ := List.mem_map.mp h
    rw [← hz]
    exact hba
theorem ag_getC (E : EE p R s m args meth c cc nL own ret D cl tys b H0 XK hh fr lo) {index a t0 n mi : Nat} {cA : ClassId} {f : Nat → Option Nat} {Ec nm : String} (hP : w.1 a = some (.inl (cA, n, .inr (.inr (.inr (.inr f)))))) (ht : tys[t0]? = some (cA, .object Ec)) (hnm : "[" ++ (FieldType.object Ec).toString = nm) (hlk : Cond.methodLink own index ⟨"java/lang/Object", "getClass", "()Ljava/lang/Class;"⟩ ∈ lw_all) (hdecl : XK s → va_Nw (.declares ⟨"java/lang/Object", "getClass", "()Ljava/lang/Class;"⟩) s) (hsel : Cond.selects nm ⟨"java/lang/Object", "getClass", "()Ljava/lang/Class;"⟩ ⟨"java/lang/Object", "getClass", "()Ljava/lang/Class;"⟩ ∈ lw_all) (hinst : Cond.instanceMethod ⟨"java/lang/Object", "getClass", "()Ljava/lang/Class;"⟩ ∈ lw_all) (hnat : Cond.native ⟨"java/lang/Object", "getClass", "()Ljava/lang/Class;"⟩ ∈ lw_all) (hM : XK s → va_Mi nm mi s) (hfr : 1 ≤ fr) (hlo : 22 ≤ lo) (hst : (rest.map fun v => v.category).sum ≤ 8) (hdg : decode cc pc = .ok (.invokevirtual index, 3)) (kk : AG p l e R s m args below meth c D cl b nL Q (pc + 3) lv (.ref mi :: rest) w) : AG p l e R s m args below meth c D cl b nL Q pc lv (.ref a :: rest) w := by
  intro H locs ls hG hS hl
  have hat : H[a]? = some (vp_cell cA (n, .inr (.inr (.inr (.inr f))))) := (hG.2.2.2 a _ hP).2
  have hloR := E.2.2.2.2.2.2.2.2.2.1
  exact va_getC E.1.1 E.1.2.1 (hl.1.trans E.1.2.2.1.symm).symm E.1.2.2.2.1 (E.1.2.2.2.2 _ hlk) (va_Nw.use rfl (hdecl E.2.1.2.1)) (E.1.2.2.2.2 _ hsel) (E.1.2.2.2.2 _ hinst) (E.1.2.2.2.2 _ hnat) (hM E.2.1.2.1) ⟨_, hat, rfl, va_nmO (E.2.1.1.2 t0 _ ht).2 hnm⟩ (Nat.le_trans hfr E.2.2.2.2.2.2.2.2.1) (by omega) hdg (kk H locs ls hG hS hl)
/-- aastore of an object whose class number is known by cOk alone -/
theorem ag_aastO (E : EE p R s m args meth c cc nL own ret D cl tys b H0 XK hh fr lo) {a n t0 v ci : Nat} {cA : ClassId} {f : Nat → Option Nat} {i : Int32} {Ec : String} {V : Nat → Value} (hP : w.1 a = some (.inl (cA, n, .inr (.inr (.inr (.inr f)))))) (ht : tys[t0]? = some (cA, .object Ec)) (hv : w.1 v = some (.inr (ci, V))) (hok : cOk cl XK Ec ci) (hin : vp_in i n) (hdg : decode cc pc = .ok (.aastore, 1)) (kk : ∀ w' : cW, w' = (updP w.1 a (.inl (cA, n, .inr (.inr (.inr (.inr (va_up f i.toNatClampNeg (some v))))))), w.2) → AG p l e R s m args below meth c D cl b nL Q (pc + 1) lv rest w') : AG p l e R s m args below meth c D cl b nL Q pc lv (.ref v :: .int i :: .ref a :: rest) w := by
  obtain ⟨⟨C, T0, n2⟩, hr, hcast⟩ := hok
  exact ag_aast E hP ht hv hr (fun h => hcast s h) hin hdg kk
theorem overA_spec {args : Array Value} {s : State} {t : FieldType} (h : (Cond.arrayOver (.array t)).before args s = true) :
    ∃ comp c k, s.vm.findClass (FieldType.array t).toString = some comp ∧ s.vm.classes[c]? = some k ∧ k.kind = .array comp (.array t) ∧ s.vm.findClass ("[" ++ (FieldType.array t).toString) = some c := by
  simp only [Cond.before, Cond.holds, Cond.value, beq_iff_eq] at h
  cases hc : s.vm.findClass (FieldType.array t).toString with
  | none => simp [hc] at h
  | some comp =>
    simp only [hc, Option.bind_some, Option.bind_eq_some_iff, Option.map_eq_some_iff] at h
    obtain ⟨c, hi, k, hk, hb⟩ := h
    obtain ⟨hlt, hp, -⟩ := Array.findIdx?_eq_some_iff_getElem.mp hi
    have hkk : s.vm.classes[c] = k := (Array.getElem?_eq_some_iff.mp hk).2
    rw [hkk] at hp
    cases hkind : k.kind with
    | array component ty =>
      rw [hkind] at hb hp
      simp at hb hp
      exact ⟨comp, c, k, rfl, hk, by rw [hkind, hp, hb.1], hb.2⟩
    | _ => rw [hkind] at hb; simp at hb
/-- an array (of objects of a class Ec) goes into an array of arrays -/
theorem ag_aastA (E : EE p R s m args meth c cc nL own ret D cl tys b H0 XK hh fr lo) {a n t0 t1 v n2 : Nat} {cA cB : ClassId} {f g : Nat → Option Nat} {i : Int32} {Ec : String} (hP : w.1 a = some (.inl (cA, n, .inr (.inr (.inr (.inr f)))))) (ht : tys[t0]? = some (cA, .array (.object Ec))) (hv : w.1 v = some (.inl (cB, n2, .inr (.inr (.inr (.inr g)))))) (ht1 : tys[t1]? = some (cB, .object Ec)) (hnm : "[" ++ (FieldType.object Ec).toString = (FieldType.array (.object Ec)).toString) (hover : XK s → (Cond.arrayOver (.array (.object Ec))).before args s = true) (hin : vp_in i n) (hdg : decode cc pc = .ok (.aastore, 1)) (kk : ∀ w' : cW, w' = (updP w.1 a (.inl (cA, n, .inr (.inr (.inr (.inr (va_up f i.toNatClampNeg (some v))))))), w.2) → AG p l e R s m args below meth c D cl b nL Q (pc + 1) lv rest w') : AG p l e R s m args below meth c D cl b nL Q pc lv (.ref v :: .int i :: .ref a :: rest) w := by
  intro H locs ls hG hS hl
  have hlt : i.toNatClampNeg < n := Nat.not_le.mp fun q => hin (Or.inr q)
  have h0 : ¬ i < 0 := fun q => hin (Or.inl q)
  obtain ⟨ha, hat⟩ := hG.2.2.2 a _ hP
  have hvt : H[v]? = some (vp_cell cB (n2, .inr (.inr (.inr (.inr g))))) := (hG.2.2.2 v _ hv).2
  obtain ⟨comp, cA', kA, f3, f1, f2, f4⟩ := overA_spec (hover E.2.1.2.1)
  have eA : cA' = cA := Option.some.inj (f4.symm.trans (E.2.1.1.2 t0 _ ht).2)
  subst eA
  have hB := va_nmO (E.2.1.1.2 t1 _ ht1).2 hnm
  have e2 : comp = cB := Option.some.inj (f3.symm.trans hB)
  subst e2
  obtain ⟨kcomp, hkcomp⟩ := Vm.classAt_of_findClass f3
  refine W.aast E.1.1 E.1.2.1 hat (fun q h => by cases h) (fun h => by cases h) f1 f2 rfl hkcomp ⟨h0, by show _ < (arrV _ _ _).slots.size; rw [arrV_size]; exact hlt⟩ hvt (fun q h => by cases h) hkcomp (Vm.assignable_self _ _) rfl rfl hdg fun H1 e z oq => ?_
  refine W.exact (kk _ rfl H1 _ ls (hG.put hP hat e (by simp [Cell.setSlot]) z oq ?_) (hS.put z oq ha) hl)
  show H1[a]? = some (vp_cell _ _)
  rw [e]
  rw [vp_cell_q, vp_cell_q, arrV_store]
  congr 2
  funext q
  by_cases hq : q = i.toNatClampNeg
  · subst hq
    simp [updV, va_up, va_rf]
  · simp [updV, va_up, hq]
theorem va_cwPU {own C : String} {index maxL mc ms : Nat} {y : MethodName} {bytes : ByteArray} {ret : Option FieldType} {Ts ws ws' : List Cond} {rm : Room} (n : Nat) (ht : ∀ w ∈ Ts, w.before args s = true) (hG : GoodIn Ts ws) (hlk : Cond.methodLink own index y ∈ Ts) (hsm : Cond.sameMethod y.cls y.cls y.name y.desc ∈ Ts) (hsel : (Cond.selects C y y).before args s = true) (him : Cond.instanceMethod y ∈ Ts) (hini : Cond.initialized y.cls ∈ Ts) (hw : ws = Cond.code y bytes maxL ret :: ws') (hrc : rm.cells = mc) (hrs : rm.slots = ms)
    (hd : y.cls ≠ "java/lang/invoke/MethodHandle" ∧ y.cls ≠ "java/lang/invoke/VarHandle" ∧ (parseMethodDescriptor y.desc).map (fun d => d.parameters.length) = some n) (hR : rm.frames + 1 ≤ R.frames ∧ 8 + (maxL + 11) + rm.locals ≤ R.locals) : va_CU R s args own C y.cls index y y bytes maxL ret ws rm mc ms n := by
  have hc : Cond.code y bytes maxL ret ∈ ws := by rw [hw]; exact List.mem_cons_self
  refine ⟨⟨hrc, hrs, hR.1, hR.2, pay_in ht hG, hc⟩, ht _ (hG _ hc).1, ht _ hini, ⟨hd.1, hd.2.1⟩, fun sig h => ?_, ht _ hlk, ht _ hsm, va_Decl.of (ht _ him) (ht _ (hG _ hc).1), hsel, ht _ him⟩
  have h2 := hd.2.2
  rw [h] at h2
  exact (Option.some.inj h2).symm
theorem selects_priv {y : MethodName} {C : String} {s : State} {args : Array Value} {n : Nat} (hy : y.cls ≠ "java/lang/invoke/MethodHandle" ∧ y.cls ≠ "java/lang/invoke/VarHandle")
    (hins : (Cond.instantiable C n).before args s = true) (hpriv : (Cond.privateMethod y).before args s = true) (hinst : (Cond.instanceMethod y).before args s = true) {C2 : String} {y2 : MethodName} (hy2 : y2.cls = y.cls ∧ y2.cls ≠ "java/lang/invoke/MethodHandle" ∧ y2.cls ≠ "java/lang/invoke/VarHandle") (hs2 : (Cond.selects C2 y2 y2).before args s = true) (hi2 : (Cond.instanceMethod y2).before args s = true) :
    (Cond.selects C y y).before args s = true := by
  obtain ⟨c, k, hc, hk, -, hniab, -, -⟩ := Cond.instantiable_spec hins
  obtain ⟨mk, methM, hnamed, hmethM, -, -⟩ := Cond.instanceMethod_spec hinst
  have hfound : s.methodFound? y.cls y.name y.desc = some mk := State.methodFound?_of_named hnamed hy
  have hsel : selectMethod {} s.vm c mk = .method mk := selectMethod_private hmethM (Cond.privateMethod_at hpriv mk methM hnamed hmethM)
  obtain ⟨mk2, methM2, hnamed2, hmethM2, -, -⟩ := Cond.instanceMethod_spec hi2
  have hf2 : s.methodFound? y2.cls y2.name y2.desc = some mk2 := State.methodFound?_of_named hnamed2 hy2.2
  obtain ⟨c2, r2, m2, q1, q2, q3, q4, kP, hkP, hkPi⟩ := Cond.selects_spec hs2
  cases hnamed2.symm.trans q3
  have hcc : mk2.cls = mk.cls := by
    have e1 := findClass_of_methodNamed hnamed2
    have e2 := findClass_of_methodNamed hnamed
    rw [hy2.1] at e1
    exact Option.some.inj (e1.symm.trans e2)
  rw [hcc] at hkP
  simp only [Cond.before, Cond.holds, Cond.value, hc, hfound, hnamed, hsel, hk]
  simp [hkP, hkPi]
/-- invokevirtual of a private method y of a superclass -/
theorem ag_callPU (E : EE p R s m args meth c cc nL own ret D cl tys b H0 XK hh fr lo) {C : String} {index n n2 a ci fr2 lo2 : Nat} {y : MethodName} {bytes : ByteArray} {maxL : Nat} {ret2 : Option FieldType} {V : Nat → Value} {As : List Value} {Qp : Option Value → cW → Prop} {T0 : u_T} (hP : w.1 a = some (.inr (ci, V))) (hc : cl[ci]? = some (C, T0, n2)) (hcon : CON l D cl tys b H0 XK y bytes maxL ret2 fr2 lo2 (.ref a :: As) w Qp) (hcode : Cond.code y bytes maxL ret2 ∈ lw_all) (hlk : Cond.methodLink own index y ∈ lw_all) (hsm : Cond.sameMethod y.cls y.cls y.name y.desc ∈ lw_all) (hsel : XK s → va_Nw (.selects C y y) s) (him : Cond.instanceMethod y ∈ lw_all) (hini : Cond.initialized y.cls ∈ lw_all) (hd : y.cls ≠ "java/lang/invoke/MethodHandle" ∧ y.cls ≠ "java/lang/invoke/VarHandle" ∧ (parseMethodDescriptor y.desc).map (fun d => d.parameters.length) = some n) (hfr : fr2 + 1 ≤ fr) (hlo : 8 + (maxL + 11) + lo2 ≤ lo) (hn : As.length = n) (hst : (rest.map fun v => v.category).sum ≤ 8) (hdg : decode cc pc = .ok (.invokevirtual index, 3)) {st0 : List Value} (hst0 : st0 = As.reverse ++ .ref a :: rest) (kk : ∀ (v : Option Value) (w' : cW), Qp v w' → AG p l e R s m args below meth c D cl b nL Q (pc + 3) lv (v.toList ++ rest) w') : AG p l e R s m args below meth c D cl b nL Q pc lv st0 w := by
  intro H locs ls hG hS hl T hT X
  have h1 := stand_us X E.2.2.2.2.2.1
  rw [hT] at h1
  have hz := hS.1
  have r1 := E.2.2.2.2.2.2.1
  have r2 := E.2.2.2.2.2.2.2.1
  have g1 := hG.1
  have g2 := hG.2.1
  have g3 := hG.2.2.1
  have hO : ∀ q : Nat, q < b → H[q]? = H0[q]? := fun q hq => (hS.2.1 q (Nat.lt_of_lt_of_le hq E.2.2.2.2.2.1) (Nat.not_le.mpr hq)).trans (E.2.2.2.2.1 q hq)
  have hf : H.size - s.heap.size + (b + cB - w.2.1) ≤ R.cells ∧ usd s H + (sB - w.2.2) ≤ R.slots := ⟨by rw [r1]; omega, by rw [r2]; omega⟩
  subst hst0
  have hrec : ∃ cellB : Cell, H[a]? = some cellB ∧ cellB.vm.isStatics = false ∧ s.vm.findClass C = some cellB.cls := by
    obtain ⟨-, r, k1, cell, k2, k3, k4, -⟩ := hG.2.2.2 a _ hP
    have hr : r = (C, T0, n2) := Option.some.inj (k1.symm.trans hc)
    subst hr
    exact ⟨cell, k2, by rw [k4]; rfl, by rw [k3]; exact (E.2.1.1.1 ci _ hc).2.1⟩
  exact ag_run (y := y) (g := F0 m pc ls []) hG hS hl (va_runU (As := As) (rest := rest) (C := C) E.1 hcon (va_cwPU n E.1.2.2.2.2 (lw_meth hcode) hlk hsm (va_Nw.use rfl (hsel E.2.1.2.1)) him hini rfl rfl rfl hd ⟨Nat.le_trans hfr E.2.2.2.2.2.2.2.2.1, Nat.le_trans hlo E.2.2.2.2.2.2.2.2.2.1⟩) ⟨pcC_blind, hrec, fun U hU hW => ⟨rfl, kK.warm hW E.2.1, by rw [hU]; exact hG, by rw [hU]; exact hO⟩⟩ rfl hn hl.1 rfl (lv_room hst) hdg hf) kk T hT X
end AGP
