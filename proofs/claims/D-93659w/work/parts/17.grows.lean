/-! rows for objects and arrays anywhere in the world: fields by lists; new; references; casts; statics; other calls -/
set_option maxRecDepth 100000
theorem vp_V_set {fs : List Value} {k : Nat} (hk : k < fs.length) (v : Value) : updV (vp_V fs) k v = vp_V (fs.set k v) := funext (vp_updV_set hk v)
theorem vp_V_get {fs : List Value} {k : Nat} {v : Value} (h : fs[k]? = some v) : vp_V fs k = v := by simp [vp_V, h]
section AGG
variable {p : Program} {l : Launch} {e : Env} {R : Room} {s : State} {m : MethodId} {args : Array Value} {below : List Frame} {meth : Method} {c : Code} {D : va_G} {cl : List vw_C} {tys : List (ClassId × FieldType)} {b nL fr lo : Nat} {H0 : Heap} {XK : State → Prop} {hh : List (Nat × Nat × Nat × Nat)} {cc : ByteArray} {own : String} {ret : Option FieldType} {Q : State → Prop} {pc : Nat} {lv : List (Nat × Value)} {rest : List Value} {w : cW}
theorem ag_getL (E : EE p R s m args meth c cc nL own ret D cl tys b H0 XK hh fr lo) {ref : String} {C : String} {T : u_T} {N ci index a : Nat} (k : Nat) {fs : List Value} {v : Value} (hc : cl[ci]? = some (C, T, N)) (hin : ∀ w ∈ u_ws C T N, w ∈ lw_all) (hk : k < N) (hlink : Cond.fieldLink own index ref (T k).2.1 (T k).2.2.1 ∈ lw_all) (hsame : ∀ x, s.fieldFound? (T k).1 (T k).2.1 (T k).2.2.1 = some x → s.fieldFound? ref (T k).2.1 (T k).2.2.1 = some x) (hdg : decode cc pc = .ok (.getfield index, 3)) (hP : w.1 a = some (.inr (ci, vp_V fs))) (hv : fs[k]? = some v) (kk : AG p l e R s m args below meth c D cl b nL Q (pc + 3) lv (v :: rest) w) : AG p l e R s m args below meth c D cl b nL Q pc lv (.ref a :: rest) w :=
  ag_get E hc hin hk hlink hsame hdg hP (vp_V_get hv) kk
theorem ag_putL (E : EE p R s m args meth c cc nL own ret D cl tys b H0 XK hh fr lo) {ref : String} {C : String} {T : u_T} {N ci index a : Nat} (k : Nat) {fs fs' : List Value} {v : Value} {ty : FieldType} (ty0 : Nat → FieldType) (hty : ∀ k, k < N → parseFieldDescriptor (T k).2.2.1 = some (ty0 k)) (hnm : ∀ a, a < N → ∀ b, b < N → a ≠ b → (T a).2.1 ≠ (T b).2.1) (hc : cl[ci]? = some (C, T, N)) (hin : ∀ w ∈ u_ws C T N, w ∈ lw_all) (hk : k < N) (hlink : Cond.fieldLink own index ref (T k).2.1 (T k).2.2.1 ∈ lw_all) (hsame : ∀ x, s.fieldFound? (T k).1 (T k).2.1 (T k).2.2.1 = some x → s.fieldFound? ref (T k).2.1 (T k).2.2.1 = some x) (hfin : (T k).2.2.2 = false) (hd : parseFieldDescriptor (T k).2.2.1 = some ty) (hn : narrow ty v = v) (hfit : fits ty v = true) (hdg : decode cc pc = .ok (.putfield index, 3)) (hP : w.1 a = some (.inr (ci, vp_V fs))) (hl : k < fs.length) (hf : fs.set k v = fs') (kk : ∀ w' : cW, w' = (updP w.1 a (.inr (ci, vp_V fs')), w.2) → AG p l e R s m args below meth c D cl b nL Q (pc + 3) lv rest w') : AG p l e R s m args below meth c D cl b nL Q pc lv (v :: .ref a :: rest) w := by
  refine ag_put E ty0 hty hnm hc hin hk hlink hsame hfin hd hn hfit hdg hP ?_
  rw [vp_V_set hl, hf]
  exact kk _ rfl
theorem ag_putFL (E : EE p R s m args meth c cc nL own ret D cl tys b H0 XK hh fr lo) {ref : String} {C : String} {T : u_T} {N ci index a : Nat} (k : Nat) {fs fs' : List Value} {v : Value} {ty : FieldType} (ty0 : Nat → FieldType) (hty : ∀ k, k < N → parseFieldDescriptor (T k).2.2.1 = some (ty0 k)) (hnm : ∀ a, a < N → ∀ b, b < N → a ≠ b → (T a).2.1 ≠ (T b).2.1) (hc : cl[ci]? = some (C, T, N)) (hin : ∀ w ∈ u_ws C T N, w ∈ lw_all) (hk : k < N) (hlink : Cond.fieldLink own index ref (T k).2.1 (T k).2.2.1 ∈ lw_all) (hsame : ∀ x, s.fieldFound? (T k).1 (T k).2.1 (T k).2.2.1 = some x → s.fieldFound? ref (T k).2.1 (T k).2.2.1 = some x) (hfin : (T k).2.2.2 = true) (hin2 : meth.name = "<init>") (hdecl : (T k).1 = own) (hd : parseFieldDescriptor (T k).2.2.1 = some ty) (hn : narrow ty v = v) (hfit : fits ty v = true) (hdg : decode cc pc = .ok (.putfield index, 3)) (hP : w.1 a = some (.inr (ci, vp_V fs))) (hl : k < fs.length) (hf : fs.set k v = fs') (kk : ∀ w' : cW, w' = (updP w.1 a (.inr (ci, vp_V fs')), w.2) → AG p l e R s m args below meth c D cl b nL Q (pc + 3) lv rest w') : AG p l e R s m args below meth c D cl b nL Q pc lv (v :: .ref a :: rest) w := by
  refine ag_putF E ty0 hty hnm hc hin hk hlink hsame hfin hin2 hdecl hd hn hfit hdg hP ?_
  rw [vp_V_set hl, hf]
  exact kk _ rfl
/-- there is room for one more cell of n slots -/
def bud (b : Nat) (w : cW) (n : Nat) : Prop := w.2.1 + 1 ≤ b + cB ∧ w.2.2 + n ≤ sB
/-- one more cell -/
def wNew (w : cW) (e : cE) (n : Nat) : cW := (updP w.1 w.2.1 e, w.2.1 + 1, w.2.2 + n)
theorem ag_new (E : EE p R s m args meth c cc nL own ret D cl tys b H0 XK hh fr lo) {C : String} {T : u_T} {N ci index : Nat} {fs : List Value} (ty : Nat → FieldType) (hty : ∀ k, k < N → parseFieldDescriptor (T k).2.2.1 = some (ty k)) (hin : ∀ w ∈ u_ws C T N, w ∈ lw_all) (hcl : Cond.classLink own index C ∈ lw_all) (hinst : Cond.instantiable C N ∈ lw_all) (hini : Cond.initialized C ∈ lw_all) (hc : cl[ci]? = some (C, T, N)) (hfs : (List.range N).map (fun j => defaultValue (ty j)) = fs) (hb : bud b w N) (hdg : decode cc pc = .ok (.new index, 3)) (kk : ∀ (q : Nat) (w' : cW), q = w.2.1 → w' = wNew w (.inr (ci, vp_V fs)) N → AG p l e R s m args below meth c D cl b nL Q (pc + 3) lv (.ref q :: rest) w') : AG p l e R s m args below meth c D cl b nL Q pc lv rest w := by
  intro H locs ls hG hS hl T hT X
  have h1 := stand_us X E.2.2.2.2.2.1
  rw [hT] at h1
  have hz := hS.1
  have r1 := E.2.2.2.2.2.2.1
  have r2 := E.2.2.2.2.2.2.2.1
  have g1 := hG.1
  have g2 := hG.2.1
  have g3 := hG.2.2.1
  obtain ⟨b1, b2⟩ := hb
  have hKn := E.2.1.1.1 ci _ hc
  have W1 : W p l e R s m args below meth c H locs (H.size - s.heap.size) (usd s H) Q (F0 m pc ls rest) := by
    refine W.newcK E.1.1 E.1.2.1 E.1.2.2.2.1 (E.1.2.2.2.2 _ hcl) (E.1.2.2.2.2 _ hinst) (E.1.2.2.2.2 _ hini) rfl hdg (by rw [r1]; omega) (by rw [r2]; omega) hKn.2.1 rfl fun H1 kC hkC e1 z1 o1 => ?_
    have hob : t_OB H.size (D.1 ci) N (D.2 ci) H1 (vp_V fs) := (u_born ty E.1.2.2.2.2 hin hKn hkC e1 hty).to (fun j hj => by
      rw [← hfs]
      simp [vp_V, hj])
    have hns : (blank (D.1 ci) kC).slots.size = N := by
      obtain ⟨cC', kC', f1, f2, -, f4⟩ := Cond.instantiable_spec (E.1.2.2.2.2 _ hinst)
      cases hKn.2.1.symm.trans f1
      cases hkC.symm.trans f2
      have f5 : kC.instanceTypes.size = N := by
        simp at f4
        exact f4.2.2
      simpa [blank] using f5
    have hG1 := hG.push z1 e1 hns o1 (e1 := .inr (ci, vp_V fs)) ⟨_, hc, hob⟩ b1 b2
    have K := kk w.2.1 _ rfl rfl H1 locs ls hG1 ⟨Nat.le_trans hS.1 (by omega), fun x h1 h2 => (o1 x (Nat.lt_of_lt_of_le h1 hS.1)).trans (hS.2.1 x h1 h2), hS.2.2⟩ hl
    rw [← g1] at K
    exact W.exact K
  exact W1 T hT X
theorem ag_newarr_int (E : EE p R s m args meth c cc nL own ret D cl tys b H0 XK hh fr lo) {t0 : Nat} {cA : ClassId} {n : Int32} {N' : Nat} (harr : Cond.arrayClass (newarray.typeOf .int) ∈ lw_all) (ht : tys[t0]? = some (cA, .int)) (hn : ¬ n < 0) (hN : n.toNatClampNeg = N') (hbytes : N' * componentBytes .int ≤ 536870912) (hb : bud b w N') (hdg : decode cc pc = .ok (.newarray .int, 2)) (kk : ∀ (q : Nat) (w' : cW), q = w.2.1 → w' = wNew w (.inl (cA, N', .inl (fun _ => 0))) N' → AG p l e R s m args below meth c D cl b nL Q (pc + 2) lv (.ref q :: rest) w') : AG p l e R s m args below meth c D cl b nL Q pc lv (.int n :: rest) w := by
  intro H locs ls hG hS hl T hT X
  have h1 := stand_us X E.2.2.2.2.2.1
  rw [hT] at h1
  have hz := hS.1
  have r1 := E.2.2.2.2.2.2.1
  have r2 := E.2.2.2.2.2.2.2.1
  have g1 := hG.1
  have g2 := hG.2.1
  have g3 := hG.2.2.1
  obtain ⟨b1, b2⟩ := hb
  subst hN
  have W1 : W p l e R s m args below meth c H locs (H.size - s.heap.size) (usd s H) Q (F0 m pc ls (.int n :: rest)) := by
    refine W.newa E.1.1 E.1.2.1 (E.1.2.2.2.2 _ harr) rfl hdg rfl hn hbytes (by rw [r1]; omega) (by rw [r2]; omega) fun cA' kA comp f1 f2 f3 => ?_
    have hcA : cA' = cA := Option.some.inj (f1.symm.trans (E.2.1.1.2 t0 _ ht).2)
    subst hcA
    generalize hH1 : H.push ({ cls := cA', slots := Array.replicate n.toNatClampNeg (defaultValue (newarray.typeOf .int)), vm := .none } : Cell) = H1
    have z1 : H1.size = H.size + 1 := by rw [← hH1, Array.size_push]
    have e1 : H1[H.size]? = some (arrV cA' n.toNatClampNeg (fun _ => defaultValue (newarray.typeOf .int))) := by rw [← hH1, Array.getElem?_push_size, ← arrV_new]
    have o1 : ∀ q : Nat, q < H.size → H1[q]? = H[q]? := fun q hq => by rw [← hH1, Array.getElem?_push, if_neg (Nat.ne_of_lt hq)]
    have hG1 := hG.push z1 e1 (arrV_size _ _ _) o1 (e1 := .inl (cA', n.toNatClampNeg, .inl (fun _ => 0))) e1 b1 b2
    have K := kk w.2.1 _ rfl rfl H1 locs ls hG1 ⟨Nat.le_trans hS.1 (by omega), fun x h1 h2 => (o1 x (Nat.lt_of_lt_of_le h1 hS.1)).trans (hS.2.1 x h1 h2), hS.2.2⟩ hl
    rw [← g1] at K
    exact W.exact K
  exact W1 T hT X
theorem ag_newarr_byte (E : EE p R s m args meth c cc nL own ret D cl tys b H0 XK hh fr lo) {t0 : Nat} {cA : ClassId} {n : Int32} {N' : Nat} (harr : Cond.arrayClass (newarray.typeOf .byte) ∈ lw_all) (ht : tys[t0]? = some (cA, .byte)) (hn : ¬ n < 0) (hN : n.toNatClampNeg = N') (hbytes : N' * componentBytes .byte ≤ 536870912) (hb : bud b w N') (hdg : decode cc pc = .ok (.newarray .byte, 2)) (kk : ∀ (q : Nat) (w' : cW), q = w.2.1 → w' = wNew w (.inl (cA, N', .inl (fun _ => 0))) N' → AG p l e R s m args below meth c D cl b nL Q (pc + 2) lv (.ref q :: rest) w') : AG p l e R s m args below meth c D cl b nL Q pc lv (.int n :: rest) w := by
  intro H locs ls hG hS hl T hT X
  have h1 := stand_us X E.2.2.2.2.2.1
  rw [hT] at h1
  have hz := hS.1
  have r1 := E.2.2.2.2.2.2.1
  have r2 := E.2.2.2.2.2.2.2.1
  have g1 := hG.1
  have g2 := hG.2.1
  have g3 := hG.2.2.1
  obtain ⟨b1, b2⟩ := hb
  subst hN
  have W1 : W p l e R s m args below meth c H locs (H.size - s.heap.size) (usd s H) Q (F0 m pc ls (.int n :: rest)) := by
    refine W.newa E.1.1 E.1.2.1 (E.1.2.2.2.2 _ harr) rfl hdg rfl hn hbytes (by rw [r1]; omega) (by rw [r2]; omega) fun cA' kA comp f1 f2 f3 => ?_
    have hcA : cA' = cA := Option.some.inj (f1.symm.trans (E.2.1.1.2 t0 _ ht).2)
    subst hcA
    generalize hH1 : H.push ({ cls := cA', slots := Array.replicate n.toNatClampNeg (defaultValue (newarray.typeOf .byte)), vm := .none } : Cell) = H1
    have z1 : H1.size = H.size + 1 := by rw [← hH1, Array.size_push]
    have e1 : H1[H.size]? = some (arrV cA' n.toNatClampNeg (fun _ => defaultValue (newarray.typeOf .byte))) := by rw [← hH1, Array.getElem?_push_size, ← arrV_new]
    have o1 : ∀ q : Nat, q < H.size → H1[q]? = H[q]? := fun q hq => by rw [← hH1, Array.getElem?_push, if_neg (Nat.ne_of_lt hq)]
    have hG1 := hG.push z1 e1 (arrV_size _ _ _) o1 (e1 := .inl (cA', n.toNatClampNeg, .inl (fun _ => 0))) e1 b1 b2
    have K := kk w.2.1 _ rfl rfl H1 locs ls hG1 ⟨Nat.le_trans hS.1 (by omega), fun x h1 h2 => (o1 x (Nat.lt_of_lt_of_le h1 hS.1)).trans (hS.2.1 x h1 h2), hS.2.2⟩ hl
    rw [← g1] at K
    exact W.exact K
  exact W1 T hT X
theorem ag_newarr_boolean (E : EE p R s m args meth c cc nL own ret D cl tys b H0 XK hh fr lo) {t0 : Nat} {cA : ClassId} {n : Int32} {N' : Nat} (harr : Cond.arrayClass (newarray.typeOf .boolean) ∈ lw_all) (ht : tys[t0]? = some (cA, .boolean)) (hn : ¬ n < 0) (hN : n.toNatClampNeg = N') (hbytes : N' * componentBytes .boolean ≤ 536870912) (hb : bud b w N') (hdg : decode cc pc = .ok (.newarray .boolean, 2)) (kk : ∀ (q : Nat) (w' : cW), q = w.2.1 → w' = wNew w (.inl (cA, N', .inl (fun _ => 0))) N' → AG p l e R s m args below meth c D cl b nL Q (pc + 2) lv (.ref q :: rest) w') : AG p l e R s m args below meth c D cl b nL Q pc lv (.int n :: rest) w := by
  intro H locs ls hG hS hl T hT X
  have h1 := stand_us X E.2.2.2.2.2.1
  rw [hT] at h1
  have hz := hS.1
  have r1 := E.2.2.2.2.2.2.1
  have r2 := E.2.2.2.2.2.2.2.1
  have g1 := hG.1
  have g2 := hG.2.1
  have g3 := hG.2.2.1
  obtain ⟨b1, b2⟩ := hb
  subst hN
  have W1 : W p l e R s m args below meth c H locs (H.size - s.heap.size) (usd s H) Q (F0 m pc ls (.int n :: rest)) := by
    refine W.newa E.1.1 E.1.2.1 (E.1.2.2.2.2 _ harr) rfl hdg rfl hn hbytes (by rw [r1]; omega) (by rw [r2]; omega) fun cA' kA comp f1 f2 f3 => ?_
    have hcA : cA' = cA := Option.some.inj (f1.symm.trans (E.2.1.1.2 t0 _ ht).2)
    subst hcA
    generalize hH1 : H.push ({ cls := cA', slots := Array.replicate n.toNatClampNeg (defaultValue (newarray.typeOf .boolean)), vm := .none } : Cell) = H1
    have z1 : H1.size = H.size + 1 := by rw [← hH1, Array.size_push]
    have e1 : H1[H.size]? = some (arrV cA' n.toNatClampNeg (fun _ => defaultValue (newarray.typeOf .boolean))) := by rw [← hH1, Array.getElem?_push_size, ← arrV_new]
    have o1 : ∀ q : Nat, q < H.size → H1[q]? = H[q]? := fun q hq => by rw [← hH1, Array.getElem?_push, if_neg (Nat.ne_of_lt hq)]
    have hG1 := hG.push z1 e1 (arrV_size _ _ _) o1 (e1 := .inl (cA', n.toNatClampNeg, .inl (fun _ => 0))) e1 b1 b2
    have K := kk w.2.1 _ rfl rfl H1 locs ls hG1 ⟨Nat.le_trans hS.1 (by omega), fun x h1 h2 => (o1 x (Nat.lt_of_lt_of_le h1 hS.1)).trans (hS.2.1 x h1 h2), hS.2.2⟩ hl
    rw [← g1] at K
    exact W.exact K
  exact W1 T hT X
theorem ag_newarr_long (E : EE p R s m args meth c cc nL own ret D cl tys b H0 XK hh fr lo) {t0 : Nat} {cA : ClassId} {n : Int32} {N' : Nat} (harr : Cond.arrayClass (newarray.typeOf .long) ∈ lw_all) (ht : tys[t0]? = some (cA, .long)) (hn : ¬ n < 0) (hN : n.toNatClampNeg = N') (hbytes : N' * componentBytes .long ≤ 536870912) (hb : bud b w N') (hdg : decode cc pc = .ok (.newarray .long, 2)) (kk : ∀ (q : Nat) (w' : cW), q = w.2.1 → w' = wNew w (.inl (cA, N', .inr (.inl (fun _ => 0)))) N' → AG p l e R s m args below meth c D cl b nL Q (pc + 2) lv (.ref q :: rest) w') : AG p l e R s m args below meth c D cl b nL Q pc lv (.int n :: rest) w := by
  intro H locs ls hG hS hl T hT X
  have h1 := stand_us X E.2.2.2.2.2.1
  rw [hT] at h1
  have hz := hS.1
  have r1 := E.2.2.2.2.2.2.1
  have r2 := E.2.2.2.2.2.2.2.1
  have g1 := hG.1
  have g2 := hG.2.1
  have g3 := hG.2.2.1
  obtain ⟨b1, b2⟩ := hb
  subst hN
  have W1 : W p l e R s m args below meth c H locs (H.size - s.heap.size) (usd s H) Q (F0 m pc ls (.int n :: rest)) := by
    refine W.newa E.1.1 E.1.2.1 (E.1.2.2.2.2 _ harr) rfl hdg rfl hn hbytes (by rw [r1]; omega) (by rw [r2]; omega) fun cA' kA comp f1 f2 f3 => ?_
    have hcA : cA' = cA := Option.some.inj (f1.symm.trans (E.2.1.1.2 t0 _ ht).2)
    subst hcA
    generalize hH1 : H.push ({ cls := cA', slots := Array.replicate n.toNatClampNeg (defaultValue (newarray.typeOf .long)), vm := .none } : Cell) = H1
    have z1 : H1.size = H.size + 1 := by rw [← hH1, Array.size_push]
    have e1 : H1[H.size]? = some (arrV cA' n.toNatClampNeg (fun _ => defaultValue (newarray.typeOf .long))) := by rw [← hH1, Array.getElem?_push_size, ← arrV_new]
    have o1 : ∀ q : Nat, q < H.size → H1[q]? = H[q]? := fun q hq => by rw [← hH1, Array.getElem?_push, if_neg (Nat.ne_of_lt hq)]
    have hG1 := hG.push z1 e1 (arrV_size _ _ _) o1 (e1 := .inl (cA', n.toNatClampNeg, .inr (.inl (fun _ => 0)))) e1 b1 b2
    have K := kk w.2.1 _ rfl rfl H1 locs ls hG1 ⟨Nat.le_trans hS.1 (by omega), fun x h1 h2 => (o1 x (Nat.lt_of_lt_of_le h1 hS.1)).trans (hS.2.1 x h1 h2), hS.2.2⟩ hl
    rw [← g1] at K
    exact W.exact K
  exact W1 T hT X
theorem ag_anew (E : EE p R s m args meth c cc nL own ret D cl tys b H0 XK hh fr lo) {C : String} {t0 index : Nat} {cA : ClassId} {n : Int32} {N' : Nat} (hclk : Cond.classLink own index C ∈ lw_all) (hover : XK s → (Cond.arrayOver (.object C)).before args s = true) (ht : tys[t0]? = some (cA, .object C)) (hn : ¬ n < 0) (hN : n.toNatClampNeg = N') (hbytes : N' * 4 ≤ 536870912) (hb : bud b w N') (hdg : decode cc pc = .ok (.anewarray index, 3)) (kk : ∀ (q : Nat) (w' : cW), q = w.2.1 → w' = wNew w (.inl (cA, N', .inr (.inr (.inr (.inr (fun _ => none)))))) N' → AG p l e R s m args below meth c D cl b nL Q (pc + 3) lv (.ref q :: rest) w') : AG p l e R s m args below meth c D cl b nL Q pc lv (.int n :: rest) w := by
  intro H locs ls hG hS hl T hT X
  have h1 := stand_us X E.2.2.2.2.2.1
  rw [hT] at h1
  have hz := hS.1
  have r1 := E.2.2.2.2.2.2.1
  have r2 := E.2.2.2.2.2.2.2.1
  have g1 := hG.1
  have g2 := hG.2.1
  have g3 := hG.2.2.1
  obtain ⟨b1, b2⟩ := hb
  subst hN
  have W1 : W p l e R s m args below meth c H locs (H.size - s.heap.size) (usd s H) Q (F0 m pc ls (.int n :: rest)) := by
    refine W.anew E.1.1 E.1.2.1 E.1.2.2.2.1 (E.1.2.2.2.2 _ hclk) (hover E.2.1.2.1) rfl hdg rfl hn hbytes (by rw [r1]; omega) (by rw [r2]; omega) fun cA' kA comp f1 f2 f3 f4 => ?_
    have hcA : cA' = cA := Option.some.inj (f1.symm.trans (E.2.1.1.2 t0 _ ht).2.choose_spec.choose_spec.2.2.2)
    subst hcA
    generalize hH1 : H.push ({ cls := cA', slots := Array.replicate n.toNatClampNeg .null, vm := .none } : Cell) = H1
    have z1 : H1.size = H.size + 1 := by rw [← hH1, Array.size_push]
    have e1 : H1[H.size]? = some (arrV cA' n.toNatClampNeg (fun _ => .null)) := by rw [← hH1, Array.getElem?_push_size, ← arrV_new]
    have o1 : ∀ q : Nat, q < H.size → H1[q]? = H[q]? := fun q hq => by rw [← hH1, Array.getElem?_push, if_neg (Nat.ne_of_lt hq)]
    have hG1 := hG.push z1 e1 (arrV_size _ _ _) o1 (e1 := .inl (cA', n.toNatClampNeg, .inr (.inr (.inr (.inr (fun _ => none)))))) e1 b1 b2
    have K := kk w.2.1 _ rfl rfl H1 locs ls hG1 ⟨Nat.le_trans hS.1 (by omega), fun x h1 h2 => (o1 x (Nat.lt_of_lt_of_le h1 hS.1)).trans (hS.2.1 x h1 h2), hS.2.2⟩ hl
    rw [← g1] at K
    exact W.exact K
  exact W1 T hT X
theorem ag_anewA (E : EE p R s m args meth c cc nL own ret D cl tys b H0 XK hh fr lo) {t : FieldType} {t0 index : Nat} {cA : ClassId} {n : Int32} {N' : Nat} (hclk : Cond.classLink own index (FieldType.array t).toString ∈ lw_all) (hover : XK s → (Cond.arrayOver (.array t)).before args s = true) (ht : tys[t0]? = some (cA, .array t)) (hn : ¬ n < 0) (hN : n.toNatClampNeg = N') (hbytes : N' * 4 ≤ 536870912) (hb : bud b w N') (hdg : decode cc pc = .ok (.anewarray index, 3)) (kk : ∀ (q : Nat) (w' : cW), q = w.2.1 → w' = wNew w (.inl (cA, N', .inr (.inr (.inr (.inr (fun _ => none)))))) N' → AG p l e R s m args below meth c D cl b nL Q (pc + 3) lv (.ref q :: rest) w') : AG p l e R s m args below meth c D cl b nL Q pc lv (.int n :: rest) w := by
  intro H locs ls hG hS hl T hT X
  have h1 := stand_us X E.2.2.2.2.2.1
  rw [hT] at h1
  have hz := hS.1
  have r1 := E.2.2.2.2.2.2.1
  have r2 := E.2.2.2.2.2.2.2.1
  have g1 := hG.1
  have g2 := hG.2.1
  have g3 := hG.2.2.1
  obtain ⟨b1, b2⟩ := hb
  subst hN
  have W1 : W p l e R s m args below meth c H locs (H.size - s.heap.size) (usd s H) Q (F0 m pc ls (.int n :: rest)) := by
    refine W.anewA E.1.1 E.1.2.1 E.1.2.2.2.1 (E.1.2.2.2.2 _ hclk) (hover E.2.1.2.1) rfl hdg rfl hn hbytes (by rw [r1]; omega) (by rw [r2]; omega) fun cA' kA comp f1 f2 f3 f4 => ?_
    have hcA : cA' = cA := Option.some.inj (f1.symm.trans (E.2.1.1.2 t0 _ ht).2)
    subst hcA
    generalize hH1 : H.push ({ cls := cA', slots := Array.replicate n.toNatClampNeg .null, vm := .none } : Cell) = H1
    have z1 : H1.size = H.size + 1 := by rw [← hH1, Array.size_push]
    have e1 : H1[H.size]? = some (arrV cA' n.toNatClampNeg (fun _ => .null)) := by rw [← hH1, Array.getElem?_push_size, ← arrV_new]
    have o1 : ∀ q : Nat, q < H.size → H1[q]? = H[q]? := fun q hq => by rw [← hH1, Array.getElem?_push, if_neg (Nat.ne_of_lt hq)]
    have hG1 := hG.push z1 e1 (arrV_size _ _ _) o1 (e1 := .inl (cA', n.toNatClampNeg, .inr (.inr (.inr (.inr (fun _ => none)))))) e1 b1 b2
    have K := kk w.2.1 _ rfl rfl H1 locs ls hG1 ⟨Nat.le_trans hS.1 (by omega), fun x h1 h2 => (o1 x (Nat.lt_of_lt_of_le h1 hS.1)).trans (hS.2.1 x h1 h2), hS.2.2⟩ hl
    rw [← g1] at K
    exact W.exact K
  exact W1 T hT X
theorem ag_aald (E : EE p R s m args meth c cc nL own ret D cl tys b H0 XK hh fr lo) {a n t0 : Nat} {cA : ClassId} {f : Nat → Option Nat} {i : Int32} {ty : FieldType} (hP : w.1 a = some (.inl (cA, n, .inr (.inr (.inr (.inr f)))))) (ht : tys[t0]? = some (cA, ty)) (hty : ty.isReference = true) (hin : vp_in i n) (hdg : decode cc pc = .ok (.aaload, 1)) {v : Value} (hv : va_rf (f i.toNatClampNeg) = v) (kk : AG p l e R s m args below meth c D cl b nL Q (pc + 1) lv (v :: rest) w) : AG p l e R s m args below meth c D cl b nL Q pc lv (.int i :: .ref a :: rest) w := by
  intro H locs ls hG hS hl
  subst hv
  have hlt : i.toNatClampNeg < n := Nat.not_le.mp fun q => hin (Or.inr q)
  exact W.aald (v := va_rf (f i.toNatClampNeg)) (ty := ty) E.1.1 E.1.2.1 (hG.2.2.2 a _ hP).2 ((E.2.1.1.2 t0 _ ht).1 n (fun j => va_rf (f j))) hty (fun q => by cases q) (by show ¬ (i < 0 ∨ (arrV _ _ _).slots.size ≤ _); rw [arrV_size]; exact hin) (by show (arrV _ _ _).slots[_]? = _; rw [arrV_read _ _ hlt]) rfl rfl hdg (kk H locs ls hG hS hl)
/-- an object goes into an array of references of a class E to which its class can be cast -/
theorem ag_aast (E : EE p R s m args meth c cc nL own ret D cl tys b H0 XK hh fr lo) {a n t0 v ci n2 : Nat} {cA : ClassId} {f : Nat → Option Nat} {i : Int32} {C Ec : String} {T0 : u_T} {V : Nat → Value} (hP : w.1 a = some (.inl (cA, n, .inr (.inr (.inr (.inr f)))))) (ht : tys[t0]? = some (cA, .object Ec)) (hv : w.1 v = some (.inr (ci, V))) (hc : cl[ci]? = some (C, T0, n2)) (hcast : XK s → va_Nw (.castable C Ec) s) (hin : vp_in i n) (hdg : decode cc pc = .ok (.aastore, 1)) (kk : ∀ w' : cW, w' = (updP w.1 a (.inl (cA, n, .inr (.inr (.inr (.inr (va_up f i.toNatClampNeg (some v))))))), w.2) → AG p l e R s m args below meth c D cl b nL Q (pc + 1) lv rest w') : AG p l e R s m args below meth c D cl b nL Q pc lv (.ref v :: .int i :: .ref a :: rest) w := by
  intro H locs ls hG hS hl
  have hlt : i.toNatClampNeg < n := Nat.not_le.mp fun q => hin (Or.inr q)
  have h0 : ¬ i < 0 := fun q => hin (Or.inl q)
  obtain ⟨ha, hat⟩ := hG.2.2.2 a _ hP
  obtain ⟨-, r, k1, cellV, k2, k3, k4, -⟩ := hG.2.2.2 v _ hv
  have hr : r = (C, T0, n2) := Option.some.inj (k1.symm.trans hc)
  subst hr
  have hcls := (E.2.1.1.1 ci _ hc).2
  obtain ⟨kA, comp, f1, f2, f3, -⟩ := (E.2.1.1.2 t0 _ ht).2
  obtain ⟨c0, t1, g1, g2, g3⟩ := Cond.castable_spec (va_Nw.use (A := args) rfl (hcast E.2.1.2.1))
  have e1 : c0 = D.1 ci := Option.some.inj (g1.symm.trans hcls.1)
  have e2 : t1 = comp := Option.some.inj (g2.symm.trans f3)
  subst e1; subst e2
  obtain ⟨kC, hkC, -⟩ := hcls.2
  obtain ⟨kcomp, hkcomp⟩ := Vm.classAt_of_findClass f3
  refine W.aast E.1.1 E.1.2.1 hat (fun q h => by cases h) (fun h => by cases h) f1 f2 rfl hkcomp ⟨h0, by show _ < (arrV _ _ _).slots.size; rw [arrV_size]; exact hlt⟩ k2 (fun q h => by rw [k4] at h; cases h) (by rw [k3]; exact hkC) (by rw [k3]; exact g3) rfl rfl hdg fun H1 e z oq => ?_
  refine W.exact (kk _ rfl H1 _ ls (hG.put hP hat e (by simp [Cell.setSlot]) z oq ?_) (hS.put z oq ha) hl)
  show H1[a]? = some (vp_cell _ _)
  rw [e]
  rw [vp_cell_q, vp_cell_q, arrV_store]
  congr 2
  funext q
  by_cases hq : q = i.toNatClampNeg
  · subst hq
    simp [updV, va_up, va_rf]
  · simp [updV, va_up, hq]
theorem ag_castY (E : EE p R s m args meth c cc nL own ret D cl tys b H0 XK hh fr lo) {C nm : String} {T0 : u_T} {index a ci n2 : Nat} {V : Nat → Value} (hP : w.1 a = some (.inr (ci, V))) (hc : cl[ci]? = some (C, T0, n2)) (hlk : Cond.classLink own index nm ∈ lw_all) (hcast : XK s → va_Nw (.castable C nm) s) (hdg : decode cc pc = .ok (.checkcast index, 3)) (kk : AG p l e R s m args below meth c D cl b nL Q (pc + 3) lv (.ref a :: rest) w) : AG p l e R s m args below meth c D cl b nL Q pc lv (.ref a :: rest) w := by
  intro H locs ls hG hS hl
  obtain ⟨-, r, k1, cell, k2, k3, k4, -⟩ := hG.2.2.2 a _ hP
  have hr : r = (C, T0, n2) := Option.some.inj (k1.symm.trans hc)
  subst hr
  have hrec : ∃ cell : Cell, H[a]? = some cell ∧ cell.vm.isStatics = false ∧ s.vm.findClass C = some cell.cls := ⟨cell, k2, by rw [k4]; rfl, by rw [k3]; exact (E.2.1.1.1 ci _ hc).2.1⟩
  exact va_castY E.1.1 E.1.2.1 E.1.2.2.2.1 (E.1.2.2.2.2 _ hlk) (hcast E.2.1.2.1) hrec hdg (kk H locs ls hG hS hl)
theorem ag_instY (E : EE p R s m args meth c cc nL own ret D cl tys b H0 XK hh fr lo) {C nm : String} {T0 : u_T} {index a ci n2 : Nat} {V : Nat → Value} (hP : w.1 a = some (.inr (ci, V))) (hc : cl[ci]? = some (C, T0, n2)) (hlk : Cond.classLink own index nm ∈ lw_all) (hcast : XK s → va_Nw (.castable C nm) s) (hdg : decode cc pc = .ok (.instanceof index, 3)) (kk : AG p l e R s m args below meth c D cl b nL Q (pc + 3) lv (.int 1 :: rest) w) : AG p l e R s m args below meth c D cl b nL Q pc lv (.ref a :: rest) w := by
  intro H locs ls hG hS hl
  obtain ⟨-, r, k1, cell, k2, k3, k4, -⟩ := hG.2.2.2 a _ hP
  have hr : r = (C, T0, n2) := Option.some.inj (k1.symm.trans hc)
  subst hr
  have hrec : ∃ cell : Cell, H[a]? = some cell ∧ cell.vm.isStatics = false ∧ s.vm.findClass C = some cell.cls := ⟨cell, k2, by rw [k4]; rfl, by rw [k3]; exact (E.2.1.1.1 ci _ hc).2.1⟩
  exact va_instY E.1.1 E.1.2.1 E.1.2.2.2.1 (E.1.2.2.2.2 _ hlk) (hcast E.2.1.2.1) hrec hdg (kk H locs ls hG hS hl)
theorem ag_instNo (E : EE p R s m args meth c cc nL own ret D cl tys b H0 XK hh fr lo) {C nm : String} {T0 : u_T} {index a ci n2 : Nat} {V : Nat → Value} (hP : w.1 a = some (.inr (ci, V))) (hc : cl[ci]? = some (C, T0, n2)) (hlk : Cond.classLink own index nm ∈ lw_all) (hcast : XK s → va_Nc C nm s) (hdg : decode cc pc = .ok (.instanceof index, 3)) (kk : AG p l e R s m args below meth c D cl b nL Q (pc + 3) lv (.int 0 :: rest) w) : AG p l e R s m args below meth c D cl b nL Q pc lv (.ref a :: rest) w := by
  intro H locs ls hG hS hl
  obtain ⟨-, r, k1, cell, k2, k3, k4, -⟩ := hG.2.2.2 a _ hP
  have hr : r = (C, T0, n2) := Option.some.inj (k1.symm.trans hc)
  subst hr
  have hrec : ∃ cell : Cell, H[a]? = some cell ∧ cell.vm.isStatics = false ∧ s.vm.findClass C = some cell.cls := ⟨cell, k2, by rw [k4]; rfl, by rw [k3]; exact (E.2.1.1.1 ci _ hc).2.1⟩
  exact va_instNo E.1.1 E.1.2.1 E.1.2.2.2.1 (E.1.2.2.2.2 _ hlk) (hcast E.2.1.2.1) hrec hdg (kk H locs ls hG hS hl)
theorem ag_castS (E : EE p R s m args meth c cc nL own ret D cl tys b H0 XK hh fr lo) {C : String} {T0 : u_T} {index a ci n2 : Nat} {V : Nat → Value} (hP : w.1 a = some (.inr (ci, V))) (hc : cl[ci]? = some (C, T0, n2)) (hlk : Cond.classLink own index C ∈ lw_all) (hdg : decode cc pc = .ok (.checkcast index, 3)) (kk : AG p l e R s m args below meth c D cl b nL Q (pc + 3) lv (.ref a :: rest) w) : AG p l e R s m args below meth c D cl b nL Q pc lv (.ref a :: rest) w := by
  intro H locs ls hG hS hl
  obtain ⟨-, r, k1, cell, k2, k3, k4, -⟩ := hG.2.2.2 a _ hP
  have hr : r = (C, T0, n2) := Option.some.inj (k1.symm.trans hc)
  subst hr
  have hrec : ∃ cell : Cell, H[a]? = some cell ∧ cell.vm.isStatics = false ∧ s.vm.findClass C = some cell.cls := ⟨cell, k2, by rw [k4]; rfl, by rw [k3]; exact (E.2.1.1.1 ci _ hc).2.1⟩
  exact va_castS E.1.1 E.1.2.1 E.1.2.2.2.1 (E.1.2.2.2.2 _ hlk) (E.2.1.1.1 ci _ hc).2 hrec hdg (kk H locs ls hG hS hl)
theorem ag_instS (E : EE p R s m args meth c cc nL own ret D cl tys b H0 XK hh fr lo) {C : String} {T0 : u_T} {index a ci n2 : Nat} {V : Nat → Value} (hP : w.1 a = some (.inr (ci, V))) (hc : cl[ci]? = some (C, T0, n2)) (hlk : Cond.classLink own index C ∈ lw_all) (hdg : decode cc pc = .ok (.instanceof index, 3)) (kk : AG p l e R s m args below meth c D cl b nL Q (pc + 3) lv (.int 1 :: rest) w) : AG p l e R s m args below meth c D cl b nL Q pc lv (.ref a :: rest) w := by
  intro H locs ls hG hS hl
  obtain ⟨-, r, k1, cell, k2, k3, k4, -⟩ := hG.2.2.2 a _ hP
  have hr : r = (C, T0, n2) := Option.some.inj (k1.symm.trans hc)
  subst hr
  have hrec : ∃ cell : Cell, H[a]? = some cell ∧ cell.vm.isStatics = false ∧ s.vm.findClass C = some cell.cls := ⟨cell, k2, by rw [k4]; rfl, by rw [k3]; exact (E.2.1.1.1 ci _ hc).2.1⟩
  exact va_instS E.1.1 E.1.2.1 E.1.2.2.2.1 (E.1.2.2.2.2 _ hlk) (E.2.1.1.1 ci _ hc).2 hrec hdg (kk H locs ls hG hS hl)
theorem ag_null (E : EE p R s m args meth c cc nL own ret D cl tys b H0 XK hh fr lo) (hdg : decode cc pc = .ok (.aconst_null, 1)) (kk : AG p l e R s m args below meth c D cl b nL Q (pc + 1) lv (.null :: rest) w) : AG p l e R s m args below meth c D cl b nL Q pc lv rest w := fun H locs ls hG hS hl => lv_null E.1.1 E.1.2.1 hdg (kk H locs ls hG hS hl)
theorem ag_ifnonnull (E : EE p R s m args meth c cc nL own ret D cl tys b H0 XK hh fr lo) {x : Nat} {off : Int} {tgt : Nat} (hdg : decode cc pc = .ok (.ifnonnull off, 3)) (ht : (pc : Int) + off = (tgt : Int)) (kk : AG p l e R s m args below meth c D cl b nL Q tgt lv rest w) : AG p l e R s m args below meth c D cl b nL Q pc lv (.ref x :: rest) w := fun H locs ls hG hS hl => lv_ifnonnull E.1.1 E.1.2.1 hdg ht (kk H locs ls hG hS hl)
theorem ag_ifnonnullN (E : EE p R s m args meth c cc nL own ret D cl tys b H0 XK hh fr lo) {off : Int} (hdg : decode cc pc = .ok (.ifnonnull off, 3)) (kk : AG p l e R s m args below meth c D cl b nL Q (pc + 3) lv rest w) : AG p l e R s m args below meth c D cl b nL Q pc lv (.null :: rest) w := fun H locs ls hG hS hl => lv_ifnonnullN E.1.1 E.1.2.1 hdg (kk H locs ls hG hS hl)
theorem ag_ifnull (E : EE p R s m args meth c cc nL own ret D cl tys b H0 XK hh fr lo) {x : Nat} {off : Int} (hdg : decode cc pc = .ok (.ifnull off, 3)) (kk : AG p l e R s m args below meth c D cl b nL Q (pc + 3) lv rest w) : AG p l e R s m args below meth c D cl b nL Q pc lv (.ref x :: rest) w := fun H locs ls hG hS hl => lv_ifnull E.1.1 E.1.2.1 hdg (kk H locs ls hG hS hl)
theorem ag_ifnullN (E : EE p R s m args meth c cc nL own ret D cl tys b H0 XK hh fr lo) {off : Int} {tgt : Nat} (hdg : decode cc pc = .ok (.ifnull off, 3)) (ht : (pc : Int) + off = (tgt : Int)) (kk : AG p l e R s m args below meth c D cl b nL Q tgt lv rest w) : AG p l e R s m args below meth c D cl b nL Q pc lv (.null :: rest) w := fun H locs ls hG hS hl => lv_ifnullN E.1.1 E.1.2.1 hdg ht (kk H locs ls hG hS hl)
theorem ag_aload_nN (E : EE p R s m args meth c cc nL own ret D cl tys b H0 XK hh fr lo) {k : Fin 4} {i : Nat} (hdg : decode cc pc = .ok (.aload_n k, 1)) (hi : (k : Nat) = i) (j : Nat) (hj : lv[j]? = some (i, .null)) (kk : AG p l e R s m args below meth c D cl b nL Q (pc + 1) lv (.null :: rest) w) : AG p l e R s m args below meth c D cl b nL Q pc lv rest w := fun H locs ls hG hS hl => lv_aload_nN E.1.1 E.1.2.1 hdg hi (lv_at hl j hj) (kk H locs ls hG hS hl)
theorem ag_instN (E : EE p R s m args meth c cc nL own ret D cl tys b H0 XK hh fr lo) {index : Nat} (hdg : decode cc pc = .ok (.instanceof index, 3)) (kk : AG p l e R s m args below meth c D cl b nL Q (pc + 3) lv (.int 0 :: rest) w) : AG p l e R s m args below meth c D cl b nL Q pc lv (.null :: rest) w := fun H locs ls hG hS hl => lv_instN E.1.1 E.1.2.1 hdg (kk H locs ls hG hS hl)
theorem ag_acmp_eq (E : EE p R s m args meth c cc nL own ret D cl tys b H0 XK hh fr lo) {rx ry : Option Nat} {off : Int} {tgt : Nat} (hdg : decode cc pc = .ok (.if_acmp .eq off, 3)) (ht : (pc : Int) + off = (tgt : Int)) (kt : rx = ry → AG p l e R s m args below meth c D cl b nL Q tgt lv rest w) (kf : ¬ rx = ry → AG p l e R s m args below meth c D cl b nL Q (pc + 3) lv rest w) : AG p l e R s m args below meth c D cl b nL Q pc lv (va_rf ry :: va_rf rx :: rest) w := fun H locs ls hG hS hl => lv_acmp_eq E.1.1 E.1.2.1 hdg ht (fun q => kt q H locs ls hG hS hl) (fun q => kf q H locs ls hG hS hl)
theorem ag_acmp_ne (E : EE p R s m args meth c cc nL own ret D cl tys b H0 XK hh fr lo) {rx ry : Option Nat} {off : Int} {tgt : Nat} (hdg : decode cc pc = .ok (.if_acmp .ne off, 3)) (ht : (pc : Int) + off = (tgt : Int)) (kt : ¬ rx = ry → AG p l e R s m args below meth c D cl b nL Q tgt lv rest w) (kf : rx = ry → AG p l e R s m args below meth c D cl b nL Q (pc + 3) lv rest w) : AG p l e R s m args below meth c D cl b nL Q pc lv (va_rf ry :: va_rf rx :: rest) w := fun H locs ls hG hS hl => lv_acmp_ne E.1.1 E.1.2.1 hdg ht (fun q => kt q H locs ls hG hS hl) (fun q => kf q H locs ls hG hS hl)
theorem ag_objInit (E : EE p R s m args meth c cc nL own ret D cl tys b H0 XK hh fr lo) {index a : Nat} (hlk : Cond.methodLink own index objectInit ∈ lw_all) (him : Cond.instanceMethod objectInit ∈ lw_all) (hcd : Cond.code objectInit ⟨#[0xb1]⟩ 1 none ∈ lw_all) (hfr : 1 ≤ fr) (hlo : 20 ≤ lo) (hst : (rest.map fun v => v.category).sum ≤ 8) (hdg : decode cc pc = .ok (.invokespecial index, 3)) (kk : AG p l e R s m args below meth c D cl b nL Q (pc + 3) lv rest w) : AG p l e R s m args below meth c D cl b nL Q pc lv (.ref a :: rest) w := fun H locs ls hG hS hl => W.objInit E.1.1 E.1.2.1 E.1.2.2.2.1 (E.1.2.2.2.2 _ hlk) (E.1.2.2.2.2 _ him) (E.1.2.2.2.2 _ hcd) rfl (hl.1.trans E.1.2.2.1.symm) rfl hdg (Nat.le_trans hfr E.2.2.2.2.2.2.2.2.1) (by
    have h2 := lv_room (m := m) (pc := pc) (ls := ls) (rest := .ref a :: rest) hst
    have h3 := E.2.2.2.2.2.2.2.2.2.1
    show 2 * (F0 m pc ls (.ref a :: rest)).monitorRoom + _ + 12 ≤ _
    omega) (kk H locs ls hG hS hl)
/-- invokevirtual of x: the object's class C selects y, which a superclass 'owner' declares (inherited) -/
theorem ag_callU (E : EE p R s m args meth c cc nL own ret D cl tys b H0 XK hh fr lo) {C : String} {index n n2 a ci fr2 lo2 : Nat} {y : MethodName} {bytes : ByteArray} {maxL : Nat} {ret2 : Option FieldType} {V : Nat → Value} {As : List Value} {Qp : Option Value → cW → Prop} {T0 : u_T} (hP : w.1 a = some (.inr (ci, V))) (hc : cl[ci]? = some (C, T0, n2)) (hcon : CON l D cl tys b H0 XK y bytes maxL ret2 fr2 lo2 (.ref a :: As) w Qp) {x : MethodName} {owner : String} (hG0 : GoodIn lw_all (va_wsU own index C owner x y (ws_ y bytes maxL ret2))) (hyx : y = ⟨owner, x.name, x.desc⟩) (hd : owner ≠ "java/lang/invoke/MethodHandle" ∧ owner ≠ "java/lang/invoke/VarHandle" ∧ (parseMethodDescriptor x.desc).map (fun d => d.parameters.length) = some n) (hfr : fr2 + 1 ≤ fr) (hlo : 8 + (maxL + 11) + lo2 ≤ lo) (hn : As.length = n) (hst : (rest.map fun v => v.category).sum ≤ 8) (hdg : decode cc pc = .ok (.invokevirtual index, 3)) {st0 : List Value} (hst0 : st0 = As.reverse ++ .ref a :: rest) (kk : ∀ (v : Option Value) (w' : cW), Qp v w' → AG p l e R s m args below meth c D cl b nL Q (pc + 3) lv (v.toList ++ rest) w') : AG p l e R s m args below meth c D cl b nL Q pc lv st0 w := by
  intro H locs ls hG hS hl T hT X
  have h1 := stand_us X E.2.2.2.2.2.1
  rw [hT] at h1
  have hz := hS.1
  have r1 := E.2.2.2.2.2.2.1
  have r2 := E.2.2.2.2.2.2.2.1
  have g1 := hG.1
  have g2 := hG.2.1
  have g3 := hG.2.2.1
  have hO : ∀ q : Nat, q < b → H[q]? = H0[q]? := fun q hq => (hS.2.1 q (Nat.lt_of_lt_of_le hq E.2.2.2.2.2.1) (Nat.not_le.mpr hq)).trans (E.2.2.2.2.1 q hq)
  have hf : H.size - s.heap.size + (b + cB - w.2.1) ≤ R.cells ∧ usd s H + (sB - w.2.2) ≤ R.slots := ⟨by rw [r1]; omega, by rw [r2]; omega⟩
  subst hst0
  have hrec : ∃ cellB : Cell, H[a]? = some cellB ∧ cellB.vm.isStatics = false ∧ s.vm.findClass C = some cellB.cls := by
    obtain ⟨-, r, k1, cell, k2, k3, k4, -⟩ := hG.2.2.2 a _ hP
    have hr : r = (C, T0, n2) := Option.some.inj (k1.symm.trans hc)
    subst hr
    exact ⟨cell, k2, by rw [k4]; rfl, by rw [k3]; exact (E.2.1.1.1 ci _ hc).2.1⟩
  exact ag_run (y := y) (g := F0 m pc ls []) hG hS hl (va_runU (As := As) (rest := rest) (C := C) E.1 hcon (va_cwU n E.1.2.2.2.2 hG0 rfl rfl rfl hyx hd ⟨Nat.le_trans hfr E.2.2.2.2.2.2.2.2.1, Nat.le_trans hlo E.2.2.2.2.2.2.2.2.2.1⟩) ⟨pcC_blind, hrec, fun U hU hW => ⟨rfl, kK.warm hW E.2.1, by rw [hU]; exact hG, by rw [hU]; exact hO⟩⟩ rfl hn hl.1 rfl (lv_room hst) hdg hf) kk T hT X
/-- invokevirtual of x, which the object's class C overrides by y -/
theorem ag_callO (E : EE p R s m args meth c cc nL own ret D cl tys b H0 XK hh fr lo) {C : String} {index n n2 a ci fr2 lo2 : Nat} {y : MethodName} {bytes : ByteArray} {maxL : Nat} {ret2 : Option FieldType} {V : Nat → Value} {As : List Value} {Qp : Option Value → cW → Prop} {T0 : u_T} (hP : w.1 a = some (.inr (ci, V))) (hc : cl[ci]? = some (C, T0, n2)) (hcon : CON l D cl tys b H0 XK y bytes maxL ret2 fr2 lo2 (.ref a :: As) w Qp) {x : MethodName} {owner : String} {b0 : ByteArray} {m0 : Nat} {r0 : Option FieldType} (hG0 : GoodIn lw_all (va_wsO own index C owner x y (ws_ y bytes maxL ret2))) (h0 : Cond.code ⟨owner, x.name, x.desc⟩ b0 m0 r0 ∈ lw_all) (hd : owner ≠ "java/lang/invoke/MethodHandle" ∧ owner ≠ "java/lang/invoke/VarHandle" ∧ (parseMethodDescriptor x.desc).map (fun d => d.parameters.length) = some n) (hfr : fr2 + 1 ≤ fr) (hlo : 8 + (maxL + 11) + lo2 ≤ lo) (hn : As.length = n) (hst : (rest.map fun v => v.category).sum ≤ 8) (hdg : decode cc pc = .ok (.invokevirtual index, 3)) {st0 : List Value} (hst0 : st0 = As.reverse ++ .ref a :: rest) (kk : ∀ (v : Option Value) (w' : cW), Qp v w' → AG p l e R s m args below meth c D cl b nL Q (pc + 3) lv (v.toList ++ rest) w') : AG p l e R s m args below meth c D cl b nL Q pc lv st0 w := by
  intro H locs ls hG hS hl T hT X
  have h1 := stand_us X E.2.2.2.2.2.1
  rw [hT] at h1
  have hz := hS.1
  have r1 := E.2.2.2.2.2.2.1
  have r2 := E.2.2.2.2.2.2.2.1
  have g1 := hG.1
  have g2 := hG.2.1
  have g3 := hG.2.2.1
  have hO : ∀ q : Nat, q < b → H[q]? = H0[q]? := fun q hq => (hS.2.1 q (Nat.lt_of_lt_of_le hq E.2.2.2.2.2.1) (Nat.not_le.mpr hq)).trans (E.2.2.2.2.1 q hq)
  have hf : H.size - s.heap.size + (b + cB - w.2.1) ≤ R.cells ∧ usd s H + (sB - w.2.2) ≤ R.slots := ⟨by rw [r1]; omega, by rw [r2]; omega⟩
  subst hst0
  have hrec : ∃ cellB : Cell, H[a]? = some cellB ∧ cellB.vm.isStatics = false ∧ s.vm.findClass C = some cellB.cls := by
    obtain ⟨-, r, k1, cell, k2, k3, k4, -⟩ := hG.2.2.2 a _ hP
    have hr : r = (C, T0, n2) := Option.some.inj (k1.symm.trans hc)
    subst hr
    exact ⟨cell, k2, by rw [k4]; rfl, by rw [k3]; exact (E.2.1.1.1 ci _ hc).2.1⟩
  exact ag_run (y := y) (g := F0 m pc ls []) hG hS hl (va_runU (As := As) (rest := rest) (C := C) E.1 hcon (va_cwO n E.1.2.2.2.2 hG0 rfl rfl rfl h0 hd ⟨Nat.le_trans hfr E.2.2.2.2.2.2.2.2.1, Nat.le_trans hlo E.2.2.2.2.2.2.2.2.2.1⟩) ⟨pcC_blind, hrec, fun U hU hW => ⟨rfl, kK.warm hW E.2.1, by rw [hU]; exact hG, by rw [hU]; exact hO⟩⟩ rfl hn hl.1 rfl (lv_room hst) hdg hf) kk T hT X
/-- super.y(..) -/
theorem ag_callSU (E : EE p R s m args meth c cc nL own ret D cl tys b H0 XK hh fr lo) {C : String} {index n n2 a ci fr2 lo2 : Nat} {y : MethodName} {bytes : ByteArray} {maxL : Nat} {ret2 : Option FieldType} {V : Nat → Value} {As : List Value} {Qp : Option Value → cW → Prop} {T0 : u_T} (hP : w.1 a = some (.inr (ci, V))) (hc : cl[ci]? = some (C, T0, n2)) (hcon : CON l D cl tys b H0 XK y bytes maxL ret2 fr2 lo2 (.ref a :: As) w Qp) (hG0 : GoodIn lw_all (va_wsSU own index y (ws_ y bytes maxL ret2))) (hd : y.name ≠ "<init>" ∧ (parseMethodDescriptor y.desc).map (fun d => d.parameters.length) = some n) (hfr : fr2 + 1 ≤ fr) (hlo : 8 + (maxL + 11) + lo2 ≤ lo) (hn : As.length = n) (hst : (rest.map fun v => v.category).sum ≤ 8) (hdg : decode cc pc = .ok (.invokespecial index, 3)) {st0 : List Value} (hst0 : st0 = As.reverse ++ .ref a :: rest) (kk : ∀ (v : Option Value) (w' : cW), Qp v w' → AG p l e R s m args below meth c D cl b nL Q (pc + 3) lv (v.toList ++ rest) w') : AG p l e R s m args below meth c D cl b nL Q pc lv st0 w := by
  intro H locs ls hG hS hl T hT X
  have h1 := stand_us X E.2.2.2.2.2.1
  rw [hT] at h1
  have hz := hS.1
  have r1 := E.2.2.2.2.2.2.1
  have r2 := E.2.2.2.2.2.2.2.1
  have g1 := hG.1
  have g2 := hG.2.1
  have g3 := hG.2.2.1
  have hO : ∀ q : Nat, q < b → H[q]? = H0[q]? := fun q hq => (hS.2.1 q (Nat.lt_of_lt_of_le hq E.2.2.2.2.2.1) (Nat.not_le.mpr hq)).trans (E.2.2.2.2.1 q hq)
  have hf : H.size - s.heap.size + (b + cB - w.2.1) ≤ R.cells ∧ usd s H + (sB - w.2.2) ≤ R.slots := ⟨by rw [r1]; omega, by rw [r2]; omega⟩
  subst hst0
  have hrec : ∃ cellB : Cell, H[a]? = some cellB ∧ cellB.vm.isStatics = false ∧ s.vm.findClass C = some cellB.cls := by
    obtain ⟨-, r, k1, cell, k2, k3, k4, -⟩ := hG.2.2.2 a _ hP
    have hr : r = (C, T0, n2) := Option.some.inj (k1.symm.trans hc)
    subst hr
    exact ⟨cell, k2, by rw [k4]; rfl, by rw [k3]; exact (E.2.1.1.1 ci _ hc).2.1⟩
  exact ag_run (y := y) (g := F0 m pc ls []) hG hS hl (va_runSU (As := As) (rest := rest) (C := C) (E.2.1.1.1 ci _ hc).2 E.1 hcon (va_cwSU n E.1.2.2.2.2 hG0 rfl rfl rfl hd ⟨Nat.le_trans hfr E.2.2.2.2.2.2.2.2.1, Nat.le_trans hlo E.2.2.2.2.2.2.2.2.2.1⟩) ⟨pcC_blind, hrec, fun U hU hW => ⟨rfl, kK.warm hW E.2.1, by rw [hU]; exact hG, by rw [hU]; exact hO⟩⟩ rfl hn hl.1 rfl (lv_room hst) hdg hf) kk T hT X
/-- a nest mate's private static method -/
theorem ag_callSN (E : EE p R s m args meth c cc nL own ret D cl tys b H0 XK hh fr lo) {host : String} {index n fr2 lo2 : Nat} {y : MethodName} {bytes : ByteArray} {maxL : Nat} {ret2 : Option FieldType} {As : List Value} {Qp : Option Value → cW → Prop} (hcon : CON l D cl tys b H0 XK y bytes maxL ret2 fr2 lo2 As w Qp) (hcode : Cond.code y bytes maxL ret2 ∈ lw_all) (hlk : XK s → va_Nw (.methodLinkNest own index y host) s) (hini : Cond.initialized y.cls ∈ lw_all) (hstt : Cond.static y ∈ lw_all) (hd : y.cls ≠ "java/lang/invoke/MethodHandle" ∧ y.cls ≠ "java/lang/invoke/VarHandle" ∧ (parseMethodDescriptor y.desc).map (fun d => d.parameters.length) = some n) (hfr : fr2 + 1 ≤ fr) (hlo : 8 + (maxL + 11) + lo2 ≤ lo) (hn : As.length = n) (hst : (rest.map fun v => v.category).sum ≤ 8) (hdg : decode cc pc = .ok (.invokestatic index, 3)) {st0 : List Value} (hst0 : st0 = As.reverse ++ rest) (kk : ∀ (v : Option Value) (w' : cW), Qp v w' → AG p l e R s m args below meth c D cl b nL Q (pc + 3) lv (v.toList ++ rest) w') : AG p l e R s m args below meth c D cl b nL Q pc lv st0 w := by
  intro H locs ls hG hS hl T hT X
  have h1 := stand_us X E.2.2.2.2.2.1
  rw [hT] at h1
  have hz := hS.1
  have r1 := E.2.2.2.2.2.2.1
  have r2 := E.2.2.2.2.2.2.2.1
  have g1 := hG.1
  have g2 := hG.2.1
  have g3 := hG.2.2.1
  have hO : ∀ q : Nat, q < b → H[q]? = H0[q]? := fun q hq => (hS.2.1 q (Nat.lt_of_lt_of_le hq E.2.2.2.2.2.1) (Nat.not_le.mpr hq)).trans (E.2.2.2.2.1 q hq)
  have hf : H.size - s.heap.size + (b + cB - w.2.1) ≤ R.cells ∧ usd s H + (sB - w.2.2) ≤ R.slots := ⟨by rw [r1]; omega, by rw [r2]; omega⟩
  subst hst0
  exact ag_run (y := y) (g := F0 m pc ls []) hG hS hl (va_runSN (As := As) (rest := rest) E.1 hcon ⟨va_cnB n E.1.2.2.2.2 (lw_meth hcode) rfl rfl rfl (hlk E.2.1.2.1) (E.1.2.2.2.2 _ hini) hd ⟨Nat.le_trans hfr E.2.2.2.2.2.2.2.2.1, Nat.le_trans hlo E.2.2.2.2.2.2.2.2.2.1⟩, E.1.2.2.2.2 _ hstt, trivial⟩ ⟨pcC_blind, fun U hU hW => ⟨rfl, kK.warm hW E.2.1, by rw [hU]; exact hG, by rw [hU]; exact hO⟩⟩ rfl hn hl.1 rfl (lv_room hst) hdg hf) kk T hT X
/-- a nest mate's private constructor -/
theorem ag_callIN (E : EE p R s m args meth c cc nL own ret D cl tys b H0 XK hh fr lo) {host : String} {index n a fr2 lo2 : Nat} {y : MethodName} {bytes : ByteArray} {maxL : Nat} {As : List Value} {Qp : Option Value → cW → Prop} (hcon : CON l D cl tys b H0 XK y bytes maxL none fr2 lo2 (.ref a :: As) w Qp) (hcode : Cond.code y bytes maxL none ∈ lw_all) (hlk : XK s → va_Nw (.methodLinkNest own index y host) s) (hini : Cond.initialized y.cls ∈ lw_all) (him : Cond.instanceMethod y ∈ lw_all) (hy1 : y.name = "<init>") (hd : y.cls ≠ "java/lang/invoke/MethodHandle" ∧ y.cls ≠ "java/lang/invoke/VarHandle" ∧ (parseMethodDescriptor y.desc).map (fun d => d.parameters.length) = some n) (hfr : fr2 + 1 ≤ fr) (hlo : 8 + (maxL + 11) + lo2 ≤ lo) (hn : As.length = n) (hst : (rest.map fun v => v.category).sum ≤ 8) (hdg : decode cc pc = .ok (.invokespecial index, 3)) {st0 : List Value} (hst0 : st0 = As.reverse ++ .ref a :: rest) (kk : ∀ (v : Option Value) (w' : cW), Qp v w' → AG p l e R s m args below meth c D cl b nL Q (pc + 3) lv (v.toList ++ rest) w') : AG p l e R s m args below meth c D cl b nL Q pc lv st0 w := by
  intro H locs ls hG hS hl T hT X
  have h1 := stand_us X E.2.2.2.2.2.1
  rw [hT] at h1
  have hz := hS.1
  have r1 := E.2.2.2.2.2.2.1
  have r2 := E.2.2.2.2.2.2.2.1
  have g1 := hG.1
  have g2 := hG.2.1
  have g3 := hG.2.2.1
  have hO : ∀ q : Nat, q < b → H[q]? = H0[q]? := fun q hq => (hS.2.1 q (Nat.lt_of_lt_of_le hq E.2.2.2.2.2.1) (Nat.not_le.mpr hq)).trans (E.2.2.2.2.1 q hq)
  have hf : H.size - s.heap.size + (b + cB - w.2.1) ≤ R.cells ∧ usd s H + (sB - w.2.2) ≤ R.slots := ⟨by rw [r1]; omega, by rw [r2]; omega⟩
  subst hst0
  exact ag_run (y := y) (g := F0 m pc ls []) hG hS hl (va_runIN (As := As) (rest := rest) E.1 hcon ⟨va_cnB n E.1.2.2.2.2 (lw_meth hcode) rfl rfl rfl (hlk E.2.1.2.1) (E.1.2.2.2.2 _ hini) hd ⟨Nat.le_trans hfr E.2.2.2.2.2.2.2.2.1, Nat.le_trans hlo E.2.2.2.2.2.2.2.2.2.1⟩, hy1, E.1.2.2.2.2 _ him⟩ ⟨pcC_blind, fun U hU hW => ⟨rfl, kK.warm hW E.2.1, by rw [hU]; exact hG, by rw [hU]; exact hO⟩⟩ rfl hn hl.1 rfl (lv_room hst) hdg hf) kk T hT X
end AGG
