/-! rows of the class's methods: objects in Z, givings' fields -/
set_option maxRecDepth 100000
theorem updP_z {P : cP} {a : Nat} {e : cE} : updP P a e a = some e := by simp [updP]
abbrev AGT (p : Program) (l : Launch) (e : Env) (R : Room) (s : State) (m : MethodId) (args : Array Value) (below : List Frame) (meth : Method) (c : Code) (D : va_G) (b nL z u : Nat) (Qp : Option Value → cW → Prop) (Xp : Nat → cW → Prop) (pc : Nat) (lv : List (Nat × Value)) (st : List Value) (f : cW) : Prop :=
  AG p l e R s m args below meth c D clC b nL (MQX below (QXX D clC b Qp Xp) args s (b + cB - z) (sB - u) (fun q => b ≤ q)) pc lv st f
section XYR
variable {p : Program} {l : Launch} {e : Env} {R : Room} {s : State} {m : MethodId} {args : Array Value} {below : List Frame} {meth : Method} {c : Code} {D : va_G} {cs : Nat → ClassId} {b nL fr lo z u o : Nat} {H0 : Heap} {XK : State → Prop} {hh : List (Nat × Nat × Nat × Nat)} {cc : ByteArray} {ret : Option FieldType} {pc : Nat} {lv : List (Nat × Value)} {rest : List Value} {f : cW} {own : String} {Q : State → Prop} {cl : List vw_C} {st : List Value} {S' : XS} {Qp : Option Value → XS → Prop}
theorem ag_eqX (hw : f = wX o cs S') (kk : ∀ f1 : XS, f1 = S' → AG p l e R s m args below meth c D cl b nL Q pc lv st (wX o cs f1)) : AG p l e R s m args below meth c D cl b nL Q pc lv st f := by
  subst hw
  exact kk _ rfl
theorem ax_aret (E : EX p R s m args meth c cc nL own ret D cs b H0 XK hh fr lo z u) {v : Value} {rt : FieldType} (hret : ret = some rt) (hrt : (∃ n, rt = .object n) ∨ ∃ t, rt = .array t) (hv : v = .null ∨ ∃ a, v = .ref a) (hq : Qp (some v) S') (hdg : decode cc pc = .ok (.areturn, 1)) : AX p l e R s m args below meth c D cs b nL o z u Qp pc lv [v] S' := ag_aret hret hrt hv E.1.2.2.2.2.2.1 E.1 (w0 := ((wX o cs S').1, z, u)) E.2 ⟨S', rfl, hq⟩ hdg
theorem ag_givf {tys : List (ClassId × FieldType)} (E : EE p R s m args meth c cc nL own ret D clC tys b H0 XK hh fr lo) (k : Nat) (hk : k < 3) {ci index a : Nat} (ho : gOk ci = true) (hlk : Cond.fieldLink own index "MarketDays$Giving" (TX8 k).2.1 (TX8 k).2.2.1 ∈ lw_all) (hdg : decode cc pc = .ok (.getfield index, 3)) {fs : List Value} {v : Value} (hP : f.1 a = some (.inr (ci, vp_V fs))) (hv : fs[k]? = some v) (kk : AG p l e R s m args below meth c D clC b nL Q (pc + 3) lv (v :: rest) f) : AG p l e R s m args below meth c D clC b nL Q pc lv (.ref a :: rest) f := by
  have hm : ci ∈ [3, 4, 5, 6, 7, 8] := List.contains_iff_mem.mp ho
  simp only [List.mem_cons, List.not_mem_nil, or_false] at hm
  have h3 : k = 0 ∨ k = 1 ∨ k = 2 := by omega
  rcases hm with q | q | q | q | q | q
  all_goals subst q
  · exact ag_getL E k (C := RX8) (T := TX8) (N := 3) rfl in_X8 hk hlk (by rcases h3 with h | h | h <;> subst h <;> exact fun _ h => h) hdg hP hv kk
  · rcases h3 with h | h | h <;> subst h
    · exact ag_getL E 0 (C := RX9) (T := TX9) (N := 3) rfl in_X9 hk hlk (fun _ h => h) hdg hP hv kk
    · exact ag_getL E 1 (C := RX9) (T := TX9) (N := 3) rfl in_X9 hk hlk (fun _ h => h) hdg hP hv kk
    · exact ag_getL E 2 (C := RX9) (T := TX9) (N := 3) rfl in_X9 hk hlk (fun _ h => h) hdg hP hv kk
  · rcases h3 with h | h | h <;> subst h
    · exact ag_getL E 0 (C := RX10) (T := TX10) (N := 3) rfl in_X10 hk hlk (fun _ h => h) hdg hP hv kk
    · exact ag_getL E 1 (C := RX10) (T := TX10) (N := 3) rfl in_X10 hk hlk (fun _ h => h) hdg hP hv kk
    · exact ag_getL E 2 (C := RX10) (T := TX10) (N := 3) rfl in_X10 hk hlk (fun _ h => h) hdg hP hv kk
  · rcases h3 with h | h | h <;> subst h
    · exact ag_getL E 0 (C := RX11) (T := TX11) (N := 3) rfl in_X11 hk hlk (fun _ h => h) hdg hP hv kk
    · exact ag_getL E 1 (C := RX11) (T := TX11) (N := 3) rfl in_X11 hk hlk (fun _ h => h) hdg hP hv kk
    · exact ag_getL E 2 (C := RX11) (T := TX11) (N := 3) rfl in_X11 hk hlk (fun _ h => h) hdg hP hv kk
  · rcases h3 with h | h | h <;> subst h
    · exact ag_getL E 0 (C := RX12) (T := TX12) (N := 3) rfl in_X12 hk hlk (fun _ h => h) hdg hP hv kk
    · exact ag_getL E 1 (C := RX12) (T := TX12) (N := 3) rfl in_X12 hk hlk (fun _ h => h) hdg hP hv kk
    · exact ag_getL E 2 (C := RX12) (T := TX12) (N := 3) rfl in_X12 hk hlk (fun _ h => h) hdg hP hv kk
  · rcases h3 with h | h | h <;> subst h
    · exact ag_getL E 0 (C := RX13) (T := TX13) (N := 3) rfl in_X13 hk hlk (fun _ h => h) hdg hP hv kk
    · exact ag_getL E 1 (C := RX13) (T := TX13) (N := 3) rfl in_X13 hk hlk (fun _ h => h) hdg hP hv kk
    · exact ag_getL E 2 (C := RX13) (T := TX13) (N := 3) rfl in_X13 hk hlk (fun _ h => h) hdg hP hv kk
theorem ag_named_put {A : Prop} (hr : AG p l e R s m args below meth c D cl b nL Q pc lv st f → A) (hw : f = wX o cs S') (kk : ∀ f1 : XS, f1 = S' → AG p l e R s m args below meth c D cl b nL Q pc lv st (wX o cs f1)) : A := hr (ag_eqX hw kk)
theorem gw_athrow (E : EX p R s m args meth c cc nL own ret D cs b H0 XK hh fr lo z u) {Qq : Option Value → cW → Prop} {Xp : Nat → cW → Prop} {a : Nat} (hout : (tableOf hh).all (fun x => !covers x pc) = true) (hq : Xp a f) (hdg : decode cc pc = .ok (.athrow, 1)) : AGT p l e R s m args below meth c D b nL z u Qq Xp pc lv (.ref a :: rest) f := ag_athrow E.1 (w0 := (f.1, z, u)) E.2 hout hq hdg
theorem gw_thout (E : EX p R s m args meth c cc nL own ret D cs b H0 XK hh fr lo z u) {Qq : Option Value → cW → Prop} {Xp : Nat → cW → Prop} {a : Nat} (hout : (tableOf hh).all (fun x => !covers x pc) = true) (hq : Xp a f) : TH p l e R s m args below meth c D clC b nL (MQX below (QXX D clC b Qq Xp) args s (b + cB - z) (sB - u) (fun q => b ≤ q)) pc lv rest a f := th_out E.1 (w0 := (f.1, z, u)) E.2 hout hq
end XYR
