/-! rows of the law's own body: the script (old heap), its end -/
set_option maxRecDepth 100000
section LAWR
variable {p : Program} {l : Launch} {e : Env} {R : Room} {s : State} {m : MethodId} {args : Array Value} {below : List Frame} {meth : Method} {c : Code} {D : va_G} {cl : List vw_C} {tys : List (ClassId × FieldType)} {cs : Nat → ClassId} {b nL fr lo z u : Nat} {H0 : Heap} {XK : State → Prop} {hh : List (Nat × Nat × Nat × Nat)} {cc : ByteArray} {own : String} {rt : Option FieldType} {Q : State → Prop} {pc : Nat} {lv : List (Nat × Value)} {rest : List Value} {w : cW} {sc L : Nat} {xs : Nat → Int32}
theorem ag_slen (E : EE p R s m args meth c cc nL own rt D cl tys b H0 XK hh fr lo) (hX : va_X sc L xs s s.heap) (hsb : sc < b) (hdg : decode cc pc = .ok (.arraylength, 1)) (kk : AG p l e R s m args below meth c D cl b nL Q (pc + 1) lv (.int (Int32.ofNat L) :: rest) w) : AG p l e R s m args below meth c D cl b nL Q pc lv (.ref sc :: rest) w :=
  fun H locs ls hG hS hl => va_slen E.1.1 E.1.2.1 hX (Nat.lt_of_lt_of_le hsb E.2.2.2.2.2.1) (Nat.not_le.mpr hsb) hS hdg (kk H locs ls hG hS hl)
theorem ag_sld (E : EE p R s m args meth c cc nL own rt D cl tys b H0 XK hh fr lo) (hX : va_X sc L xs s s.heap) (hsb : sc < b) {i : Int32} (hin : vp_in i L) (hdg : decode cc pc = .ok (.iaload, 1)) (kk : AG p l e R s m args below meth c D cl b nL Q (pc + 1) lv (.int (xs i.toNatClampNeg) :: rest) w) : AG p l e R s m args below meth c D cl b nL Q pc lv (.int i :: .ref sc :: rest) w :=
  fun H locs ls hG hS hl => va_sld E.1.1 E.1.2.1 hX (Nat.lt_of_lt_of_le hsb E.2.2.2.2.2.1) (Nat.not_le.mpr hsb) hS hin hdg (kk H locs ls hG hS hl)
theorem law_ret (E : EE p room_1 s m #[Value.ref sc] meth c code 4 own ret D clC tys b H0 XK hh fr lo) (hb : s.heap.size = b) {r : Int32} (hr : r = 1) (hdg : decode code pc = .ok (.ireturn, 1)) : AG p l e room_1 s m #[Value.ref sc] below meth c D clC b 4 (lw_Z below #[Value.ref sc] s) pc lv [.int r] w := by
  intro H locs ls hG hS hl
  subst hr
  refine va_forget (fun q hq => by rw [hb]; exact hS.2.2 q hq) (W.widen ?_ ?_ (lw_ret E.1.1 E.1.2.1 E.2.2.1 E.2.2.2.1 hdg))
  · have g1 := hG.1
    have g3 := hG.2.2.1.2.1
    unfold cB at g3
    omega
  · have g2 := hG.2.1
    have g3 := hG.2.2.1.2.2
    unfold sB at g3
    unfold usd
    rw [hb, g2]
    exact g3
end LAWR
