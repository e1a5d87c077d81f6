/-! rows of AG: one an instruction (wrappers of the kit's rows) -/
def i_shl (x y : Int32) : Int32 := x <<< (y &&& 31)
def i_shr (x y : Int32) : Int32 := x >>> (y &&& 31)
def i_ushr (x y : Int32) : Int32 := (x.toUInt32 >>> (y.toUInt32 &&& Int32.toUInt32 31)).toInt32
def i_rem (x y : Int32) : Int32 := x - x / y * y
def i_b (x : Int32) : Int32 := x.toInt8.toInt32
def i_s (x : Int32) : Int32 := x.toInt16.toInt32
def i_c (x : Int32) : Int32 := (x.toUInt32 % 65536).toInt32
def l_shl (x : Int64) (y : Int32) : Int64 := x <<< (y.toInt64 &&& 63)
def l_shr (x : Int64) (y : Int32) : Int64 := x >>> (y.toInt64 &&& 63)
section AGR
variable {p : Program} {l : Launch} {e : Env} {R : Room} {s : State} {m : MethodId} {args : Array Value} {below : List Frame} {meth : Method} {c : Code} {D : va_G} {cl : List vw_C} {tys : List (ClassId × FieldType)} {b nL fr lo : Nat} {H0 : Heap} {XK : State → Prop} {hh : List (Nat × Nat × Nat × Nat)} {cc : ByteArray} {own : String} {ret : Option FieldType} {Q : State → Prop} {pc : Nat} {lv : List (Nat × Value)} {rest : List Value} {w : cW}
theorem ag_iconst (E : EE p R s m args meth c cc nL own ret D cl tys b H0 XK hh fr lo) {n : Int} {v : Int32} (hdg : decode cc pc = .ok (.iconst n, 1)) (hv : Int32.ofInt n = v) (kk : AG p l e R s m args below meth c D cl b nL Q (pc + 1) lv (.int v :: rest) w) : AG p l e R s m args below meth c D cl b nL Q pc lv rest w := fun H locs ls hG hS hl => lv_iconst E.1.1 E.1.2.1 hdg hv (kk H locs ls hG hS hl)
theorem ag_bipush (E : EE p R s m args meth c cc nL own ret D cl tys b H0 XK hh fr lo) {n : Int} {v : Int32} (hdg : decode cc pc = .ok (.bipush n, 2)) (hv : (Int8.ofInt n).toInt32 = v) (kk : AG p l e R s m args below meth c D cl b nL Q (pc + 2) lv (.int v :: rest) w) : AG p l e R s m args below meth c D cl b nL Q pc lv rest w := fun H locs ls hG hS hl => lv_bipush E.1.1 E.1.2.1 hdg hv (kk H locs ls hG hS hl)
theorem ag_sipush (E : EE p R s m args meth c cc nL own ret D cl tys b H0 XK hh fr lo) {n : Int} {v : Int32} (hdg : decode cc pc = .ok (.sipush n, 3)) (hv : (Int16.ofInt n).toInt32 = v) (kk : AG p l e R s m args below meth c D cl b nL Q (pc + 3) lv (.int v :: rest) w) : AG p l e R s m args below meth c D cl b nL Q pc lv rest w := fun H locs ls hG hS hl => lv_sipush E.1.1 E.1.2.1 hdg hv (kk H locs ls hG hS hl)
theorem ag_lconst (E : EE p R s m args meth c cc nL own ret D cl tys b H0 XK hh fr lo) {n : Fin 2} {v : Int64} (hdg : decode cc pc = .ok (.lconst n, 1)) (hv : Int64.ofNat (n : Nat) = v) (kk : AG p l e R s m args below meth c D cl b nL Q (pc + 1) lv (.long v :: rest) w) : AG p l e R s m args below meth c D cl b nL Q pc lv rest w := fun H locs ls hG hS hl => lv_lconst E.1.1 E.1.2.1 hdg hv (kk H locs ls hG hS hl)
theorem ag_ldc (E : EE p R s m args meth c cc nL own ret D cl tys b H0 XK hh fr lo) {index : Nat} {v : Int32} (hconst : Jvm.Cond.constant own index v ∈ lw_all) (hdg : decode cc pc = .ok (.ldc index, 2)) (kk : AG p l e R s m args below meth c D cl b nL Q (pc + 2) lv (.int v :: rest) w) : AG p l e R s m args below meth c D cl b nL Q pc lv rest w := fun H locs ls hG hS hl => lv_ldc E.1.1 E.1.2.1 E.1.2.2.2.1 (E.1.2.2.2.2 _ hconst) hdg (kk H locs ls hG hS hl)
theorem ag_ldcw (E : EE p R s m args meth c cc nL own ret D cl tys b H0 XK hh fr lo) {index : Nat} {v : Int32} (hconst : Jvm.Cond.constant own index v ∈ lw_all) (hdg : decode cc pc = .ok (.ldc_w index, 3)) (kk : AG p l e R s m args below meth c D cl b nL Q (pc + 3) lv (.int v :: rest) w) : AG p l e R s m args below meth c D cl b nL Q pc lv rest w := fun H locs ls hG hS hl => lv_ldcw E.1.1 E.1.2.1 E.1.2.2.2.1 (E.1.2.2.2.2 _ hconst) hdg (kk H locs ls hG hS hl)
theorem ag_ldc2 (E : EE p R s m args meth c cc nL own ret D cl tys b H0 XK hh fr lo) {index : Nat} {v : Int64} (hconst : Jvm.Cond.constantLong own index v ∈ lw_all) (hdg : decode cc pc = .ok (.ldc2_w index, 3)) (kk : AG p l e R s m args below meth c D cl b nL Q (pc + 3) lv (.long v :: rest) w) : AG p l e R s m args below meth c D cl b nL Q pc lv rest w := fun H locs ls hG hS hl => lv_ldc2 E.1.1 E.1.2.1 E.1.2.2.2.1 (E.1.2.2.2.2 _ hconst) hdg (kk H locs ls hG hS hl)
theorem ag_iload_n (E : EE p R s m args meth c cc nL own ret D cl tys b H0 XK hh fr lo) {k : Fin 4} {i : Nat} {x : Int32} (hdg : decode cc pc = .ok (.iload_n k, 1)) (hi : (k : Nat) = i) (j : Nat) (hj : lv[j]? = some (i, .int x)) (kk : AG p l e R s m args below meth c D cl b nL Q (pc + 1) lv (.int x :: rest) w) : AG p l e R s m args below meth c D cl b nL Q pc lv rest w := fun H locs ls hG hS hl => lv_iload_n E.1.1 E.1.2.1 hdg hi (lv_at hl j hj) (kk H locs ls hG hS hl)
theorem ag_iload (E : EE p R s m args meth c cc nL own ret D cl tys b H0 XK hh fr lo) {i : Nat} {x : Int32} (hdg : decode cc pc = .ok (.iload i, 2)) (j : Nat) (hj : lv[j]? = some (i, .int x)) (kk : AG p l e R s m args below meth c D cl b nL Q (pc + 2) lv (.int x :: rest) w) : AG p l e R s m args below meth c D cl b nL Q pc lv rest w := fun H locs ls hG hS hl => lv_iload E.1.1 E.1.2.1 hdg (lv_at hl j hj) (kk H locs ls hG hS hl)
theorem ag_istore_n (E : EE p R s m args meth c cc nL own ret D cl tys b H0 XK hh fr lo) {k : Fin 4} {i : Nat} {x : Int32} {lv' : List (Nat × Value)} (hdg : decode cc pc = .ok (.istore_n k, 1)) (hi : (k : Nat) = i) (hn : i < nL) (hf : (i, Value.int x) :: lv.filter (fun q => !(q.1 == i) && !(q.1 + 1 == i && q.2.category == 2)) = lv') (kk : AG p l e R s m args below meth c D cl b nL Q (pc + 1) lv' rest w) : AG p l e R s m args below meth c D cl b nL Q pc lv (.int x :: rest) w := fun H locs ls hG hS hl => lv_istore_n E.1.1 E.1.2.1 hdg hi hl hn hf (fun ls hl => (kk H locs ls hG hS hl))
theorem ag_istore (E : EE p R s m args meth c cc nL own ret D cl tys b H0 XK hh fr lo) {i : Nat} {x : Int32} {lv' : List (Nat × Value)} (hdg : decode cc pc = .ok (.istore i, 2)) (hn : i < nL) (hf : (i, Value.int x) :: lv.filter (fun q => !(q.1 == i) && !(q.1 + 1 == i && q.2.category == 2)) = lv') (kk : AG p l e R s m args below meth c D cl b nL Q (pc + 2) lv' rest w) : AG p l e R s m args below meth c D cl b nL Q pc lv (.int x :: rest) w := fun H locs ls hG hS hl => lv_istore E.1.1 E.1.2.1 hdg hl hn hf (fun ls hl => (kk H locs ls hG hS hl))
theorem ag_lload_n (E : EE p R s m args meth c cc nL own ret D cl tys b H0 XK hh fr lo) {k : Fin 4} {i : Nat} {x : Int64} (hdg : decode cc pc = .ok (.lload_n k, 1)) (hi : (k : Nat) = i) (j : Nat) (hj : lv[j]? = some (i, .long x)) (kk : AG p l e R s m args below meth c D cl b nL Q (pc + 1) lv (.long x :: rest) w) : AG p l e R s m args below meth c D cl b nL Q pc lv rest w := fun H locs ls hG hS hl => lv_lload_n E.1.1 E.1.2.1 hdg hi (lv_at hl j hj) (kk H locs ls hG hS hl)
theorem ag_lload (E : EE p R s m args meth c cc nL own ret D cl tys b H0 XK hh fr lo) {i : Nat} {x : Int64} (hdg : decode cc pc = .ok (.lload i, 2)) (j : Nat) (hj : lv[j]? = some (i, .long x)) (kk : AG p l e R s m args below meth c D cl b nL Q (pc + 2) lv (.long x :: rest) w) : AG p l e R s m args below meth c D cl b nL Q pc lv rest w := fun H locs ls hG hS hl => lv_lload E.1.1 E.1.2.1 hdg (lv_at hl j hj) (kk H locs ls hG hS hl)
theorem ag_lstore_n (E : EE p R s m args meth c cc nL own ret D cl tys b H0 XK hh fr lo) {k : Fin 4} {i : Nat} {x : Int64} {lv' : List (Nat × Value)} (hdg : decode cc pc = .ok (.lstore_n k, 1)) (hi : (k : Nat) = i) (hn : i + 1 < nL) (hf : (i, Value.long x) :: lv.filter (fun q => !(q.1 == i) && (!(q.1 == i + 1) && !(q.1 + 1 == i && q.2.category == 2))) = lv') (kk : AG p l e R s m args below meth c D cl b nL Q (pc + 1) lv' rest w) : AG p l e R s m args below meth c D cl b nL Q pc lv (.long x :: rest) w := fun H locs ls hG hS hl => lv_lstore_n E.1.1 E.1.2.1 hdg hi hl hn hf (fun ls hl => (kk H locs ls hG hS hl))
theorem ag_lstore (E : EE p R s m args meth c cc nL own ret D cl tys b H0 XK hh fr lo) {i : Nat} {x : Int64} {lv' : List (Nat × Value)} (hdg : decode cc pc = .ok (.lstore i, 2)) (hn : i + 1 < nL) (hf : (i, Value.long x) :: lv.filter (fun q => !(q.1 == i) && (!(q.1 == i + 1) && !(q.1 + 1 == i && q.2.category == 2))) = lv') (kk : AG p l e R s m args below meth c D cl b nL Q (pc + 2) lv' rest w) : AG p l e R s m args below meth c D cl b nL Q pc lv (.long x :: rest) w := fun H locs ls hG hS hl => lv_lstore E.1.1 E.1.2.1 hdg hl hn hf (fun ls hl => (kk H locs ls hG hS hl))
theorem ag_aload_n (E : EE p R s m args meth c cc nL own ret D cl tys b H0 XK hh fr lo) {k : Fin 4} {i : Nat} {x : Nat} (hdg : decode cc pc = .ok (.aload_n k, 1)) (hi : (k : Nat) = i) (j : Nat) (hj : lv[j]? = some (i, .ref x)) (kk : AG p l e R s m args below meth c D cl b nL Q (pc + 1) lv (.ref x :: rest) w) : AG p l e R s m args below meth c D cl b nL Q pc lv rest w := fun H locs ls hG hS hl => lv_aload_n E.1.1 E.1.2.1 hdg hi (lv_at hl j hj) (kk H locs ls hG hS hl)
theorem ag_aload (E : EE p R s m args meth c cc nL own ret D cl tys b H0 XK hh fr lo) {i : Nat} {x : Nat} (hdg : decode cc pc = .ok (.aload i, 2)) (j : Nat) (hj : lv[j]? = some (i, .ref x)) (kk : AG p l e R s m args below meth c D cl b nL Q (pc + 2) lv (.ref x :: rest) w) : AG p l e R s m args below meth c D cl b nL Q pc lv rest w := fun H locs ls hG hS hl => lv_aload E.1.1 E.1.2.1 hdg (lv_at hl j hj) (kk H locs ls hG hS hl)
theorem ag_astore_n (E : EE p R s m args meth c cc nL own ret D cl tys b H0 XK hh fr lo) {k : Fin 4} {i : Nat} {x : Nat} {lv' : List (Nat × Value)} (hdg : decode cc pc = .ok (.astore_n k, 1)) (hi : (k : Nat) = i) (hn : i < nL) (hf : (i, Value.ref x) :: lv.filter (fun q => !(q.1 == i) && !(q.1 + 1 == i && q.2.category == 2)) = lv') (kk : AG p l e R s m args below meth c D cl b nL Q (pc + 1) lv' rest w) : AG p l e R s m args below meth c D cl b nL Q pc lv (.ref x :: rest) w := fun H locs ls hG hS hl => lv_astore_n E.1.1 E.1.2.1 hdg hi hl hn hf (fun ls hl => (kk H locs ls hG hS hl))
theorem ag_astore (E : EE p R s m args meth c cc nL own ret D cl tys b H0 XK hh fr lo) {i : Nat} {x : Nat} {lv' : List (Nat × Value)} (hdg : decode cc pc = .ok (.astore i, 2)) (hn : i < nL) (hf : (i, Value.ref x) :: lv.filter (fun q => !(q.1 == i) && !(q.1 + 1 == i && q.2.category == 2)) = lv') (kk : AG p l e R s m args below meth c D cl b nL Q (pc + 2) lv' rest w) : AG p l e R s m args below meth c D cl b nL Q pc lv (.ref x :: rest) w := fun H locs ls hG hS hl => lv_astore E.1.1 E.1.2.1 hdg hl hn hf (fun ls hl => (kk H locs ls hG hS hl))
theorem ag_iinc (E : EE p R s m args meth c cc nL own ret D cl tys b H0 XK hh fr lo) {i k : Nat} {n : Int} {x v : Int32} {lv' : List (Nat × Value)} (hdg : decode cc pc = .ok (.iinc i n, 3)) (hk : lv[k]? = some (i, .int x)) (hv : x + Int32.ofInt n = v) (hn : i < nL) (hf : (i, Value.int v) :: lv.filter (fun q => !(q.1 == i) && !(q.1 + 1 == i && q.2.category == 2)) = lv') (kk : AG p l e R s m args below meth c D cl b nL Q (pc + 3) lv' rest w) : AG p l e R s m args below meth c D cl b nL Q pc lv rest w := fun H locs ls hG hS hl => lv_iinc E.1.1 E.1.2.1 hdg hl hk hv hn hf (fun ls hl => (kk H locs ls hG hS hl))
theorem ag_iincN (E : EE p R s m args meth c cc nL own ret D cl tys b H0 XK hh fr lo) {i : Nat} {n : Int} {x k : Int32} {lv' : Int32 → List (Nat × Value)} (hdg : decode cc pc = .ok (.iinc i n, 3)) (j : Nat) (hj : lv[j]? = some (i, .int x)) (hk : Int32.ofInt n = k) (hn : i < nL) (hf : ∀ v : Int32, (i, Value.int v) :: lv.filter (fun q => !(q.1 == i) && !(q.1 + 1 == i && q.2.category == 2)) = lv' v) (kk : ∀ v : Int32, v = x + k → AG p l e R s m args below meth c D cl b nL Q (pc + 3) (lv' v) rest w) : AG p l e R s m args below meth c D cl b nL Q pc lv rest w := fun H locs ls hG hS hl => lv_iinc E.1.1 E.1.2.1 hdg hl hj (v := x + k) (by rw [hk]) hn (hf _) (fun ls hl => (kk _ rfl H locs ls hG hS hl))
theorem ag_iadd (E : EE p R s m args meth c cc nL own ret D cl tys b H0 XK hh fr lo) {x y : Int32} (hdg : decode cc pc = .ok (.iadd, 1)) (kk : AG p l e R s m args below meth c D cl b nL Q (pc + 1) lv (.int (x + y) :: rest) w) : AG p l e R s m args below meth c D cl b nL Q pc lv (.int y :: .int x :: rest) w := fun H locs ls hG hS hl => lv_iadd E.1.1 E.1.2.1 hdg (kk H locs ls hG hS hl)
theorem ag_isub (E : EE p R s m args meth c cc nL own ret D cl tys b H0 XK hh fr lo) {x y : Int32} (hdg : decode cc pc = .ok (.isub, 1)) (kk : AG p l e R s m args below meth c D cl b nL Q (pc + 1) lv (.int (x - y) :: rest) w) : AG p l e R s m args below meth c D cl b nL Q pc lv (.int y :: .int x :: rest) w := fun H locs ls hG hS hl => lv_isub E.1.1 E.1.2.1 hdg (kk H locs ls hG hS hl)
theorem ag_imul (E : EE p R s m args meth c cc nL own ret D cl tys b H0 XK hh fr lo) {x y : Int32} (hdg : decode cc pc = .ok (.imul, 1)) (kk : AG p l e R s m args below meth c D cl b nL Q (pc + 1) lv (.int (x * y) :: rest) w) : AG p l e R s m args below meth c D cl b nL Q pc lv (.int y :: .int x :: rest) w := fun H locs ls hG hS hl => lv_imul E.1.1 E.1.2.1 hdg (kk H locs ls hG hS hl)
theorem ag_iand (E : EE p R s m args meth c cc nL own ret D cl tys b H0 XK hh fr lo) {x y : Int32} (hdg : decode cc pc = .ok (.iand, 1)) (kk : AG p l e R s m args below meth c D cl b nL Q (pc + 1) lv (.int (x &&& y) :: rest) w) : AG p l e R s m args below meth c D cl b nL Q pc lv (.int y :: .int x :: rest) w := fun H locs ls hG hS hl => lv_iand E.1.1 E.1.2.1 hdg (kk H locs ls hG hS hl)
theorem ag_ior (E : EE p R s m args meth c cc nL own ret D cl tys b H0 XK hh fr lo) {x y : Int32} (hdg : decode cc pc = .ok (.ior, 1)) (kk : AG p l e R s m args below meth c D cl b nL Q (pc + 1) lv (.int (x ||| y) :: rest) w) : AG p l e R s m args below meth c D cl b nL Q pc lv (.int y :: .int x :: rest) w := fun H locs ls hG hS hl => lv_ior E.1.1 E.1.2.1 hdg (kk H locs ls hG hS hl)
theorem ag_ixor (E : EE p R s m args meth c cc nL own ret D cl tys b H0 XK hh fr lo) {x y : Int32} (hdg : decode cc pc = .ok (.ixor, 1)) (kk : AG p l e R s m args below meth c D cl b nL Q (pc + 1) lv (.int (x ^^^ y) :: rest) w) : AG p l e R s m args below meth c D cl b nL Q pc lv (.int y :: .int x :: rest) w := fun H locs ls hG hS hl => lv_ixor E.1.1 E.1.2.1 hdg (kk H locs ls hG hS hl)
theorem ag_ishl (E : EE p R s m args meth c cc nL own ret D cl tys b H0 XK hh fr lo) {x y : Int32} (hdg : decode cc pc = .ok (.ishl, 1)) (kk : AG p l e R s m args below meth c D cl b nL Q (pc + 1) lv (.int (i_shl x y) :: rest) w) : AG p l e R s m args below meth c D cl b nL Q pc lv (.int y :: .int x :: rest) w := fun H locs ls hG hS hl => lv_ishl E.1.1 E.1.2.1 hdg (kk H locs ls hG hS hl)
theorem ag_ishr (E : EE p R s m args meth c cc nL own ret D cl tys b H0 XK hh fr lo) {x y : Int32} (hdg : decode cc pc = .ok (.ishr, 1)) (kk : AG p l e R s m args below meth c D cl b nL Q (pc + 1) lv (.int (i_shr x y) :: rest) w) : AG p l e R s m args below meth c D cl b nL Q pc lv (.int y :: .int x :: rest) w := fun H locs ls hG hS hl => lv_ishr E.1.1 E.1.2.1 hdg (kk H locs ls hG hS hl)
theorem ag_idiv (E : EE p R s m args meth c cc nL own ret D cl tys b H0 XK hh fr lo) {x y : Int32} (hdg : decode cc pc = .ok (.idiv, 1)) (hne : ¬ y = 0) (kk : AG p l e R s m args below meth c D cl b nL Q (pc + 1) lv (.int (x / y) :: rest) w) : AG p l e R s m args below meth c D cl b nL Q pc lv (.int y :: .int x :: rest) w := fun H locs ls hG hS hl => lv_idiv E.1.1 E.1.2.1 hdg hne (kk H locs ls hG hS hl)
theorem ag_irem (E : EE p R s m args meth c cc nL own ret D cl tys b H0 XK hh fr lo) {x y : Int32} (hdg : decode cc pc = .ok (.irem, 1)) (hne : ¬ y = 0) (kk : AG p l e R s m args below meth c D cl b nL Q (pc + 1) lv (.int (i_rem x y) :: rest) w) : AG p l e R s m args below meth c D cl b nL Q pc lv (.int y :: .int x :: rest) w := fun H locs ls hG hS hl => lv_irem E.1.1 E.1.2.1 hdg hne (kk H locs ls hG hS hl)
theorem ag_ladd (E : EE p R s m args meth c cc nL own ret D cl tys b H0 XK hh fr lo) {x y : Int64} (hdg : decode cc pc = .ok (.ladd, 1)) (kk : AG p l e R s m args below meth c D cl b nL Q (pc + 1) lv (.long (x + y) :: rest) w) : AG p l e R s m args below meth c D cl b nL Q pc lv (.long y :: .long x :: rest) w := fun H locs ls hG hS hl => lv_ladd E.1.1 E.1.2.1 hdg (kk H locs ls hG hS hl)
theorem ag_lsub (E : EE p R s m args meth c cc nL own ret D cl tys b H0 XK hh fr lo) {x y : Int64} (hdg : decode cc pc = .ok (.lsub, 1)) (kk : AG p l e R s m args below meth c D cl b nL Q (pc + 1) lv (.long (x - y) :: rest) w) : AG p l e R s m args below meth c D cl b nL Q pc lv (.long y :: .long x :: rest) w := fun H locs ls hG hS hl => lv_lsub E.1.1 E.1.2.1 hdg (kk H locs ls hG hS hl)
theorem ag_lmul (E : EE p R s m args meth c cc nL own ret D cl tys b H0 XK hh fr lo) {x y : Int64} (hdg : decode cc pc = .ok (.lmul, 1)) (kk : AG p l e R s m args below meth c D cl b nL Q (pc + 1) lv (.long (x * y) :: rest) w) : AG p l e R s m args below meth c D cl b nL Q pc lv (.long y :: .long x :: rest) w := fun H locs ls hG hS hl => lv_lmul E.1.1 E.1.2.1 hdg (kk H locs ls hG hS hl)
theorem ag_land (E : EE p R s m args meth c cc nL own ret D cl tys b H0 XK hh fr lo) {x y : Int64} (hdg : decode cc pc = .ok (.land, 1)) (kk : AG p l e R s m args below meth c D cl b nL Q (pc + 1) lv (.long (x &&& y) :: rest) w) : AG p l e R s m args below meth c D cl b nL Q pc lv (.long y :: .long x :: rest) w := fun H locs ls hG hS hl => lv_land E.1.1 E.1.2.1 hdg (kk H locs ls hG hS hl)
theorem ag_lor (E : EE p R s m args meth c cc nL own ret D cl tys b H0 XK hh fr lo) {x y : Int64} (hdg : decode cc pc = .ok (.lor, 1)) (kk : AG p l e R s m args below meth c D cl b nL Q (pc + 1) lv (.long (x ||| y) :: rest) w) : AG p l e R s m args below meth c D cl b nL Q pc lv (.long y :: .long x :: rest) w := fun H locs ls hG hS hl => lv_lor E.1.1 E.1.2.1 hdg (kk H locs ls hG hS hl)
theorem ag_lxor (E : EE p R s m args meth c cc nL own ret D cl tys b H0 XK hh fr lo) {x y : Int64} (hdg : decode cc pc = .ok (.lxor, 1)) (kk : AG p l e R s m args below meth c D cl b nL Q (pc + 1) lv (.long (x ^^^ y) :: rest) w) : AG p l e R s m args below meth c D cl b nL Q pc lv (.long y :: .long x :: rest) w := fun H locs ls hG hS hl => lv_lxor E.1.1 E.1.2.1 hdg (kk H locs ls hG hS hl)
theorem ag_ineg (E : EE p R s m args meth c cc nL own ret D cl tys b H0 XK hh fr lo) {x : Int32} (hdg : decode cc pc = .ok (.ineg, 1)) (kk : AG p l e R s m args below meth c D cl b nL Q (pc + 1) lv (.int (-x) :: rest) w) : AG p l e R s m args below meth c D cl b nL Q pc lv (.int x :: rest) w := fun H locs ls hG hS hl => lv_ineg E.1.1 E.1.2.1 hdg (kk H locs ls hG hS hl)
theorem ag_lneg (E : EE p R s m args meth c cc nL own ret D cl tys b H0 XK hh fr lo) {x : Int64} (hdg : decode cc pc = .ok (.lneg, 1)) (kk : AG p l e R s m args below meth c D cl b nL Q (pc + 1) lv (.long (-x) :: rest) w) : AG p l e R s m args below meth c D cl b nL Q pc lv (.long x :: rest) w := fun H locs ls hG hS hl => lv_lneg E.1.1 E.1.2.1 hdg (kk H locs ls hG hS hl)
theorem ag_i2l (E : EE p R s m args meth c cc nL own ret D cl tys b H0 XK hh fr lo) {x : Int32} (hdg : decode cc pc = .ok (.i2l, 1)) (kk : AG p l e R s m args below meth c D cl b nL Q (pc + 1) lv (.long (x.toInt64) :: rest) w) : AG p l e R s m args below meth c D cl b nL Q pc lv (.int x :: rest) w := fun H locs ls hG hS hl => lv_i2l E.1.1 E.1.2.1 hdg rfl (kk H locs ls hG hS hl)
theorem ag_l2i (E : EE p R s m args meth c cc nL own ret D cl tys b H0 XK hh fr lo) {x : Int64} (hdg : decode cc pc = .ok (.l2i, 1)) (kk : AG p l e R s m args below meth c D cl b nL Q (pc + 1) lv (.int (x.toInt32) :: rest) w) : AG p l e R s m args below meth c D cl b nL Q pc lv (.long x :: rest) w := fun H locs ls hG hS hl => lv_l2i E.1.1 E.1.2.1 hdg rfl (kk H locs ls hG hS hl)
theorem ag_i2b (E : EE p R s m args meth c cc nL own ret D cl tys b H0 XK hh fr lo) {x : Int32} (hdg : decode cc pc = .ok (.i2b, 1)) (kk : AG p l e R s m args below meth c D cl b nL Q (pc + 1) lv (.int (i_b x) :: rest) w) : AG p l e R s m args below meth c D cl b nL Q pc lv (.int x :: rest) w := fun H locs ls hG hS hl => lv_i2b E.1.1 E.1.2.1 hdg rfl (kk H locs ls hG hS hl)
theorem ag_i2s (E : EE p R s m args meth c cc nL own ret D cl tys b H0 XK hh fr lo) {x : Int32} (hdg : decode cc pc = .ok (.i2s, 1)) (kk : AG p l e R s m args below meth c D cl b nL Q (pc + 1) lv (.int (i_s x) :: rest) w) : AG p l e R s m args below meth c D cl b nL Q pc lv (.int x :: rest) w := fun H locs ls hG hS hl => lv_i2s E.1.1 E.1.2.1 hdg rfl (kk H locs ls hG hS hl)
theorem ag_i2c (E : EE p R s m args meth c cc nL own ret D cl tys b H0 XK hh fr lo) {x : Int32} (hdg : decode cc pc = .ok (.i2c, 1)) (kk : AG p l e R s m args below meth c D cl b nL Q (pc + 1) lv (.int (i_c x) :: rest) w) : AG p l e R s m args below meth c D cl b nL Q pc lv (.int x :: rest) w := fun H locs ls hG hS hl => lv_i2c E.1.1 E.1.2.1 hdg rfl (kk H locs ls hG hS hl)
theorem ag_iushr (E : EE p R s m args meth c cc nL own ret D cl tys b H0 XK hh fr lo) {x y : Int32} (hdg : decode cc pc = .ok (.iushr, 1)) (kk : AG p l e R s m args below meth c D cl b nL Q (pc + 1) lv (.int (i_ushr x y) :: rest) w) : AG p l e R s m args below meth c D cl b nL Q pc lv (.int y :: .int x :: rest) w := fun H locs ls hG hS hl => lv_iushr E.1.1 E.1.2.1 hdg rfl (kk H locs ls hG hS hl)
theorem ag_lshl (E : EE p R s m args meth c cc nL own ret D cl tys b H0 XK hh fr lo) {x : Int64} {y : Int32} (hdg : decode cc pc = .ok (.lshl, 1)) (kk : AG p l e R s m args below meth c D cl b nL Q (pc + 1) lv (.long (l_shl x y) :: rest) w) : AG p l e R s m args below meth c D cl b nL Q pc lv (.int y :: .long x :: rest) w := fun H locs ls hG hS hl => lv_lshl E.1.1 E.1.2.1 hdg rfl (kk H locs ls hG hS hl)
theorem ag_lshr (E : EE p R s m args meth c cc nL own ret D cl tys b H0 XK hh fr lo) {x : Int64} {y : Int32} (hdg : decode cc pc = .ok (.lshr, 1)) (kk : AG p l e R s m args below meth c D cl b nL Q (pc + 1) lv (.long (l_shr x y) :: rest) w) : AG p l e R s m args below meth c D cl b nL Q pc lv (.int y :: .long x :: rest) w := fun H locs ls hG hS hl => lv_lshr E.1.1 E.1.2.1 hdg rfl (kk H locs ls hG hS hl)
theorem ag_lcmp (E : EE p R s m args meth c cc nL own ret D cl tys b H0 XK hh fr lo) {x y : Int64} (hdg : decode cc pc = .ok (.lcmp, 1)) (kk : AG p l e R s m args below meth c D cl b nL Q (pc + 1) lv (.int (lg_cmp x y) :: rest) w) : AG p l e R s m args below meth c D cl b nL Q pc lv (.long y :: .long x :: rest) w := fun H locs ls hG hS hl => W.lcmp E.1.1 E.1.2.1 hdg (kk H locs ls hG hS hl)
theorem ag_dup (E : EE p R s m args meth c cc nL own ret D cl tys b H0 XK hh fr lo) {va : Value} (hdg : decode cc pc = .ok (.dup, 1)) (hva : va.category = 1) (kk : AG p l e R s m args below meth c D cl b nL Q (pc + 1) lv (va :: va :: rest) w) : AG p l e R s m args below meth c D cl b nL Q pc lv (va :: rest) w := fun H locs ls hG hS hl => lv_dup E.1.1 E.1.2.1 hdg hva (kk H locs ls hG hS hl)
theorem ag_pop (E : EE p R s m args meth c cc nL own ret D cl tys b H0 XK hh fr lo) {va : Value} (hdg : decode cc pc = .ok (.pop, 1)) (hva : va.category = 1) (kk : AG p l e R s m args below meth c D cl b nL Q (pc + 1) lv rest w) : AG p l e R s m args below meth c D cl b nL Q pc lv (va :: rest) w := fun H locs ls hG hS hl => lv_pop E.1.1 E.1.2.1 hdg hva (kk H locs ls hG hS hl)
theorem ag_dup_x1 (E : EE p R s m args meth c cc nL own ret D cl tys b H0 XK hh fr lo) {va vb : Value} (hdg : decode cc pc = .ok (.dup_x1, 1)) (hva : va.category = 1) (hvb : vb.category = 1) (kk : AG p l e R s m args below meth c D cl b nL Q (pc + 1) lv (va :: vb :: va :: rest) w) : AG p l e R s m args below meth c D cl b nL Q pc lv (va :: vb :: rest) w := fun H locs ls hG hS hl => lv_dup_x1 E.1.1 E.1.2.1 hdg hva hvb (kk H locs ls hG hS hl)
theorem ag_dup_x2 (E : EE p R s m args meth c cc nL own ret D cl tys b H0 XK hh fr lo) {va vb vd : Value} (hdg : decode cc pc = .ok (.dup_x2, 1)) (hva : va.category = 1) (hvb : vb.category = 1) (hvd : vd.category = 1) (kk : AG p l e R s m args below meth c D cl b nL Q (pc + 1) lv (va :: vb :: vd :: va :: rest) w) : AG p l e R s m args below meth c D cl b nL Q pc lv (va :: vb :: vd :: rest) w := fun H locs ls hG hS hl => lv_dup_x2 E.1.1 E.1.2.1 hdg hva hvb hvd (kk H locs ls hG hS hl)
theorem ag_dup2 (E : EE p R s m args meth c cc nL own ret D cl tys b H0 XK hh fr lo) {va vb : Value} (hdg : decode cc pc = .ok (.dup2, 1)) (hva : va.category = 1) (hvb : vb.category = 1) (kk : AG p l e R s m args below meth c D cl b nL Q (pc + 1) lv (va :: vb :: va :: vb :: rest) w) : AG p l e R s m args below meth c D cl b nL Q pc lv (va :: vb :: rest) w := fun H locs ls hG hS hl => lv_dup2_11 E.1.1 E.1.2.1 hdg hva hvb (kk H locs ls hG hS hl)
theorem ag_if_eq (E : EE p R s m args meth c cc nL own ret D cl tys b H0 XK hh fr lo) {x : Int32} {off : Int} {tgt : Nat} (hdg : decode cc pc = .ok (.ifCond .eq off, 3)) (ht : (pc : Int) + off = (tgt : Int)) (kt : (x = 0) → AG p l e R s m args below meth c D cl b nL Q tgt lv rest w) (kf : (¬ x = 0) → AG p l e R s m args below meth c D cl b nL Q (pc + 3) lv rest w) : AG p l e R s m args below meth c D cl b nL Q pc lv (.int x :: rest) w := fun H locs ls hG hS hl => lv_if_eq E.1.1 E.1.2.1 hdg ht (fun q => kt q H locs ls hG hS hl) (fun q => kf q H locs ls hG hS hl)
theorem ag_if_ne (E : EE p R s m args meth c cc nL own ret D cl tys b H0 XK hh fr lo) {x : Int32} {off : Int} {tgt : Nat} (hdg : decode cc pc = .ok (.ifCond .ne off, 3)) (ht : (pc : Int) + off = (tgt : Int)) (kt : (¬ x = 0) → AG p l e R s m args below meth c D cl b nL Q tgt lv rest w) (kf : (x = 0) → AG p l e R s m args below meth c D cl b nL Q (pc + 3) lv rest w) : AG p l e R s m args below meth c D cl b nL Q pc lv (.int x :: rest) w := fun H locs ls hG hS hl => lv_if_ne E.1.1 E.1.2.1 hdg ht (fun q => kt q H locs ls hG hS hl) (fun q => kf q H locs ls hG hS hl)
theorem ag_if_lt (E : EE p R s m args meth c cc nL own ret D cl tys b H0 XK hh fr lo) {x : Int32} {off : Int} {tgt : Nat} (hdg : decode cc pc = .ok (.ifCond .lt off, 3)) (ht : (pc : Int) + off = (tgt : Int)) (kt : (x < 0) → AG p l e R s m args below meth c D cl b nL Q tgt lv rest w) (kf : (¬ x < 0) → AG p l e R s m args below meth c D cl b nL Q (pc + 3) lv rest w) : AG p l e R s m args below meth c D cl b nL Q pc lv (.int x :: rest) w := fun H locs ls hG hS hl => lv_if_lt E.1.1 E.1.2.1 hdg ht (fun q => kt q H locs ls hG hS hl) (fun q => kf q H locs ls hG hS hl)
theorem ag_if_ge (E : EE p R s m args meth c cc nL own ret D cl tys b H0 XK hh fr lo) {x : Int32} {off : Int} {tgt : Nat} (hdg : decode cc pc = .ok (.ifCond .ge off, 3)) (ht : (pc : Int) + off = (tgt : Int)) (kt : (0 ≤ x) → AG p l e R s m args below meth c D cl b nL Q tgt lv rest w) (kf : (¬ 0 ≤ x) → AG p l e R s m args below meth c D cl b nL Q (pc + 3) lv rest w) : AG p l e R s m args below meth c D cl b nL Q pc lv (.int x :: rest) w := fun H locs ls hG hS hl => lv_if_ge E.1.1 E.1.2.1 hdg ht (fun q => kt q H locs ls hG hS hl) (fun q => kf q H locs ls hG hS hl)
theorem ag_if_gt (E : EE p R s m args meth c cc nL own ret D cl tys b H0 XK hh fr lo) {x : Int32} {off : Int} {tgt : Nat} (hdg : decode cc pc = .ok (.ifCond .gt off, 3)) (ht : (pc : Int) + off = (tgt : Int)) (kt : (0 < x) → AG p l e R s m args below meth c D cl b nL Q tgt lv rest w) (kf : (¬ 0 < x) → AG p l e R s m args below meth c D cl b nL Q (pc + 3) lv rest w) : AG p l e R s m args below meth c D cl b nL Q pc lv (.int x :: rest) w := fun H locs ls hG hS hl => lv_if_gt E.1.1 E.1.2.1 hdg ht (fun q => kt q H locs ls hG hS hl) (fun q => kf q H locs ls hG hS hl)
theorem ag_if_le (E : EE p R s m args meth c cc nL own ret D cl tys b H0 XK hh fr lo) {x : Int32} {off : Int} {tgt : Nat} (hdg : decode cc pc = .ok (.ifCond .le off, 3)) (ht : (pc : Int) + off = (tgt : Int)) (kt : (x ≤ 0) → AG p l e R s m args below meth c D cl b nL Q tgt lv rest w) (kf : (¬ x ≤ 0) → AG p l e R s m args below meth c D cl b nL Q (pc + 3) lv rest w) : AG p l e R s m args below meth c D cl b nL Q pc lv (.int x :: rest) w := fun H locs ls hG hS hl => lv_if_le E.1.1 E.1.2.1 hdg ht (fun q => kt q H locs ls hG hS hl) (fun q => kf q H locs ls hG hS hl)
theorem ag_icmp_eq (E : EE p R s m args meth c cc nL own ret D cl tys b H0 XK hh fr lo) {x y : Int32} {off : Int} {tgt : Nat} (hdg : decode cc pc = .ok (.if_icmp .eq off, 3)) (ht : (pc : Int) + off = (tgt : Int)) (kt : (x = y) → AG p l e R s m args below meth c D cl b nL Q tgt lv rest w) (kf : (¬ x = y) → AG p l e R s m args below meth c D cl b nL Q (pc + 3) lv rest w) : AG p l e R s m args below meth c D cl b nL Q pc lv (.int y :: .int x :: rest) w := fun H locs ls hG hS hl => lv_icmp_eq E.1.1 E.1.2.1 hdg ht (fun q => kt q H locs ls hG hS hl) (fun q => kf q H locs ls hG hS hl)
theorem ag_icmp_ne (E : EE p R s m args meth c cc nL own ret D cl tys b H0 XK hh fr lo) {x y : Int32} {off : Int} {tgt : Nat} (hdg : decode cc pc = .ok (.if_icmp .ne off, 3)) (ht : (pc : Int) + off = (tgt : Int)) (kt : (¬ x = y) → AG p l e R s m args below meth c D cl b nL Q tgt lv rest w) (kf : (x = y) → AG p l e R s m args below meth c D cl b nL Q (pc + 3) lv rest w) : AG p l e R s m args below meth c D cl b nL Q pc lv (.int y :: .int x :: rest) w := fun H locs ls hG hS hl => lv_icmp_ne E.1.1 E.1.2.1 hdg ht (fun q => kt q H locs ls hG hS hl) (fun q => kf q H locs ls hG hS hl)
theorem ag_icmp_lt (E : EE p R s m args meth c cc nL own ret D cl tys b H0 XK hh fr lo) {x y : Int32} {off : Int} {tgt : Nat} (hdg : decode cc pc = .ok (.if_icmp .lt off, 3)) (ht : (pc : Int) + off = (tgt : Int)) (kt : (x < y) → AG p l e R s m args below meth c D cl b nL Q tgt lv rest w) (kf : (¬ x < y) → AG p l e R s m args below meth c D cl b nL Q (pc + 3) lv rest w) : AG p l e R s m args below meth c D cl b nL Q pc lv (.int y :: .int x :: rest) w := fun H locs ls hG hS hl => lv_icmp_lt E.1.1 E.1.2.1 hdg ht (fun q => kt q H locs ls hG hS hl) (fun q => kf q H locs ls hG hS hl)
theorem ag_icmp_ge (E : EE p R s m args meth c cc nL own ret D cl tys b H0 XK hh fr lo) {x y : Int32} {off : Int} {tgt : Nat} (hdg : decode cc pc = .ok (.if_icmp .ge off, 3)) (ht : (pc : Int) + off = (tgt : Int)) (kt : (y ≤ x) → AG p l e R s m args below meth c D cl b nL Q tgt lv rest w) (kf : (¬ y ≤ x) → AG p l e R s m args below meth c D cl b nL Q (pc + 3) lv rest w) : AG p l e R s m args below meth c D cl b nL Q pc lv (.int y :: .int x :: rest) w := fun H locs ls hG hS hl => lv_icmp_ge E.1.1 E.1.2.1 hdg ht (fun q => kt q H locs ls hG hS hl) (fun q => kf q H locs ls hG hS hl)
theorem ag_icmp_gt (E : EE p R s m args meth c cc nL own ret D cl tys b H0 XK hh fr lo) {x y : Int32} {off : Int} {tgt : Nat} (hdg : decode cc pc = .ok (.if_icmp .gt off, 3)) (ht : (pc : Int) + off = (tgt : Int)) (kt : (y < x) → AG p l e R s m args below meth c D cl b nL Q tgt lv rest w) (kf : (¬ y < x) → AG p l e R s m args below meth c D cl b nL Q (pc + 3) lv rest w) : AG p l e R s m args below meth c D cl b nL Q pc lv (.int y :: .int x :: rest) w := fun H locs ls hG hS hl => lv_icmp_gt E.1.1 E.1.2.1 hdg ht (fun q => kt q H locs ls hG hS hl) (fun q => kf q H locs ls hG hS hl)
theorem ag_icmp_le (E : EE p R s m args meth c cc nL own ret D cl tys b H0 XK hh fr lo) {x y : Int32} {off : Int} {tgt : Nat} (hdg : decode cc pc = .ok (.if_icmp .le off, 3)) (ht : (pc : Int) + off = (tgt : Int)) (kt : (x ≤ y) → AG p l e R s m args below meth c D cl b nL Q tgt lv rest w) (kf : (¬ x ≤ y) → AG p l e R s m args below meth c D cl b nL Q (pc + 3) lv rest w) : AG p l e R s m args below meth c D cl b nL Q pc lv (.int y :: .int x :: rest) w := fun H locs ls hG hS hl => lv_icmp_le E.1.1 E.1.2.1 hdg ht (fun q => kt q H locs ls hG hS hl) (fun q => kf q H locs ls hG hS hl)
theorem ag_goto (E : EE p R s m args meth c cc nL own ret D cl tys b H0 XK hh fr lo) {off : Int} {tgt : Nat} (hdg : decode cc pc = .ok (.goto off, 3)) (ht : (pc : Int) + off = (tgt : Int)) (kk : AG p l e R s m args below meth c D cl b nL Q tgt lv rest w) : AG p l e R s m args below meth c D cl b nL Q pc lv rest w := fun H locs ls hG hS hl => lv_goto E.1.1 E.1.2.1 hdg ht (kk H locs ls hG hS hl)
theorem ag_lookup (E : EE p R s m args meth c cc nL own ret D cl tys b H0 XK hh fr lo) {dflt : Int} {ps : Array (Int × Int)} {len : Nat} {x : Int32} {off : Int} {tgt : Nat} (hdg : decode cc pc = .ok (.lookupswitch dflt ps, len)) (hp : (ps.toList.zip (ps.toList.drop 1)).all (fun (a, next) => a.1 < next.1) = true) (ho : Op.lookupswitch.offset ps.toList dflt x.toInt = off) (ht : (pc : Int) + off = (tgt : Int)) (kk : AG p l e R s m args below meth c D cl b nL Q tgt lv rest w) : AG p l e R s m args below meth c D cl b nL Q pc lv (.int x :: rest) w := fun H locs ls hG hS hl => lv_lookup E.1.1 E.1.2.1 hdg hp ho ht (kk H locs ls hG hS hl)
theorem ag_tableOut (E : EE p R s m args meth c cc nL own ret D cl tys b H0 XK hh fr lo) {dflt lo1 hi1 : Int} {offs : Array Int} {len : Nat} {x : Int32} {tgt : Nat} (hdg : decode cc pc = .ok (.tableswitch dflt lo1 hi1 offs, len)) (h : x.toInt < lo1 ∨ hi1 < x.toInt) (ht : (pc : Int) + dflt = (tgt : Int)) (kk : AG p l e R s m args below meth c D cl b nL Q tgt lv rest w) : AG p l e R s m args below meth c D cl b nL Q pc lv (.int x :: rest) w := fun H locs ls hG hS hl => lv_tableOut E.1.1 E.1.2.1 hdg h ht (kk H locs ls hG hS hl)
theorem ag_tableIn (E : EE p R s m args meth c cc nL own ret D cl tys b H0 XK hh fr lo) {dflt lo1 hi1 : Int} {offs : Array Int} {len : Nat} {x : Int32} {off : Int} {tgt : Nat} (hdg : decode cc pc = .ok (.tableswitch dflt lo1 hi1 offs, len)) (h1 : ¬ x.toInt < lo1) (h2 : ¬ hi1 < x.toInt) (ho : offs[(x.toInt - lo1).toNat]? = some off) (ht : (pc : Int) + off = (tgt : Int)) (kk : AG p l e R s m args below meth c D cl b nL Q tgt lv rest w) : AG p l e R s m args below meth c D cl b nL Q pc lv (.int x :: rest) w := fun H locs ls hG hS hl => lv_tableIn E.1.1 E.1.2.1 hdg h1 h2 ho ht (kk H locs ls hG hS hl)
theorem ag_topi {x : Int32} (k : ∀ y : Int32, y = x → AG p l e R s m args below meth c D cl b nL Q pc lv (.int y :: rest) w) : AG p l e R s m args below meth c D cl b nL Q pc lv (.int x :: rest) w := k x rfl
theorem ag_topl {x : Int64} (k : ∀ y : Int64, y = x → AG p l e R s m args below meth c D cl b nL Q pc lv (.long y :: rest) w) : AG p l e R s m args below meth c D cl b nL Q pc lv (.long x :: rest) w := k x rfl
theorem ag_sub {lv' : List (Nat × Value)} (ks : List Nat) (hp : lv_pick lv ks = lv') (kk : AG p l e R s m args below meth c D cl b nL Q pc lv' rest w) : AG p l e R s m args below meth c D cl b nL Q pc lv rest w := fun H locs ls hG hS hl => kk H locs ls hG hS (lv_sub hl ks hp)
theorem ag_get (E : EE p R s m args meth c cc nL own ret D cl tys b H0 XK hh fr lo) {ref : String} {C : String} {T : u_T} {N ci index a k : Nat} {V : Nat → Value} {v : Value} (hc : cl[ci]? = some (C, T, N)) (hin : ∀ w ∈ u_ws C T N, w ∈ lw_all) (hk : k < N) (hlink : Cond.fieldLink own index ref (T k).2.1 (T k).2.2.1 ∈ lw_all) (hsame : ∀ x, s.fieldFound? (T k).1 (T k).2.1 (T k).2.2.1 = some x → s.fieldFound? ref (T k).2.1 (T k).2.2.1 = some x) (hdg : decode cc pc = .ok (.getfield index, 3)) (hP : w.1 a = some (.inr (ci, V))) (hv : V k = v) (kk : AG p l e R s m args below meth c D cl b nL Q (pc + 3) lv (v :: rest) w) : AG p l e R s m args below meth c D cl b nL Q pc lv (.ref a :: rest) w := by
  intro H locs ls hG hS hl
  obtain ⟨r, h1, cell, q1, q2, q3, q4⟩ := (hG.2.2.2 a _ hP).2
  have hr : r = (C, T, N) := Option.some.inj (h1.symm.trans hc)
  subst hr
  obtain ⟨hSl, hfc, kC, hkC, hkind⟩ := E.2.1.1.1 ci _ hc
  obtain ⟨cf, kf, fi, f, hi, hsl⟩ := hSl k hk
  subst hv
  refine W.getf E.1.1 E.1.2.1 E.1.2.2.2.1 (E.1.2.2.2.2 _ hlink) (hsame _ hi) (u_facts hfc hkC (u_lays E.1.2.2.2.2 hin hk) hi).1 q1 (by rw [q3]; exact fun h => by cases h) (v := V k) ?_ rfl rfl hdg (kk H locs ls hG hS hl)
  rw [hsl, q4 k hk]
theorem ag_put (E : EE p R s m args meth c cc nL own ret D cl tys b H0 XK hh fr lo) {ref : String} {C : String} {T : u_T} {N ci index a k : Nat} {V : Nat → Value} {v : Value} {ty : FieldType} (ty0 : Nat → FieldType) (hty : ∀ k, k < N → parseFieldDescriptor (T k).2.2.1 = some (ty0 k)) (hnm : ∀ a, a < N → ∀ b, b < N → a ≠ b → (T a).2.1 ≠ (T b).2.1) (hc : cl[ci]? = some (C, T, N)) (hin : ∀ w ∈ u_ws C T N, w ∈ lw_all) (hk : k < N) (hlink : Cond.fieldLink own index ref (T k).2.1 (T k).2.2.1 ∈ lw_all) (hsame : ∀ x, s.fieldFound? (T k).1 (T k).2.1 (T k).2.2.1 = some x → s.fieldFound? ref (T k).2.1 (T k).2.2.1 = some x) (hfin : (T k).2.2.2 = false) (hd : parseFieldDescriptor (T k).2.2.1 = some ty) (hn : narrow ty v = v) (hfit : fits ty v = true) (hdg : decode cc pc = .ok (.putfield index, 3)) (hP : w.1 a = some (.inr (ci, V))) (kk : AG p l e R s m args below meth c D cl b nL Q (pc + 3) lv rest (updP w.1 a (.inr (ci, updV V k v)), w.2)) : AG p l e R s m args below meth c D cl b nL Q pc lv (v :: .ref a :: rest) w := by
  intro H locs ls hG hS hl
  have hap := va_apart (own := own) (D := D) (cl := cl) (tys := tys) E.1.2.2.2.2 hin ty0 hty hnm E.2.1.1 hc
  obtain ⟨ha, r, h1, cell, q1, q2, q3, q4⟩ := hG.2.2.2 a _ hP
  have hr : r = (C, T, N) := Option.some.inj (h1.symm.trans hc)
  subst hr
  obtain ⟨hSl, hfc, kC, hkC, hkind⟩ := E.2.1.1.1 ci _ hc
  obtain ⟨cf, kf, fi, f, hi, hsl⟩ := hSl k hk
  have hlay := E.1.2.2.2.2 _ (hin _ (u_in_lay hk))
  unfold u_lay at hlay
  rw [if_neg (by rw [hfin]; decide)] at hlay
  have hst := (u_facts hfc hkC (u_lays E.1.2.2.2.2 hin hk) hi).1
  have h6 := u_store hfc hkC hkind hlay hi hd hn hfit
  refine W.putK E.1.1 E.1.2.1 (f := f) ⟨E.1.2.2.2.1, E.1.2.2.2.2 _ hlink, ⟨_, _, _, hsame _ hi⟩, hst⟩ (by rw [q2]; exact h6) q1 q3 (by rw [hsl]; exact k2_hasslot (q4 k hk)) rfl rfl hdg fun H' e1 e2 e3 => ?_
  rw [hsl] at e1 ⊢
  exact W.exact (kk H' _ ls (hG.put hP q1 e1 (by simp [Cell.setSlot]) e2 e3 ⟨_, hc, ⟨_, e1, q2, q3, t_set q4 hap hk v⟩⟩) (hS.put e2 e3 ha) hl)
theorem ag_putF (E : EE p R s m args meth c cc nL own ret D cl tys b H0 XK hh fr lo) {ref : String} {C : String} {T : u_T} {N ci index a k : Nat} {V : Nat → Value} {v : Value} {ty : FieldType} (ty0 : Nat → FieldType) (hty : ∀ k, k < N → parseFieldDescriptor (T k).2.2.1 = some (ty0 k)) (hnm : ∀ a, a < N → ∀ b, b < N → a ≠ b → (T a).2.1 ≠ (T b).2.1) (hc : cl[ci]? = some (C, T, N)) (hin : ∀ w ∈ u_ws C T N, w ∈ lw_all) (hk : k < N) (hlink : Cond.fieldLink own index ref (T k).2.1 (T k).2.2.1 ∈ lw_all) (hsame : ∀ x, s.fieldFound? (T k).1 (T k).2.1 (T k).2.2.1 = some x → s.fieldFound? ref (T k).2.1 (T k).2.2.1 = some x) (hfin : (T k).2.2.2 = true) (hin2 : meth.name = "<init>") (hdecl : (T k).1 = own) (hd : parseFieldDescriptor (T k).2.2.1 = some ty) (hn : narrow ty v = v) (hfit : fits ty v = true) (hdg : decode cc pc = .ok (.putfield index, 3)) (hP : w.1 a = some (.inr (ci, V))) (kk : AG p l e R s m args below meth c D cl b nL Q (pc + 3) lv rest (updP w.1 a (.inr (ci, updV V k v)), w.2)) : AG p l e R s m args below meth c D cl b nL Q pc lv (v :: .ref a :: rest) w := by
  intro H locs ls hG hS hl
  have hap := va_apart (own := own) (D := D) (cl := cl) (tys := tys) E.1.2.2.2.2 hin ty0 hty hnm E.2.1.1 hc
  obtain ⟨ha, r, h1, cell, q1, q2, q3, q4⟩ := hG.2.2.2 a _ hP
  have hr : r = (C, T, N) := Option.some.inj (h1.symm.trans hc)
  subst hr
  obtain ⟨hSl, hfc, kC, hkC, hkind⟩ := E.2.1.1.1 ci _ hc
  obtain ⟨cf, kf, fi, f, hi, hsl⟩ := hSl k hk
  have hlay := E.1.2.2.2.2 _ (hin _ (u_in_lay hk))
  unfold u_lay at hlay
  rw [if_pos hfin] at hlay
  have hst := (u_facts hfc hkC (u_lays E.1.2.2.2.2 hin hk) hi).1
  have hcf : m.cls = cf := by
    obtain ⟨_, _, c', _, _, _, -, -, hf', -, -, -, hown2, -⟩ := Cond.laysFinal_spec hlay
    have e1 : c' = cf := by have := hi.symm.trans hf'; simp at this; exact this.1.symm
    rw [hdecl] at hown2
    rw [← e1]; exact Option.some.inj (E.1.2.2.2.1.symm.trans hown2)
  have h6 := u_fits hfc hkC hkind (Or.inr hlay) hi hd hn hfit
  refine W.putFinK E.1.1 E.1.2.1 E.1.2.2.2.1 (E.1.2.2.2.2 _ hlink) (hsame _ hi) hst hcf hin2 (by rw [q2]; exact h6) q1 q3 (by rw [hsl]; exact k2_hasslot (q4 k hk)) rfl rfl hdg fun H' e1 e2 e3 => ?_
  rw [hsl] at e1 ⊢
  exact W.exact (kk H' _ ls (hG.put hP q1 e1 (by simp [Cell.setSlot]) e2 e3 ⟨_, hc, ⟨_, e1, q2, q3, t_set q4 hap hk v⟩⟩) (hS.put e2 e3 ha) hl)
theorem ag_iald (E : EE p R s m args meth c cc nL own ret D cl tys b H0 XK hh fr lo) {a n t0 : Nat} {cA : ClassId} {f : Nat → Int32} {i : Int32} (hP : w.1 a = some (.inl (cA, n, .inl f))) (ht : tys[t0]? = some (cA, .int)) (hin : vp_in i n) (hdg : decode cc pc = .ok (.iaload, 1)) (kk : AG p l e R s m args below meth c D cl b nL Q (pc + 1) lv (.int (f i.toNatClampNeg) :: rest) w) : AG p l e R s m args below meth c D cl b nL Q pc lv (.int i :: .ref a :: rest) w := by
  intro H locs ls hG hS hl
  have hlt : i.toNatClampNeg < n := Nat.not_le.mp fun q => hin (Or.inr q)
  exact W.iald (v := .int (f i.toNatClampNeg)) E.1.1 E.1.2.1 (hG.2.2.2 a _ hP).2 ((E.2.1.1.2 t0 _ ht).1 n (fun j => .int (f j))) (fun q => by cases q) (by show ¬ (i < 0 ∨ (arrV _ _ _).slots.size ≤ _); rw [arrV_size]; exact hin) (by show (arrV _ _ _).slots[_]? = _; rw [arrV_read _ _ hlt]) rfl rfl hdg (kk H locs ls hG hS hl)
theorem ag_bald (E : EE p R s m args meth c cc nL own ret D cl tys b H0 XK hh fr lo) {a n t0 : Nat} {cA : ClassId} {f : Nat → Int32} {i : Int32} (hP : w.1 a = some (.inl (cA, n, .inl f))) (ht : tys[t0]? = some (cA, .byte)) (hin : vp_in i n) (hdg : decode cc pc = .ok (.baload, 1)) (kk : AG p l e R s m args below meth c D cl b nL Q (pc + 1) lv (.int (f i.toNatClampNeg) :: rest) w) : AG p l e R s m args below meth c D cl b nL Q pc lv (.int i :: .ref a :: rest) w := by
  intro H locs ls hG hS hl
  have hlt : i.toNatClampNeg < n := Nat.not_le.mp fun q => hin (Or.inr q)
  exact W.bald (v := .int (f i.toNatClampNeg)) E.1.1 E.1.2.1 (hG.2.2.2 a _ hP).2 ((E.2.1.1.2 t0 _ ht).1 n (fun j => .int (f j))) (fun q => by cases q) (by show ¬ (i < 0 ∨ (arrV _ _ _).slots.size ≤ _); rw [arrV_size]; exact hin) (by show (arrV _ _ _).slots[_]? = _; rw [arrV_read _ _ hlt]) rfl rfl hdg (kk H locs ls hG hS hl)
theorem ag_zald (E : EE p R s m args meth c cc nL own ret D cl tys b H0 XK hh fr lo) {a n t0 : Nat} {cA : ClassId} {f : Nat → Int32} {i : Int32} (hP : w.1 a = some (.inl (cA, n, .inl f))) (ht : tys[t0]? = some (cA, .boolean)) (hin : vp_in i n) (hdg : decode cc pc = .ok (.baload, 1)) (kk : AG p l e R s m args below meth c D cl b nL Q (pc + 1) lv (.int (f i.toNatClampNeg) :: rest) w) : AG p l e R s m args below meth c D cl b nL Q pc lv (.int i :: .ref a :: rest) w := by
  intro H locs ls hG hS hl
  have hlt : i.toNatClampNeg < n := Nat.not_le.mp fun q => hin (Or.inr q)
  exact W.zald (v := .int (f i.toNatClampNeg)) E.1.1 E.1.2.1 (hG.2.2.2 a _ hP).2 ((E.2.1.1.2 t0 _ ht).1 n (fun j => .int (f j))) (fun q => by cases q) (by show ¬ (i < 0 ∨ (arrV _ _ _).slots.size ≤ _); rw [arrV_size]; exact hin) (by show (arrV _ _ _).slots[_]? = _; rw [arrV_read _ _ hlt]) rfl rfl hdg (kk H locs ls hG hS hl)
theorem ag_cald (E : EE p R s m args meth c cc nL own ret D cl tys b H0 XK hh fr lo) {a n t0 : Nat} {cA : ClassId} {f : Nat → Int32} {i : Int32} (hP : w.1 a = some (.inl (cA, n, .inl f))) (ht : tys[t0]? = some (cA, .char)) (hin : vp_in i n) (hdg : decode cc pc = .ok (.caload, 1)) (kk : AG p l e R s m args below meth c D cl b nL Q (pc + 1) lv (.int (f i.toNatClampNeg) :: rest) w) : AG p l e R s m args below meth c D cl b nL Q pc lv (.int i :: .ref a :: rest) w := by
  intro H locs ls hG hS hl
  have hlt : i.toNatClampNeg < n := Nat.not_le.mp fun q => hin (Or.inr q)
  exact W.cald (v := .int (f i.toNatClampNeg)) E.1.1 E.1.2.1 (hG.2.2.2 a _ hP).2 ((E.2.1.1.2 t0 _ ht).1 n (fun j => .int (f j))) (fun q => by cases q) (by show ¬ (i < 0 ∨ (arrV _ _ _).slots.size ≤ _); rw [arrV_size]; exact hin) (by show (arrV _ _ _).slots[_]? = _; rw [arrV_read _ _ hlt]) rfl rfl hdg (kk H locs ls hG hS hl)
theorem ag_sald (E : EE p R s m args meth c cc nL own ret D cl tys b H0 XK hh fr lo) {a n t0 : Nat} {cA : ClassId} {f : Nat → Int32} {i : Int32} (hP : w.1 a = some (.inl (cA, n, .inl f))) (ht : tys[t0]? = some (cA, .short)) (hin : vp_in i n) (hdg : decode cc pc = .ok (.saload, 1)) (kk : AG p l e R s m args below meth c D cl b nL Q (pc + 1) lv (.int (f i.toNatClampNeg) :: rest) w) : AG p l e R s m args below meth c D cl b nL Q pc lv (.int i :: .ref a :: rest) w := by
  intro H locs ls hG hS hl
  have hlt : i.toNatClampNeg < n := Nat.not_le.mp fun q => hin (Or.inr q)
  exact W.sald (v := .int (f i.toNatClampNeg)) E.1.1 E.1.2.1 (hG.2.2.2 a _ hP).2 ((E.2.1.1.2 t0 _ ht).1 n (fun j => .int (f j))) (fun q => by cases q) (by show ¬ (i < 0 ∨ (arrV _ _ _).slots.size ≤ _); rw [arrV_size]; exact hin) (by show (arrV _ _ _).slots[_]? = _; rw [arrV_read _ _ hlt]) rfl rfl hdg (kk H locs ls hG hS hl)
theorem ag_lald (E : EE p R s m args meth c cc nL own ret D cl tys b H0 XK hh fr lo) {a n t0 : Nat} {cA : ClassId} {f : Nat → Int64} {i : Int32} (hP : w.1 a = some (.inl (cA, n, .inr (.inl f)))) (ht : tys[t0]? = some (cA, .long)) (hin : vp_in i n) (hdg : decode cc pc = .ok (.laload, 1)) (kk : AG p l e R s m args below meth c D cl b nL Q (pc + 1) lv (.long (f i.toNatClampNeg) :: rest) w) : AG p l e R s m args below meth c D cl b nL Q pc lv (.int i :: .ref a :: rest) w := by
  intro H locs ls hG hS hl
  have hlt : i.toNatClampNeg < n := Nat.not_le.mp fun q => hin (Or.inr q)
  exact W.lald (v := .long (f i.toNatClampNeg)) E.1.1 E.1.2.1 (hG.2.2.2 a _ hP).2 ((E.2.1.1.2 t0 _ ht).1 n (fun j => .long (f j))) (fun q => by cases q) (by show ¬ (i < 0 ∨ (arrV _ _ _).slots.size ≤ _); rw [arrV_size]; exact hin) (by show (arrV _ _ _).slots[_]? = _; rw [arrV_read _ _ hlt]) rfl rfl hdg (kk H locs ls hG hS hl)
theorem ag_iast (E : EE p R s m args meth c cc nL own ret D cl tys b H0 XK hh fr lo) {a n t0 : Nat} {cA : ClassId} {f : Nat → Int32} {i x : Int32} (hP : w.1 a = some (.inl (cA, n, .inl f))) (ht : tys[t0]? = some (cA, .int)) (hin : vp_in i n) (hdg : decode cc pc = .ok (.iastore, 1)) (kk : AG p l e R s m args below meth c D cl b nL Q (pc + 1) lv rest (updP w.1 a (.inl (cA, n, .inl (upd f i.toNatClampNeg (x)))), w.2)) : AG p l e R s m args below meth c D cl b nL Q pc lv (.int x :: .int i :: .ref a :: rest) w := by
  intro H locs ls hG hS hl
  obtain ⟨ha, hat⟩ := hG.2.2.2 a _ hP
  refine W.iast E.1.1 E.1.2.1 hat ((E.2.1.1.2 t0 _ ht).1 n (fun j => .int (f j))) (fun q => by cases q) (by show ¬ (i < 0 ∨ (arrV _ _ _).slots.size ≤ _); rw [arrV_size]; exact hin) rfl rfl hdg fun H1 e z oq => ?_
  refine W.exact (kk H1 _ ls (hG.put hP hat e (by simp [Cell.setSlot]) z oq ?_) (hS.put z oq ha) hl)
  show H1[a]? = some (vp_cell _ _)
  rw [e]
  rw [vp_cell_i, vp_cell_i, arrV_store]
  congr 2
  funext q
  by_cases hq : q = i.toNatClampNeg
  · subst hq
    simp [updV, upd, vp_nar]
    try rfl
  · simp [updV, upd, hq]
theorem ag_bast (E : EE p R s m args meth c cc nL own ret D cl tys b H0 XK hh fr lo) {a n t0 : Nat} {cA : ClassId} {f : Nat → Int32} {i x : Int32} (hP : w.1 a = some (.inl (cA, n, .inl f))) (ht : tys[t0]? = some (cA, .byte)) (hin : vp_in i n) (hdg : decode cc pc = .ok (.bastore, 1)) (kk : AG p l e R s m args below meth c D cl b nL Q (pc + 1) lv rest (updP w.1 a (.inl (cA, n, .inl (upd f i.toNatClampNeg (vp_nar .byte x)))), w.2)) : AG p l e R s m args below meth c D cl b nL Q pc lv (.int x :: .int i :: .ref a :: rest) w := by
  intro H locs ls hG hS hl
  obtain ⟨ha, hat⟩ := hG.2.2.2 a _ hP
  refine W.bast E.1.1 E.1.2.1 hat ((E.2.1.1.2 t0 _ ht).1 n (fun j => .int (f j))) (fun q => by cases q) (by show ¬ (i < 0 ∨ (arrV _ _ _).slots.size ≤ _); rw [arrV_size]; exact hin) rfl rfl hdg fun H1 e z oq => ?_
  refine W.exact (kk H1 _ ls (hG.put hP hat e (by simp [Cell.setSlot]) z oq ?_) (hS.put z oq ha) hl)
  show H1[a]? = some (vp_cell _ _)
  rw [e]
  rw [vp_cell_i, vp_cell_i, arrV_store]
  congr 2
  funext q
  by_cases hq : q = i.toNatClampNeg
  · subst hq
    simp [updV, upd, vp_nar]
    try rfl
  · simp [updV, upd, hq]
theorem ag_zast (E : EE p R s m args meth c cc nL own ret D cl tys b H0 XK hh fr lo) {a n t0 : Nat} {cA : ClassId} {f : Nat → Int32} {i x : Int32} (hP : w.1 a = some (.inl (cA, n, .inl f))) (ht : tys[t0]? = some (cA, .boolean)) (hin : vp_in i n) (hdg : decode cc pc = .ok (.bastore, 1)) (kk : AG p l e R s m args below meth c D cl b nL Q (pc + 1) lv rest (updP w.1 a (.inl (cA, n, .inl (upd f i.toNatClampNeg (vp_nar .boolean x)))), w.2)) : AG p l e R s m args below meth c D cl b nL Q pc lv (.int x :: .int i :: .ref a :: rest) w := by
  intro H locs ls hG hS hl
  obtain ⟨ha, hat⟩ := hG.2.2.2 a _ hP
  refine W.zast E.1.1 E.1.2.1 hat ((E.2.1.1.2 t0 _ ht).1 n (fun j => .int (f j))) (fun q => by cases q) (by show ¬ (i < 0 ∨ (arrV _ _ _).slots.size ≤ _); rw [arrV_size]; exact hin) rfl rfl hdg fun H1 e z oq => ?_
  refine W.exact (kk H1 _ ls (hG.put hP hat e (by simp [Cell.setSlot]) z oq ?_) (hS.put z oq ha) hl)
  show H1[a]? = some (vp_cell _ _)
  rw [e]
  rw [vp_cell_i, vp_cell_i, arrV_store]
  congr 2
  funext q
  by_cases hq : q = i.toNatClampNeg
  · subst hq
    simp [updV, upd, vp_nar]
    try rfl
  · simp [updV, upd, hq]
theorem ag_cast (E : EE p R s m args meth c cc nL own ret D cl tys b H0 XK hh fr lo) {a n t0 : Nat} {cA : ClassId} {f : Nat → Int32} {i x : Int32} (hP : w.1 a = some (.inl (cA, n, .inl f))) (ht : tys[t0]? = some (cA, .char)) (hin : vp_in i n) (hdg : decode cc pc = .ok (.castore, 1)) (kk : AG p l e R s m args below meth c D cl b nL Q (pc + 1) lv rest (updP w.1 a (.inl (cA, n, .inl (upd f i.toNatClampNeg (vp_nar .char x)))), w.2)) : AG p l e R s m args below meth c D cl b nL Q pc lv (.int x :: .int i :: .ref a :: rest) w := by
  intro H locs ls hG hS hl
  obtain ⟨ha, hat⟩ := hG.2.2.2 a _ hP
  refine W.cast E.1.1 E.1.2.1 hat ((E.2.1.1.2 t0 _ ht).1 n (fun j => .int (f j))) (fun q => by cases q) (by show ¬ (i < 0 ∨ (arrV _ _ _).slots.size ≤ _); rw [arrV_size]; exact hin) rfl rfl hdg fun H1 e z oq => ?_
  refine W.exact (kk H1 _ ls (hG.put hP hat e (by simp [Cell.setSlot]) z oq ?_) (hS.put z oq ha) hl)
  show H1[a]? = some (vp_cell _ _)
  rw [e]
  rw [vp_cell_i, vp_cell_i, arrV_store]
  congr 2
  funext q
  by_cases hq : q = i.toNatClampNeg
  · subst hq
    simp [updV, upd, vp_nar]
    try rfl
  · simp [updV, upd, hq]
theorem ag_sast (E : EE p R s m args meth c cc nL own ret D cl tys b H0 XK hh fr lo) {a n t0 : Nat} {cA : ClassId} {f : Nat → Int32} {i x : Int32} (hP : w.1 a = some (.inl (cA, n, .inl f))) (ht : tys[t0]? = some (cA, .short)) (hin : vp_in i n) (hdg : decode cc pc = .ok (.sastore, 1)) (kk : AG p l e R s m args below meth c D cl b nL Q (pc + 1) lv rest (updP w.1 a (.inl (cA, n, .inl (upd f i.toNatClampNeg (vp_nar .short x)))), w.2)) : AG p l e R s m args below meth c D cl b nL Q pc lv (.int x :: .int i :: .ref a :: rest) w := by
  intro H locs ls hG hS hl
  obtain ⟨ha, hat⟩ := hG.2.2.2 a _ hP
  refine W.sast E.1.1 E.1.2.1 hat ((E.2.1.1.2 t0 _ ht).1 n (fun j => .int (f j))) (fun q => by cases q) (by show ¬ (i < 0 ∨ (arrV _ _ _).slots.size ≤ _); rw [arrV_size]; exact hin) rfl rfl hdg fun H1 e z oq => ?_
  refine W.exact (kk H1 _ ls (hG.put hP hat e (by simp [Cell.setSlot]) z oq ?_) (hS.put z oq ha) hl)
  show H1[a]? = some (vp_cell _ _)
  rw [e]
  rw [vp_cell_i, vp_cell_i, arrV_store]
  congr 2
  funext q
  by_cases hq : q = i.toNatClampNeg
  · subst hq
    simp [updV, upd, vp_nar]
    try rfl
  · simp [updV, upd, hq]
theorem ag_last (E : EE p R s m args meth c cc nL own ret D cl tys b H0 XK hh fr lo) {a n t0 : Nat} {cA : ClassId} {f : Nat → Int64} {i : Int32} {x : Int64} (hP : w.1 a = some (.inl (cA, n, .inr (.inl f)))) (ht : tys[t0]? = some (cA, .long)) (hin : vp_in i n) (hdg : decode cc pc = .ok (.lastore, 1)) (kk : AG p l e R s m args below meth c D cl b nL Q (pc + 1) lv rest (updP w.1 a (.inl (cA, n, .inr (.inl (vp_updL f i.toNatClampNeg x)))), w.2)) : AG p l e R s m args below meth c D cl b nL Q pc lv (.long x :: .int i :: .ref a :: rest) w := by
  intro H locs ls hG hS hl
  obtain ⟨ha, hat⟩ := hG.2.2.2 a _ hP
  refine W.last E.1.1 E.1.2.1 hat ((E.2.1.1.2 t0 _ ht).1 n (fun j => .long (f j))) (fun q => by cases q) (by show ¬ (i < 0 ∨ (arrV _ _ _).slots.size ≤ _); rw [arrV_size]; exact hin) rfl rfl hdg fun H1 e z oq => ?_
  refine W.exact (kk H1 _ ls (hG.put hP hat e (by simp [Cell.setSlot]) z oq ?_) (hS.put z oq ha) hl)
  show H1[a]? = some (vp_cell _ _)
  rw [e]
  rw [vp_cell_l, vp_cell_l, arrV_store]
  congr 2
  funext q
  by_cases hq : q = i.toNatClampNeg
  · subst hq
    simp [updV, vp_updL]
  · simp [updV, vp_updL, hq]
theorem ag_alen (E : EE p R s m args meth c cc nL own ret D cl tys b H0 XK hh fr lo) {a t0 : Nat} {cA : ClassId} {ty : FieldType} {x : vp_A} {v : Int32} (hP : w.1 a = some (.inl (cA, x))) (ht : tys[t0]? = some (cA, ty)) (hv : Int32.ofNat x.1 = v) (hdg : decode cc pc = .ok (.arraylength, 1)) (kk : AG p l e R s m args below meth c D cl b nL Q (pc + 1) lv (.int v :: rest) w) : AG p l e R s m args below meth c D cl b nL Q pc lv (.ref a :: rest) w := by
  intro H locs ls hG hS hl
  have hat := (hG.2.2.2 a _ hP).2
  obtain ⟨n, f⟩ := x
  have hz : ∃ z : Nat → Value, vp_cell cA (n, f) = arrV cA n z := by
    rcases f with f | f | f | f | f
    · exact ⟨_, vp_cell_i cA n f⟩
    · exact ⟨_, vp_cell_l cA n f⟩
    · exact ⟨_, vp_cell_f cA n f⟩
    · exact ⟨_, vp_cell_d cA n f⟩
    · exact ⟨_, vp_cell_q cA n f⟩
  obtain ⟨z, hz⟩ := hz
  have hat : H[a]? = some (vp_cell cA (n, f)) := hat
  rw [hz] at hat
  refine W.alen (n := v) (ty := ty) E.1.1 E.1.2.1 hat ((E.2.1.1.2 t0 _ ht).1 n z) ?_ rfl rfl hdg (kk H locs ls hG hS hl)
  rw [arrV_size]
  exact hv
theorem ag_iret {r : Int32} (hret : ret = some .int) (hb0 : b ≤ s.heap.size) (E : EE p R s m args meth c cc nL own ret D cl tys b H0 XK hh fr lo) {Qp : Option Value → cW → Prop} {w0 : cW} (hw0 : s.heap.size = w0.2.1 ∧ us b s.heap = w0.2.2) (hq : Qp (some (.int r)) w) (hdg : decode cc pc = .ok (.ireturn, 1)) : AG p l e R s m args below meth c D cl b nL (MQ below (QX D cl b Qp) args s (b + cB - w0.2.1) (sB - w0.2.2) (fun q => b ≤ q)) pc lv [.int r] w := by
  intro H locs ls hG hS hl T hT X
  have h1 := stand_us X hb0
  rw [hT] at h1
  have hz := hS.1
  refine W.widen (k := b + cB - w0.2.1) (n := sB - w0.2.2) ?_ ?_ (W.iret E.1.1 E.1.2.1 (E.2.2.1.trans hret) (fun t ht _ => ⟨⟨_, w, rfl, hq, by rw [ht]; exact hG⟩, hS.F ht⟩) hS.2.2 hdg (hlocks := E.2.2.2.1)) T hT X
  · have := hG.1; have := hG.2.2.1; have := hw0.1; omega
  · have := hG.2.1; have := hG.2.2.1; have := hw0.2; omega
theorem ag_zret {r : Int32} {ty : FieldType} (hret : ret = some ty) (hn : narrow ty (.int r) = .int r) (hb0 : b ≤ s.heap.size) (E : EE p R s m args meth c cc nL own ret D cl tys b H0 XK hh fr lo) {Qp : Option Value → cW → Prop} {w0 : cW} (hw0 : s.heap.size = w0.2.1 ∧ us b s.heap = w0.2.2) (hq : Qp (some (.int r)) w) (hdg : decode cc pc = .ok (.ireturn, 1)) : AG p l e R s m args below meth c D cl b nL (MQ below (QX D cl b Qp) args s (b + cB - w0.2.1) (sB - w0.2.2) (fun q => b ≤ q)) pc lv [.int r] w := by
  intro H locs ls hG hS hl T hT X
  have h1 := stand_us X hb0
  rw [hT] at h1
  have hz := hS.1
  refine W.widen (k := b + cB - w0.2.1) (n := sB - w0.2.2) ?_ ?_ (W.zret E.1.1 E.1.2.1 (E.2.2.1.trans hret) hn (fun t ht _ => ⟨⟨_, w, rfl, hq, by rw [ht]; exact hG⟩, hS.F ht⟩) hS.2.2 hdg (hlocks := E.2.2.2.1)) T hT X
  · have := hG.1; have := hG.2.2.1; have := hw0.1; omega
  · have := hG.2.1; have := hG.2.2.1; have := hw0.2; omega
theorem ag_lret {r : Int64} (hret : ret = some .long) (hb0 : b ≤ s.heap.size) (E : EE p R s m args meth c cc nL own ret D cl tys b H0 XK hh fr lo) {Qp : Option Value → cW → Prop} {w0 : cW} (hw0 : s.heap.size = w0.2.1 ∧ us b s.heap = w0.2.2) (hq : Qp (some (.long r)) w) (hdg : decode cc pc = .ok (.lreturn, 1)) : AG p l e R s m args below meth c D cl b nL (MQ below (QX D cl b Qp) args s (b + cB - w0.2.1) (sB - w0.2.2) (fun q => b ≤ q)) pc lv [.long r] w := by
  intro H locs ls hG hS hl T hT X
  have h1 := stand_us X hb0
  rw [hT] at h1
  have hz := hS.1
  refine W.widen (k := b + cB - w0.2.1) (n := sB - w0.2.2) ?_ ?_ (W.lret E.1.1 E.1.2.1 (E.2.2.1.trans hret) (fun t ht _ => ⟨⟨_, w, rfl, hq, by rw [ht]; exact hG⟩, hS.F ht⟩) hS.2.2 hdg (hlocks := E.2.2.2.1)) T hT X
  · have := hG.1; have := hG.2.2.1; have := hw0.1; omega
  · have := hG.2.1; have := hG.2.2.1; have := hw0.2; omega
theorem ag_vret (hret : ret = none) (hb0 : b ≤ s.heap.size) (E : EE p R s m args meth c cc nL own ret D cl tys b H0 XK hh fr lo) {Qp : Option Value → cW → Prop} {w0 : cW} (hw0 : s.heap.size = w0.2.1 ∧ us b s.heap = w0.2.2) (hq : Qp (none) w) (hdg : decode cc pc = .ok (.return_, 1)) : AG p l e R s m args below meth c D cl b nL (MQ below (QX D cl b Qp) args s (b + cB - w0.2.1) (sB - w0.2.2) (fun q => b ≤ q)) pc lv [] w := by
  intro H locs ls hG hS hl T hT X
  have h1 := stand_us X hb0
  rw [hT] at h1
  have hz := hS.1
  refine W.widen (k := b + cB - w0.2.1) (n := sB - w0.2.2) ?_ ?_ (W.vret E.1.1 E.1.2.1 (E.2.2.1.trans hret) (fun t ht _ => ⟨⟨_, w, rfl, hq, by rw [ht]; exact hG⟩, hS.F ht⟩) hS.2.2 hdg (hlocks := E.2.2.2.1)) T hT X
  · have := hG.1; have := hG.2.2.1; have := hw0.1; omega
  · have := hG.2.1; have := hG.2.2.1; have := hw0.2; omega
theorem ag_aret {v : Value} {rt : FieldType} (hret : ret = some rt) (hrt : (∃ n, rt = .object n) ∨ ∃ t, rt = .array t) (hv : v = .null ∨ ∃ a, v = .ref a) (hb0 : b ≤ s.heap.size) (E : EE p R s m args meth c cc nL own ret D cl tys b H0 XK hh fr lo) {Qp : Option Value → cW → Prop} {w0 : cW} (hw0 : s.heap.size = w0.2.1 ∧ us b s.heap = w0.2.2) (hq : Qp (some v) w) (hdg : decode cc pc = .ok (.areturn, 1)) : AG p l e R s m args below meth c D cl b nL (MQ below (QX D cl b Qp) args s (b + cB - w0.2.1) (sB - w0.2.2) (fun q => b ≤ q)) pc lv [v] w := by
  intro H locs ls hG hS hl T hT X
  have h1 := stand_us X hb0
  rw [hT] at h1
  have hz := hS.1
  refine W.widen (k := b + cB - w0.2.1) (n := sB - w0.2.2) ?_ ?_ (W.aret E.1.1 E.1.2.1 (E.2.2.1.trans hret) hrt hv (fun t ht _ => ⟨⟨_, w, rfl, hq, by rw [ht]; exact hG⟩, hS.F ht⟩) hS.2.2 hdg (hlocks := E.2.2.2.1)) T hT X
  · have := hG.1; have := hG.2.2.1; have := hw0.1; omega
  · have := hG.2.1; have := hG.2.2.1; have := hw0.2; omega
theorem ag_run {y : MethodName} {mc ms : Nat} {g : JFrame} {Qp : Option Value → cW → Prop} {a : Array Value} {ls : Array Slot} {H : Heap} {locs : List Loc} {cells slots : Nat} {st0 : List Value} (hG : GW D cl b w H) (hS : va_S (fun q => b ≤ q) s.heap H locs) (hl : lv_has ls nL lv) (hr : va_Run p l e R s m args below meth c H locs cells slots mc ms (F0 m pc ls st0) rest (QX D cl b Qp a) (fun q => b ≤ q))
    (kk : ∀ (v : Option Value) (w' : cW), Qp v w' → AG p l e R s m args below meth c D cl b nL Q (pc + 3) lv (v.toList ++ rest) w') : W p l e R s m args below meth c H locs cells slots Q (F0 m pc ls st0) := by
  intro T hT X
  obtain ⟨v, st₀, t, T', L, h0, X', hL, e1, e2, ⟨⟨v', w', hv, hp, hg⟩, hz, hk⟩, st⟩ := hr T hT X
  cases hv
  rw [h0] at hz hk
  have hS' : va_S (fun q => b ≤ q) s.heap T'.heap (locs ++ L) := ⟨Nat.le_trans hS.1 (by rw [e1]; exact hz), fun q h1 h2 => by rw [e1, hk q (Nat.lt_of_lt_of_le h1 hS.1) h2]; exact hS.2.1 q h1 h2, fun q hq => by
      rcases List.mem_append.mp hq with h | h
      · exact hS.2.2 q h
      · exact hL q h⟩
  obtain ⟨t2, a1, b1⟩ := W.exact (cells := cells + mc) (slots := slots + ms) (kk v w' hp T'.heap (locs ++ L) ls (by rw [e1]; exact hg) hS' hl) T' rfl X'
  exact ⟨t2, st t2 a1, b1⟩
theorem pcC_blind {av : List Value} : FrameBlind (pcC D cl tys b H0 XK av w) := fun a U g mk q => by
  obtain ⟨q0, q1, q2⟩ := q
  exact ⟨q0, kK.warm (u := U) (U := U.calling g mk a) (State.WarmedH.refl U) q1, q2⟩
theorem ag_callV (E : EE p R s m args meth c cc nL own ret D cl tys b H0 XK hh fr lo) {C : String} {index n n2 a ci fr2 lo2 : Nat} {y : MethodName} {bytes : ByteArray} {maxL : Nat} {ret2 : Option FieldType} {V : Nat → Value} {As : List Value} {Qp : Option Value → cW → Prop} {T0 : u_T} (hP : w.1 a = some (.inr (ci, V))) (hc : cl[ci]? = some (C, T0, n2)) (hcon : CON l D cl tys b H0 XK y bytes maxL ret2 fr2 lo2 (.ref a :: As) w Qp) (hG0 : GoodIn lw_all (wsV own index C y (ws_ y bytes maxL ret2))) (hd : y.cls = C ∧ y.cls ≠ "java/lang/invoke/MethodHandle" ∧ y.cls ≠ "java/lang/invoke/VarHandle" ∧ (parseMethodDescriptor y.desc).map (fun d => d.parameters.length) = some n) (hfr : fr2 + 1 ≤ fr) (hlo : 8 + (maxL + 11) + lo2 ≤ lo) (hn : As.length = n) (hst : (rest.map fun v => v.category).sum ≤ 8) (hdg : decode cc pc = .ok (.invokevirtual index, 3))
    (kk : ∀ (v : Option Value) (w' : cW), Qp v w' → AG p l e R s m args below meth c D cl b nL Q (pc + 3) lv (v.toList ++ rest) w') {st0 : List Value} (hst0 : st0 = As.reverse ++ .ref a :: rest) : AG p l e R s m args below meth c D cl b nL Q pc lv st0 w := by
  intro H locs ls hG hS hl T hT X
  have h1 := stand_us X E.2.2.2.2.2.1
  rw [hT] at h1
  have hz := hS.1
  have hO : ∀ q : Nat, q < b → H[q]? = H0[q]? := fun q hq => (hS.2.1 q (Nat.lt_of_lt_of_le hq E.2.2.2.2.2.1) (Nat.not_le.mpr hq)).trans (E.2.2.2.2.1 q hq)
  have r1 := E.2.2.2.2.2.2.1
  have r2 := E.2.2.2.2.2.2.2.1
  have g1 := hG.1
  have g2 := hG.2.1
  have g3 := hG.2.2.1
  have hf : H.size - s.heap.size + (b + cB - w.2.1) ≤ R.cells ∧ usd s H + (sB - w.2.2) ≤ R.slots := ⟨by rw [r1]; omega, by rw [r2]; omega⟩
  subst hst0
  refine ag_run (y := y) (g := F0 m pc ls []) hG hS hl (va_runV (As := As) (rest := rest) (C := C) E.1 hcon (cwV n E.1.2.2.2.2 hG0 rfl rfl rfl hd ⟨Nat.le_trans hfr E.2.2.2.2.2.2.2.2.1, Nat.le_trans hlo E.2.2.2.2.2.2.2.2.2.1⟩) ⟨pcC_blind, ?_, fun U hU hW => ⟨rfl, kK.warm hW E.2.1, by rw [hU]; exact hG, by rw [hU]; exact hO⟩⟩ rfl hn hl.1 rfl (lv_room hst) hdg hf) kk T hT X
  obtain ⟨-, r, k1, cell, k2, k3, k4, -⟩ := hG.2.2.2 a _ hP
  have hr : r = (C, T0, n2) := Option.some.inj (k1.symm.trans hc)
  subst hr
  exact ⟨cell, k2, by rw [k4]; rfl, by rw [k3]; exact (E.2.1.1.1 ci _ hc).2.1⟩
theorem ag_callS (E : EE p R s m args meth c cc nL own ret D cl tys b H0 XK hh fr lo) {index n fr2 lo2 : Nat} {y : MethodName} {bytes : ByteArray} {maxL : Nat} {ret2 : Option FieldType} {As : List Value} {Qp : Option Value → cW → Prop} (hcon : CON l D cl tys b H0 XK y bytes maxL ret2 fr2 lo2 As w Qp) (hG0 : GoodIn lw_all (va_wsS own index y (ws_ y bytes maxL ret2))) (hd : y.cls ≠ "java/lang/invoke/MethodHandle" ∧ y.cls ≠ "java/lang/invoke/VarHandle" ∧ (parseMethodDescriptor y.desc).map (fun d => d.parameters.length) = some n) (hfr : fr2 + 1 ≤ fr) (hlo : 8 + (maxL + 11) + lo2 ≤ lo) (hn : As.length = n) (hst : (rest.map fun v => v.category).sum ≤ 8) (hdg : decode cc pc = .ok (.invokestatic index, 3))
    (kk : ∀ (v : Option Value) (w' : cW), Qp v w' → AG p l e R s m args below meth c D cl b nL Q (pc + 3) lv (v.toList ++ rest) w') {st0 : List Value} (hst0 : st0 = As.reverse ++ rest) : AG p l e R s m args below meth c D cl b nL Q pc lv st0 w := by
  intro H locs ls hG hS hl T hT X
  have h1 := stand_us X E.2.2.2.2.2.1
  rw [hT] at h1
  have hz := hS.1
  have hO : ∀ q : Nat, q < b → H[q]? = H0[q]? := fun q hq => (hS.2.1 q (Nat.lt_of_lt_of_le hq E.2.2.2.2.2.1) (Nat.not_le.mpr hq)).trans (E.2.2.2.2.1 q hq)
  have r1 := E.2.2.2.2.2.2.1
  have r2 := E.2.2.2.2.2.2.2.1
  have g1 := hG.1
  have g2 := hG.2.1
  have g3 := hG.2.2.1
  have hf : H.size - s.heap.size + (b + cB - w.2.1) ≤ R.cells ∧ usd s H + (sB - w.2.2) ≤ R.slots := ⟨by rw [r1]; omega, by rw [r2]; omega⟩
  subst hst0
  exact ag_run (y := y) (g := F0 m pc ls []) hG hS hl (va_runS (As := As) (rest := rest) E.1 hcon (va_cwS n E.1.2.2.2.2 hG0 rfl rfl rfl hd ⟨Nat.le_trans hfr E.2.2.2.2.2.2.2.2.1, Nat.le_trans hlo E.2.2.2.2.2.2.2.2.2.1⟩) ⟨pcC_blind, fun U hU hW => ⟨rfl, kK.warm hW E.2.1, by rw [hU]; exact hG, by rw [hU]; exact hO⟩⟩ rfl hn hl.1 rfl (lv_room hst) hdg hf) kk T hT X
theorem ag_callI (E : EE p R s m args meth c cc nL own ret D cl tys b H0 XK hh fr lo) {index n a fr2 lo2 : Nat} {y : MethodName} {bytes : ByteArray} {maxL : Nat} {As : List Value} {Qp : Option Value → cW → Prop} (hcon : CON l D cl tys b H0 XK y bytes maxL none fr2 lo2 (.ref a :: As) w Qp) (hcode : Cond.code y bytes maxL none ∈ lw_all) (hini : Cond.initialized y.cls ∈ lw_all) (hlk : Cond.methodLink own index y ∈ lw_all) (him : Cond.instanceMethod y ∈ lw_all) (hy1 : y.name = "<init>") (hd : y.cls ≠ "java/lang/invoke/MethodHandle" ∧ y.cls ≠ "java/lang/invoke/VarHandle" ∧ (parseMethodDescriptor y.desc).map (fun d => d.parameters.length) = some n) (hfr : fr2 + 1 ≤ fr) (hlo : 8 + (maxL + 11) + lo2 ≤ lo) (hn : As.length = n) (hst : (rest.map fun v => v.category).sum ≤ 8) (hdg : decode cc pc = .ok (.invokespecial index, 3))
    (kk : ∀ (v : Option Value) (w' : cW), Qp v w' → AG p l e R s m args below meth c D cl b nL Q (pc + 3) lv (v.toList ++ rest) w') {st0 : List Value} (hst0 : st0 = As.reverse ++ .ref a :: rest) : AG p l e R s m args below meth c D cl b nL Q pc lv st0 w := by
  intro H locs ls hG hS hl T hT X
  have h1 := stand_us X E.2.2.2.2.2.1
  rw [hT] at h1
  have hz := hS.1
  have hO : ∀ q : Nat, q < b → H[q]? = H0[q]? := fun q hq => (hS.2.1 q (Nat.lt_of_lt_of_le hq E.2.2.2.2.2.1) (Nat.not_le.mpr hq)).trans (E.2.2.2.2.1 q hq)
  have r1 := E.2.2.2.2.2.2.1
  have r2 := E.2.2.2.2.2.2.2.1
  have g1 := hG.1
  have g2 := hG.2.1
  have g3 := hG.2.2.1
  have hf : H.size - s.heap.size + (b + cB - w.2.1) ≤ R.cells ∧ usd s H + (sB - w.2.2) ≤ R.slots := ⟨by rw [r1]; omega, by rw [r2]; omega⟩
  subst hst0
  exact ag_run (y := y) (g := F0 m pc ls []) hG hS hl (va_runI (As := As) (rest := rest) E.1 hcon (cwI n E.1.2.2.2.2 (lw_meth hcode) rfl rfl rfl (E.1.2.2.2.2 _ hini) (E.1.2.2.2.2 _ hlk) (E.1.2.2.2.2 _ him) hy1 hd ⟨Nat.le_trans hfr E.2.2.2.2.2.2.2.2.1, Nat.le_trans hlo E.2.2.2.2.2.2.2.2.2.1⟩) ⟨pcC_blind, fun U hU hW => ⟨rfl, kK.warm hW E.2.1, by rw [hU]; exact hG, by rw [hU]; exact hO⟩⟩ rfl hn hl.1 rfl (lv_room hst) hdg hf) kk T hT X
abbrev zI (Q : Int32 → Prop) : Option Value → Prop := fun v => ∃ r : Int32, v = some (.int r) ∧ Q r
abbrev zJ (Q : Int64 → Prop) : Option Value → Prop := fun v => ∃ r : Int64, v = some (.long r) ∧ Q r
theorem ag_callPi (E : EE p R s m args meth c cc nL own ret D cl tys b H0 XK hh fr lo) {index n fr2 lo2 : Nat} {y : MethodName} {bytes : ByteArray} {maxL : Nat} {ret2 : Option FieldType} {As : List Value} {Q2 : Int32 → Prop} (hcon : CON l D cl tys b H0 XK y bytes maxL ret2 fr2 lo2 As w (fun v w' => w' = w ∧ zI Q2 v)) (hG0 : GoodIn lw_all (va_wsS own index y (ws_ y bytes maxL ret2))) (hd : y.cls ≠ "java/lang/invoke/MethodHandle" ∧ y.cls ≠ "java/lang/invoke/VarHandle" ∧ (parseMethodDescriptor y.desc).map (fun d => d.parameters.length) = some n) (hfr : fr2 + 1 ≤ fr) (hlo : 8 + (maxL + 11) + lo2 ≤ lo) (hn : As.length = n) (hst : (rest.map fun v => v.category).sum ≤ 8) (hdg : decode cc pc = .ok (.invokestatic index, 3)) {st0 : List Value} (hst0 : st0 = As.reverse ++ rest)
    (kk : ∀ (r : Int32), Q2 r → AG p l e R s m args below meth c D cl b nL Q (pc + 3) lv (.int r :: rest) w) : AG p l e R s m args below meth c D cl b nL Q pc lv st0 w :=
  ag_callS E hcon hG0 hd hfr hlo hn hst hdg (fun v w' hv => by obtain ⟨rfl, r, rfl, hq⟩ := hv; exact kk r hq) hst0
theorem ag_callPl (E : EE p R s m args meth c cc nL own ret D cl tys b H0 XK hh fr lo) {index n fr2 lo2 : Nat} {y : MethodName} {bytes : ByteArray} {maxL : Nat} {ret2 : Option FieldType} {As : List Value} {Q2 : Int64 → Prop} (hcon : CON l D cl tys b H0 XK y bytes maxL ret2 fr2 lo2 As w (fun v w' => w' = w ∧ zJ Q2 v)) (hG0 : GoodIn lw_all (va_wsS own index y (ws_ y bytes maxL ret2))) (hd : y.cls ≠ "java/lang/invoke/MethodHandle" ∧ y.cls ≠ "java/lang/invoke/VarHandle" ∧ (parseMethodDescriptor y.desc).map (fun d => d.parameters.length) = some n) (hfr : fr2 + 1 ≤ fr) (hlo : 8 + (maxL + 11) + lo2 ≤ lo) (hn : As.length = n) (hst : (rest.map fun v => v.category).sum ≤ 8) (hdg : decode cc pc = .ok (.invokestatic index, 3)) {st0 : List Value} (hst0 : st0 = As.reverse ++ rest)
    (kk : ∀ (r : Int64), Q2 r → AG p l e R s m args below meth c D cl b nL Q (pc + 3) lv (.long r :: rest) w) : AG p l e R s m args below meth c D cl b nL Q pc lv st0 w :=
  ag_callS E hcon hG0 hd hfr hlo hn hst hdg (fun v w' hv => by obtain ⟨rfl, r, rfl, hq⟩ := hv; exact kk r hq) hst0
def i_min (x y : Int32) : Int32 := if y < x then y else x
theorem ag_mmin (E : EE p R s m args meth c cc nL own ret D cl tys b H0 XK hh fr lo) {index : Nat} {x y : Int32} (hlk : Cond.methodLink own index Lib.Math.min.name ∈ lw_all) (hst : Cond.static Lib.Math.min.name ∈ lw_all) (hin : Cond.initialized "java/lang/Math" ∈ lw_all) (hcd : Cond.code Lib.Math.min.name Lib.Math.min.code 2 (some .int) ∈ lw_all) (hfr : 1 ≤ fr) (hlo : 21 ≤ lo) (hs8 : (rest.map fun v => v.category).sum ≤ 8) (hdg : decode cc pc = .ok (.invokestatic index, 3)) (kk : AG p l e R s m args below meth c D cl b nL Q (pc + 3) lv (.int (i_min x y) :: rest) w) : AG p l e R s m args below meth c D cl b nL Q pc lv (.int y :: .int x :: rest) w := by
  intro H locs ls hG hS hl T hT X
  have h1 := stand_us X E.2.2.2.2.2.1
  rw [hT] at h1
  have hz := hS.1
  have hO : ∀ q : Nat, q < b → H[q]? = H0[q]? := fun q hq => (hS.2.1 q (Nat.lt_of_lt_of_le hq E.2.2.2.2.2.1) (Nat.not_le.mpr hq)).trans (E.2.2.2.2.1 q hq)
  have r1 := E.2.2.2.2.2.2.1
  have r2 := E.2.2.2.2.2.2.2.1
  have g1 := hG.1
  have g2 := hG.2.1
  have g3 := hG.2.2.1
  have hf : H.size - s.heap.size + (b + cB - w.2.1) ≤ R.cells ∧ usd s H + (sB - w.2.2) ≤ R.slots := ⟨by rw [r1]; omega, by rw [r2]; omega⟩
  have r3 := E.2.2.2.2.2.2.2.2.1
  have r4 := E.2.2.2.2.2.2.2.2.2.1
  exact va_mmin E.1.1 E.1.2.1 (E.1.2.2.1.trans hl.1.symm) E.1.2.2.2.1 (E.1.2.2.2.2 _ hlk) (E.1.2.2.2.2 _ hst) (E.1.2.2.2.2 _ hin) (E.1.2.2.2.2 _ hcd) (Nat.le_trans hfr r3) (by omega) (by omega) (by omega) hdg (kk H locs ls hG hS hl) T hT X
def i_max (x y : Int32) : Int32 := if x < y then y else x
theorem ag_mmax (E : EE p R s m args meth c cc nL own ret D cl tys b H0 XK hh fr lo) {index : Nat} {x y : Int32} (hlk : Cond.methodLink own index Lib.Math.max.name ∈ lw_all) (hst : Cond.static Lib.Math.max.name ∈ lw_all) (hin : Cond.initialized "java/lang/Math" ∈ lw_all) (hcd : Cond.code Lib.Math.max.name Lib.Math.max.code 2 (some .int) ∈ lw_all) (hfr : 1 ≤ fr) (hlo : 21 ≤ lo) (hs8 : (rest.map fun v => v.category).sum ≤ 8) (hdg : decode cc pc = .ok (.invokestatic index, 3)) (kk : AG p l e R s m args below meth c D cl b nL Q (pc + 3) lv (.int (i_max x y) :: rest) w) : AG p l e R s m args below meth c D cl b nL Q pc lv (.int y :: .int x :: rest) w := by
  intro H locs ls hG hS hl T hT X
  have h1 := stand_us X E.2.2.2.2.2.1
  rw [hT] at h1
  have hz := hS.1
  have hO : ∀ q : Nat, q < b → H[q]? = H0[q]? := fun q hq => (hS.2.1 q (Nat.lt_of_lt_of_le hq E.2.2.2.2.2.1) (Nat.not_le.mpr hq)).trans (E.2.2.2.2.1 q hq)
  have r1 := E.2.2.2.2.2.2.1
  have r2 := E.2.2.2.2.2.2.2.1
  have g1 := hG.1
  have g2 := hG.2.1
  have g3 := hG.2.2.1
  have hf : H.size - s.heap.size + (b + cB - w.2.1) ≤ R.cells ∧ usd s H + (sB - w.2.2) ≤ R.slots := ⟨by rw [r1]; omega, by rw [r2]; omega⟩
  have r3 := E.2.2.2.2.2.2.2.2.1
  have r4 := E.2.2.2.2.2.2.2.2.2.1
  exact va_mmax E.1.1 E.1.2.1 (E.1.2.2.1.trans hl.1.symm) E.1.2.2.2.1 (E.1.2.2.2.2 _ hlk) (E.1.2.2.2.2 _ hst) (E.1.2.2.2.2 _ hin) (E.1.2.2.2.2 _ hcd) (Nat.le_trans hfr r3) (by omega) (by omega) (by omega) hdg (kk H locs ls hG hS hl) T hT X
end AGR
