/-! their walks (by program) -/
set_option maxRecDepth 100000
set_option maxHeartbeats 4000000
section
variable {p : Program} {l : Launch} {e : Env} {R : Room} {s : State} {m : MethodId} {args : Array Value} {below : List Frame} {meth : Method} {c : Code} {D : va_G} {cs : Nat → ClassId} {b z u n : Nat} {H0 : Heap} {ad : Nat → Nat} {vs : Nat → Option Nat}
theorem kJ2_size (l : Launch) (D : va_G) (cs : Nat → ClassId) (b : Nat) (H0 : Heap) (ad : Nat → Nat) (vs : Nat → Option Nat) (f : cW) (x0 : Nat) (Q : Int32 → cW → Prop) (h : wJ2_size b cs ad vs f x0 Q) : CON l D clC (tysC cs) b H0 (XKd b H0 ad vs) yJ2_size cJ2_size 1 (some .int) 0 0 [.ref x0] f (qI Q) := by
  refine con_of (by decide) (Nat.le_of_ble_eq_true rfl) (fun p e R s m below meth c E1 h0 hin0 => ?_)
  have E : EX p R s m ([.ref x0] : List Value).toArray meth c cJ2_size 1 RJ2 (some .int) D cs b H0 (XKd b H0 ad vs) [] 0 0 f.2.1 f.2.2 := ⟨E1, h0⟩
  refine ag_sub (lv' := [(0, .ref x0)]) [0] rfl ?_
  refine ag_aload_n E1 dJ2_size_0 rfl 0 rfl ?_
  obtain ⟨y_1, v_2, y_3, hP_4, h⟩ := h
  refine ag_getL E1 2 (ci := 16) (C := RJ2) (T := TJ2) (N := 3) rfl in_J2 (by decide) q143 (fun _ h => h) dJ2_size_1 hP_4 rfl ?_
  exact gw_iret E rfl ⟨_, rfl, h⟩ dJ2_size_4
theorem hdJ2_size : yJ2_size.cls ≠ "java/lang/invoke/MethodHandle" ∧ yJ2_size.cls ≠ "java/lang/invoke/VarHandle" ∧ (parseMethodDescriptor yJ2_size.desc).map (fun d => d.parameters.length) = some 0 := by decide +kernel
theorem tbJ5_checkIndex_9 (E : EX p R s m args meth c cJ5_checkIndex 3 RJ5 (some .int) D cs b H0 (XKd b H0 ad vs) [] 0 0 z u) {Q : Int32 → cW → Prop}  {x0 : Int32} {x1 : Int32} {x2 : Option Nat} {f : cW} (h : wbJ5_checkIndex_9 b cs ad vs  Q x0 x1 x2 f) : AGW p l e R s m args below meth c D b 3 z u (qI Q) 9 [(0, .int x0), (1, .int x1), (2, va_rf x2)] [] f := by
  have E1 := E.1
  exact h.elim
theorem kJ5_checkIndex (l : Launch) (D : va_G) (cs : Nat → ClassId) (b : Nat) (H0 : Heap) (ad : Nat → Nat) (vs : Nat → Option Nat) (f : cW) (x0 : Int32) (x1 : Int32) (x2 : Option Nat) (Q : Int32 → cW → Prop) (h : wJ5_checkIndex b cs ad vs f x0 x1 x2 Q) : CON l D clC (tysC cs) b H0 (XKd b H0 ad vs) yJ5_checkIndex cJ5_checkIndex 3 (some .int) 0 0 [.int x0, .int x1, va_rf x2] f (qI Q) := by
  refine con_of (by decide) (by rcases x2 with _ | _ <;> exact Nat.le_of_ble_eq_true rfl) (fun p e R s m below meth c E1 h0 hin0 => ?_)
  have E : EX p R s m ([.int x0, .int x1, va_rf x2] : List Value).toArray meth c cJ5_checkIndex 3 RJ5 (some .int) D cs b H0 (XKd b H0 ad vs) [] 0 0 f.2.1 f.2.2 := ⟨E1, h0⟩
  refine ag_sub (lv' := [(0, .int x0), (1, .int x1), (2, va_rf x2)]) [0, 1, 2] rfl ?_
  refine ag_iload_n E1 dJ5_checkIndex_0 rfl 0 rfl ?_
  refine ag_if_lt E1 (tgt := 9) dJ5_checkIndex_1 (by decide) (fun c_1 => ?_) (fun c_1 => ?_)
  · have h := h.1 c_1
    exact tbJ5_checkIndex_9 E  h
  · have h := h.2 c_1
    refine ag_iload_n E1 dJ5_checkIndex_4 rfl 0 rfl ?_
    refine ag_iload_n E1 dJ5_checkIndex_5 rfl 1 rfl ?_
    refine ag_icmp_lt E1 (tgt := 16) dJ5_checkIndex_6 (by decide) (fun c_6 => ?_) (fun c_6 => ?_)
    · have h := h.1 c_6
      refine ag_iload_n E1 dJ5_checkIndex_16 rfl 0 rfl ?_
      exact gw_iret E rfl ⟨_, rfl, h⟩ dJ5_checkIndex_17
    · have h := h.2 c_6
      exact tbJ5_checkIndex_9 E  h
theorem hdJ5_checkIndex : yJ5_checkIndex.cls ≠ "java/lang/invoke/MethodHandle" ∧ yJ5_checkIndex.cls ≠ "java/lang/invoke/VarHandle" ∧ (parseMethodDescriptor yJ5_checkIndex.desc).map (fun d => d.parameters.length) = some 3 := by decide +kernel
theorem kJ16_checkIndex (l : Launch) (D : va_G) (cs : Nat → ClassId) (b : Nat) (H0 : Heap) (ad : Nat → Nat) (vs : Nat → Option Nat) (f : cW) (x0 : Int32) (x1 : Int32) (Q : Int32 → cW → Prop) (h : wJ16_checkIndex b cs ad vs f x0 x1 Q) : CON l D clC (tysC cs) b H0 (XKd b H0 ad vs) yJ16_checkIndex cJ16_checkIndex 2 (some .int) 1 22 [.int x0, .int x1] f (qI Q) := by
  refine con_of (by decide) (Nat.le_of_ble_eq_true rfl) (fun p e R s m below meth c E1 h0 hin0 => ?_)
  have E : EX p R s m ([.int x0, .int x1] : List Value).toArray meth c cJ16_checkIndex 2 RJ16 (some .int) D cs b H0 (XKd b H0 ad vs) [] 1 22 f.2.1 f.2.2 := ⟨E1, h0⟩
  refine ag_sub (lv' := [(0, .int x0), (1, .int x1)]) [0, 1] rfl ?_
  refine ag_iload_n E1 dJ16_checkIndex_0 rfl 0 rfl ?_
  refine ag_iload_n E1 dJ16_checkIndex_1 rfl 1 rfl ?_
  refine ag_null E1 dJ16_checkIndex_2 ?_
  refine ag_callS E1 (kJ5_checkIndex _ _ _ _ _ _ _ _ _ _ _ _ h) (lw_S q1061 q209 q90 q210) hdJ5_checkIndex (Nat.le_of_ble_eq_true rfl) (Nat.le_of_ble_eq_true rfl) (As := [.int x0, .int x1, .null]) rfl (Nat.le_of_ble_eq_true rfl) dJ16_checkIndex_3 (fun v_ f_1 hv => ?_) rfl
  obtain ⟨r_2, rfl, h⟩ := hv
  exact gw_iret E rfl ⟨_, rfl, h⟩ dJ16_checkIndex_6
theorem hdJ16_checkIndex : yJ16_checkIndex.cls ≠ "java/lang/invoke/MethodHandle" ∧ yJ16_checkIndex.cls ≠ "java/lang/invoke/VarHandle" ∧ (parseMethodDescriptor yJ16_checkIndex.desc).map (fun d => d.parameters.length) = some 2 := by decide +kernel
theorem kJ2_elementData (l : Launch) (D : va_G) (cs : Nat → ClassId) (b : Nat) (H0 : Heap) (ad : Nat → Nat) (vs : Nat → Option Nat) (f : cW) (x0 : Nat) (x1 : Int32) (Q : Nat → cW → Prop) (h : wJ2_elementData b cs ad vs f x0 x1 Q) : CON l D clC (tysC cs) b H0 (XKd b H0 ad vs) yJ2_elementData cJ2_elementData 2 (some (.object "java/lang/Object")) 0 0 [.ref x0, .int x1] f (qR Q) := by
  refine con_of (by decide) (Nat.le_of_ble_eq_true rfl) (fun p e R s m below meth c E1 h0 hin0 => ?_)
  have E : EX p R s m ([.ref x0, .int x1] : List Value).toArray meth c cJ2_elementData 2 RJ2 (some (.object "java/lang/Object")) D cs b H0 (XKd b H0 ad vs) [] 0 0 f.2.1 f.2.2 := ⟨E1, h0⟩
  refine ag_sub (lv' := [(0, .ref x0), (1, .int x1)]) [0, 1] rfl ?_
  refine ag_aload_n E1 dJ2_elementData_0 rfl 0 rfl ?_
  obtain ⟨y_1, v_2, y_3, hP_4, h⟩ := h
  refine ag_getL E1 1 (ci := 16) (C := RJ2) (T := TJ2) (N := 3) rfl in_J2 (by decide) q142 (fun _ h => h) dJ2_elementData_1 hP_4 rfl ?_
  refine ag_iload_n E1 dJ2_elementData_4 rfl 1 rfl ?_
  obtain ⟨a_6, e_7, h⟩ := h
  rw [e_7]
  obtain ⟨n_8, c_9, hP_10, h⟩ := h
  obtain ⟨hin_5, a_11, e_12, h⟩ := h
  refine ag_aald E1 (t0 := 4) hP_10 rfl rfl hin_5 dJ2_elementData_5 (v := .ref a_11) (by rw [e_12]; rfl) ?_
  exact gw_aret E rfl (Or.inl ⟨_, rfl⟩) (Or.inr ⟨_, rfl⟩) ⟨_, rfl, h⟩ dJ2_elementData_6
theorem hdJ2_elementData : yJ2_elementData.cls ≠ "java/lang/invoke/MethodHandle" ∧ yJ2_elementData.cls ≠ "java/lang/invoke/VarHandle" ∧ (parseMethodDescriptor yJ2_elementData.desc).map (fun d => d.parameters.length) = some 1 := by decide +kernel
theorem kJ2_get (l : Launch) (D : va_G) (cs : Nat → ClassId) (b : Nat) (H0 : Heap) (ad : Nat → Nat) (vs : Nat → Option Nat) (f : cW) (x0 : Nat) (x1 : Int32) (Q : Nat → cW → Prop) (h : wJ2_get b cs ad vs f x0 x1 Q) : CON l D clC (tysC cs) b H0 (XKd b H0 ad vs) yJ2_get cJ2_get 2 (some (.object "java/lang/Object")) 2 43 [.ref x0, .int x1] f (qR Q) := by
  refine con_of (by decide) (Nat.le_of_ble_eq_true rfl) (fun p e R s m below meth c E1 h0 hin0 => ?_)
  have E : EX p R s m ([.ref x0, .int x1] : List Value).toArray meth c cJ2_get 2 RJ2 (some (.object "java/lang/Object")) D cs b H0 (XKd b H0 ad vs) [] 2 43 f.2.1 f.2.2 := ⟨E1, h0⟩
  refine ag_sub (lv' := [(0, .ref x0), (1, .int x1)]) [0, 1] rfl ?_
  refine ag_iload_n E1 dJ2_get_0 rfl 1 rfl ?_
  refine ag_aload_n E1 dJ2_get_1 rfl 0 rfl ?_
  obtain ⟨y_1, v_2, y_3, hP_4, h⟩ := h
  refine ag_getL E1 2 (ci := 16) (C := RJ2) (T := TJ2) (N := 3) rfl in_J2 (by decide) q143 (fun _ h => h) dJ2_get_2 hP_4 rfl ?_
  refine ag_callS E1 (kJ16_checkIndex _ _ _ _ _ _ _ _ _ _ _ h) (lw_S q1058 q1059 q114 q1060) hdJ16_checkIndex (Nat.le_of_ble_eq_true rfl) (Nat.le_of_ble_eq_true rfl) (As := [.int x1, .int y_3]) rfl (Nat.le_of_ble_eq_true rfl) dJ2_get_5 (fun v_ f_5 hv => ?_) rfl
  obtain ⟨r_6, rfl, h⟩ := hv
  refine ag_pop E1 dJ2_get_8 rfl ?_
  refine ag_aload_n E1 dJ2_get_9 rfl 0 rfl ?_
  refine ag_iload_n E1 dJ2_get_10 rfl 1 rfl ?_
  obtain ⟨y_8, v_9, y_10, hP_11, h⟩ := h
  refine ag_callV E1 (ci := 16) (C := RJ2) (T0 := TJ2) (n2 := 3) hP_11 rfl (kJ2_elementData _ _ _ _ _ _ _ _ _ _ _ h) (lw_V q1062 q1063 q1064 q86 q1065) ⟨rfl, hdJ2_elementData⟩ (Nat.le_of_ble_eq_true rfl) (Nat.le_of_ble_eq_true rfl) (As := [.int x1]) rfl (Nat.le_of_ble_eq_true rfl) dJ2_get_11 (fun v_ f_7 hv => ?_) rfl
  obtain ⟨r_12, rfl, h⟩ := hv
  exact gw_aret E rfl (Or.inl ⟨_, rfl⟩) (Or.inr ⟨_, rfl⟩) ⟨_, rfl, h⟩ dJ2_get_14
theorem hdJ2_get : yJ2_get.cls ≠ "java/lang/invoke/MethodHandle" ∧ yJ2_get.cls ≠ "java/lang/invoke/VarHandle" ∧ (parseMethodDescriptor yJ2_get.desc).map (fun d => d.parameters.length) = some 1 := by decide +kernel
theorem tbJ11_fill_5 (E : EX p R s m args meth c cJ11_fill 4 RJ11 none D cs b H0 (XKd b H0 ad vs) [] 0 0 z u) {Q : cW → Prop} {K5 : Nat → Int32 → Int32 → Int32 → cW → Prop} (hK5 : ∀ (x0 : Nat) (x1 : Int32) (x2 : Int32) (x3 : Int32) (f : cW), K5 x0 x1 x2 x3 f → AGW p l e R s m args below meth c D b 4 z u (qV Q) 5 [(0, .ref x0), (1, .int x1), (2, .int x2), (3, .int x3)] [] f) {x0 : Nat} {x1 : Int32} {x2 : Int32} {x3 : Int32} {f : cW} (h : wbJ11_fill_5 b cs ad vs K5 Q x0 x1 x2 x3 f) : AGW p l e R s m args below meth c D b 4 z u (qV Q) 5 [(0, .ref x0), (1, .int x1), (2, .int x2), (3, .int x3)] [] f := by
  have E1 := E.1
  refine ag_iload_n E1 dJ11_fill_5 rfl 2 rfl ?_
  refine ag_iload_n E1 dJ11_fill_6 rfl 3 rfl ?_
  refine ag_icmp_ge E1 (tgt := 20) dJ11_fill_7 (by decide) (fun c_7 => ?_) (fun c_7 => ?_)
  · have h := h.1 c_7
    exact gw_vret E rfl ⟨rfl, h⟩ dJ11_fill_20
  · have h := h.2 c_7
    refine ag_aload_n E1 dJ11_fill_10 rfl 0 rfl ?_
    refine ag_iload_n E1 dJ11_fill_11 rfl 2 rfl ?_
    refine ag_iload_n E1 dJ11_fill_12 rfl 1 rfl ?_
    obtain ⟨n_5, c_6, hP_7, h⟩ := h
    obtain ⟨hin_8, h⟩ := h
    refine ag_iast E1 (t0 := 0) hP_7 rfl hin_8 dJ11_fill_13 ?_
    refine ag_named (fun f_9 e_10 => ?_)
    have h := h f_9 e_10
    refine ag_iincN E1 (lv' := fun x2_11 => [(2, .int x2_11), (0, .ref x0), (1, .int x1), (3, .int x3)]) dJ11_fill_14 2 rfl ki_1 (Nat.lt_of_lt_of_le (Nat.le_refl _) (Nat.le_of_ble_eq_true rfl)) (fun _ => rfl) (fun x2_11 e_x2_11 => ?_)
    have h := h x2_11 e_x2_11
    refine ag_goto E1 (tgt := 5) dJ11_fill_17 (by decide) ?_
    refine ag_sub (lv' := [(0, .ref x0), (1, .int x1), (2, .int x2_11), (3, .int x3)]) [1, 2, 0, 3] rfl ?_
    exact hK5 _ _ _ _ _ h
theorem tlJ11_fill_5 (E : EX p R s m args meth c cJ11_fill 4 RJ11 none D cs b H0 (XKd b H0 ad vs) [] 0 0 z u) {Q : cW → Prop}  : ∀ (n : Nat) (x0 : Nat) (x1 : Int32) (x2 : Int32) (x3 : Int32) (f : cW), wlJ11_fill_5 b cs ad vs  Q n x0 x1 x2 x3 f → AGW p l e R s m args below meth c D b 4 z u (qV Q) 5 [(0, .ref x0), (1, .int x1), (2, .int x2), (3, .int x3)] [] f := by
  intro n
  induction n with
  | zero => intro _ _ _ _ _ h; exact h.elim
  | succ n ih => intro x0 x1 x2 x3 f h; exact tbJ11_fill_5 E ih h
theorem kJ11_fill (l : Launch) (D : va_G) (cs : Nat → ClassId) (b : Nat) (H0 : Heap) (ad : Nat → Nat) (vs : Nat → Option Nat) (f : cW) (x0 : Nat) (x1 : Int32) (Q : cW → Prop) (h : wJ11_fill b cs ad vs f x0 x1 Q) : CON l D clC (tysC cs) b H0 (XKd b H0 ad vs) yJ11_fill cJ11_fill 4 none 0 0 [.ref x0, .int x1] f (qV Q) := by
  refine con_of (by decide) (Nat.le_of_ble_eq_true rfl) (fun p e R s m below meth c E1 h0 hin0 => ?_)
  have E : EX p R s m ([.ref x0, .int x1] : List Value).toArray meth c cJ11_fill 4 RJ11 none D cs b H0 (XKd b H0 ad vs) [] 0 0 f.2.1 f.2.2 := ⟨E1, h0⟩
  refine ag_sub (lv' := [(0, .ref x0), (1, .int x1)]) [0, 1] rfl ?_
  refine ag_iconst E1 dJ11_fill_0 ki_0 ?_
  refine ag_istore_n E1 (lv' := [(2, .int (0 : Int32)), (0, .ref x0), (1, .int x1)]) dJ11_fill_1 rfl (Nat.lt_of_lt_of_le (Nat.le_refl _) (Nat.le_of_ble_eq_true rfl)) rfl ?_
  refine ag_aload_n E1 dJ11_fill_2 rfl 1 rfl ?_
  obtain ⟨n_1, c_2, hP_3, h⟩ := h
  refine ag_alen E1 (t0 := 0) hP_3 rfl rfl dJ11_fill_3 ?_
  refine ag_topi (fun x3_4 e_x3_4 => ?_)
  have h := h x3_4 e_x3_4
  refine ag_istore_n E1 (lv' := [(3, .int x3_4), (2, .int (0 : Int32)), (0, .ref x0), (1, .int x1)]) dJ11_fill_4 rfl (Nat.lt_of_lt_of_le (Nat.le_refl _) (Nat.le_of_ble_eq_true rfl)) rfl ?_
  refine ag_sub (lv' := [(0, .ref x0), (1, .int x1), (2, .int (0 : Int32)), (3, .int x3_4)]) [2, 3, 1, 0] rfl ?_
  obtain ⟨n, h⟩ := h
  exact tlJ11_fill_5 E  n _ _ _ _ _ h
theorem hdJ11_fill : yJ11_fill.cls ≠ "java/lang/invoke/MethodHandle" ∧ yJ11_fill.cls ≠ "java/lang/invoke/VarHandle" ∧ (parseMethodDescriptor yJ11_fill.desc).map (fun d => d.parameters.length) = some 2 := by decide +kernel
theorem tbJ11_fill_2_5 (E : EX p R s m args meth c cJ11_fill_2 4 RJ11 none D cs b H0 (XKd b H0 ad vs) [] 0 0 z u) {Q : cW → Prop} {K5 : Nat → Int32 → Int32 → Int32 → cW → Prop} (hK5 : ∀ (x0 : Nat) (x1 : Int32) (x2 : Int32) (x3 : Int32) (f : cW), K5 x0 x1 x2 x3 f → AGW p l e R s m args below meth c D b 4 z u (qV Q) 5 [(0, .ref x0), (1, .int x1), (2, .int x2), (3, .int x3)] [] f) {x0 : Nat} {x1 : Int32} {x2 : Int32} {x3 : Int32} {f : cW} (h : wbJ11_fill_2_5 b cs ad vs K5 Q x0 x1 x2 x3 f) : AGW p l e R s m args below meth c D b 4 z u (qV Q) 5 [(0, .ref x0), (1, .int x1), (2, .int x2), (3, .int x3)] [] f := by
  have E1 := E.1
  refine ag_iload_n E1 dJ11_fill_2_5 rfl 2 rfl ?_
  refine ag_iload_n E1 dJ11_fill_2_6 rfl 3 rfl ?_
  refine ag_icmp_ge E1 (tgt := 20) dJ11_fill_2_7 (by decide) (fun c_7 => ?_) (fun c_7 => ?_)
  · have h := h.1 c_7
    exact gw_vret E rfl ⟨rfl, h⟩ dJ11_fill_2_20
  · have h := h.2 c_7
    refine ag_aload_n E1 dJ11_fill_2_10 rfl 0 rfl ?_
    refine ag_iload_n E1 dJ11_fill_2_11 rfl 2 rfl ?_
    refine ag_iload_n E1 dJ11_fill_2_12 rfl 1 rfl ?_
    obtain ⟨n_5, c_6, hP_7, h⟩ := h
    obtain ⟨hin_8, h⟩ := h
    refine ag_bast E1 (t0 := 1) hP_7 rfl hin_8 dJ11_fill_2_13 ?_
    refine ag_named (fun f_9 e_10 => ?_)
    have h := h f_9 e_10
    refine ag_iincN E1 (lv' := fun x2_11 => [(2, .int x2_11), (0, .ref x0), (1, .int x1), (3, .int x3)]) dJ11_fill_2_14 2 rfl ki_1 (Nat.lt_of_lt_of_le (Nat.le_refl _) (Nat.le_of_ble_eq_true rfl)) (fun _ => rfl) (fun x2_11 e_x2_11 => ?_)
    have h := h x2_11 e_x2_11
    refine ag_goto E1 (tgt := 5) dJ11_fill_2_17 (by decide) ?_
    refine ag_sub (lv' := [(0, .ref x0), (1, .int x1), (2, .int x2_11), (3, .int x3)]) [1, 2, 0, 3] rfl ?_
    exact hK5 _ _ _ _ _ h
theorem tlJ11_fill_2_5 (E : EX p R s m args meth c cJ11_fill_2 4 RJ11 none D cs b H0 (XKd b H0 ad vs) [] 0 0 z u) {Q : cW → Prop}  : ∀ (n : Nat) (x0 : Nat) (x1 : Int32) (x2 : Int32) (x3 : Int32) (f : cW), wlJ11_fill_2_5 b cs ad vs  Q n x0 x1 x2 x3 f → AGW p l e R s m args below meth c D b 4 z u (qV Q) 5 [(0, .ref x0), (1, .int x1), (2, .int x2), (3, .int x3)] [] f := by
  intro n
  induction n with
  | zero => intro _ _ _ _ _ h; exact h.elim
  | succ n ih => intro x0 x1 x2 x3 f h; exact tbJ11_fill_2_5 E ih h
theorem kJ11_fill_2 (l : Launch) (D : va_G) (cs : Nat → ClassId) (b : Nat) (H0 : Heap) (ad : Nat → Nat) (vs : Nat → Option Nat) (f : cW) (x0 : Nat) (x1 : Int32) (Q : cW → Prop) (h : wJ11_fill_2 b cs ad vs f x0 x1 Q) : CON l D clC (tysC cs) b H0 (XKd b H0 ad vs) yJ11_fill_2 cJ11_fill_2 4 none 0 0 [.ref x0, .int x1] f (qV Q) := by
  refine con_of (by decide) (Nat.le_of_ble_eq_true rfl) (fun p e R s m below meth c E1 h0 hin0 => ?_)
  have E : EX p R s m ([.ref x0, .int x1] : List Value).toArray meth c cJ11_fill_2 4 RJ11 none D cs b H0 (XKd b H0 ad vs) [] 0 0 f.2.1 f.2.2 := ⟨E1, h0⟩
  refine ag_sub (lv' := [(0, .ref x0), (1, .int x1)]) [0, 1] rfl ?_
  refine ag_iconst E1 dJ11_fill_2_0 ki_0 ?_
  refine ag_istore_n E1 (lv' := [(2, .int (0 : Int32)), (0, .ref x0), (1, .int x1)]) dJ11_fill_2_1 rfl (Nat.lt_of_lt_of_le (Nat.le_refl _) (Nat.le_of_ble_eq_true rfl)) rfl ?_
  refine ag_aload_n E1 dJ11_fill_2_2 rfl 1 rfl ?_
  obtain ⟨n_1, c_2, hP_3, h⟩ := h
  refine ag_alen E1 (t0 := 1) hP_3 rfl rfl dJ11_fill_2_3 ?_
  refine ag_topi (fun x3_4 e_x3_4 => ?_)
  have h := h x3_4 e_x3_4
  refine ag_istore_n E1 (lv' := [(3, .int x3_4), (2, .int (0 : Int32)), (0, .ref x0), (1, .int x1)]) dJ11_fill_2_4 rfl (Nat.lt_of_lt_of_le (Nat.le_refl _) (Nat.le_of_ble_eq_true rfl)) rfl ?_
  refine ag_sub (lv' := [(0, .ref x0), (1, .int x1), (2, .int (0 : Int32)), (3, .int x3_4)]) [2, 3, 1, 0] rfl ?_
  obtain ⟨n, h⟩ := h
  exact tlJ11_fill_2_5 E  n _ _ _ _ _ h
theorem hdJ11_fill_2 : yJ11_fill_2.cls ≠ "java/lang/invoke/MethodHandle" ∧ yJ11_fill_2.cls ≠ "java/lang/invoke/VarHandle" ∧ (parseMethodDescriptor yJ11_fill_2.desc).map (fun d => d.parameters.length) = some 2 := by decide +kernel
theorem kJ0_init_c16 (l : Launch) (D : va_G) (cs : Nat → ClassId) (b : Nat) (H0 : Heap) (ad : Nat → Nat) (vs : Nat → Option Nat) (f : cW) (x0 : Nat) (Q : cW → Prop) (h : wJ0_init_c16 b cs ad vs f x0 Q) : CON l D clC (tysC cs) b H0 (XKd b H0 ad vs) yJ0_init cJ0_init 1 none 1 20 [.ref x0] f (qV Q) := by
  refine con_of (by decide) (Nat.le_of_ble_eq_true rfl) (fun p e R s m below meth c E1 h0 hin0 => ?_)
  have E : EX p R s m ([.ref x0] : List Value).toArray meth c cJ0_init 1 RJ0 none D cs b H0 (XKd b H0 ad vs) [] 1 20 f.2.1 f.2.2 := ⟨E1, h0⟩
  have hin : meth.name = "<init>" := hin0 rfl
  refine ag_sub (lv' := [(0, .ref x0)]) [0] rfl ?_
  refine ag_aload_n E1 dJ0_init_0 rfl 0 rfl ?_
  refine ag_objInit E1 q139 q126 q127 (Nat.le_of_ble_eq_true rfl) (Nat.le_of_ble_eq_true rfl) (Nat.le_of_ble_eq_true rfl) dJ0_init_1 ?_
  exact gw_vret E rfl ⟨rfl, h⟩ dJ0_init_4
theorem hdJ0_init : yJ0_init.cls ≠ "java/lang/invoke/MethodHandle" ∧ yJ0_init.cls ≠ "java/lang/invoke/VarHandle" ∧ (parseMethodDescriptor yJ0_init.desc).map (fun d => d.parameters.length) = some 0 := by decide +kernel
theorem kJ1_init_c16 (l : Launch) (D : va_G) (cs : Nat → ClassId) (b : Nat) (H0 : Heap) (ad : Nat → Nat) (vs : Nat → Option Nat) (f : cW) (x0 : Nat) (Q : cW → Prop) (h : wJ1_init_c16 b cs ad vs f x0 Q) : CON l D clC (tysC cs) b H0 (XKd b H0 ad vs) yJ1_init cJ1_init 1 none 2 40 [.ref x0] f (qV Q) := by
  refine con_of (by decide) (Nat.le_of_ble_eq_true rfl) (fun p e R s m below meth c E1 h0 hin0 => ?_)
  have E : EX p R s m ([.ref x0] : List Value).toArray meth c cJ1_init 1 RJ1 none D cs b H0 (XKd b H0 ad vs) [] 2 40 f.2.1 f.2.2 := ⟨E1, h0⟩
  have hin : meth.name = "<init>" := hin0 rfl
  refine ag_sub (lv' := [(0, .ref x0)]) [0] rfl ?_
  refine ag_aload_n E1 dJ1_init_0 rfl 0 rfl ?_
  refine ag_callI E1 (kJ0_init_c16 _ _ _ _ _ _ _ _ _ _ h) q138 q84 q136 q137 rfl hdJ0_init (Nat.le_of_ble_eq_true rfl) (Nat.le_of_ble_eq_true rfl) (As := []) rfl (Nat.le_of_ble_eq_true rfl) dJ1_init_1 (fun v_ f_1 hv => ?_) rfl
  obtain ⟨rfl, h⟩ := hv
  refine ag_aload_n E1 dJ1_init_4 rfl 0 rfl ?_
  refine ag_iconst E1 dJ1_init_5 ki_0 ?_
  obtain ⟨y_2, v_3, y_4, hP_5, h⟩ := h
  refine ag_putL E1 0 (ci := 16) (C := RJ2) (T := TJ2) (N := 3) (ty := .int) tyJ2 tyJ2_ok nmJ2 rfl in_J2 (by decide) q144 (fun _ h => h) rfl (by decide +kernel) rfl rfl dJ1_init_6 hP_5 (Nat.lt_of_lt_of_le (Nat.le_refl _) (Nat.le_of_ble_eq_true rfl)) rfl (fun f_6 e_7 => ?_)
  have h := h f_6 e_7
  have hP_8 : f_6.1 x0 = some (.inr (16, vp_V [.int (0 : Int32), v_3, .int y_4])) := by rw [e_7]; exact updP_s
  exact gw_vret E rfl ⟨rfl, h⟩ dJ1_init_9
theorem hdJ1_init : yJ1_init.cls ≠ "java/lang/invoke/MethodHandle" ∧ yJ1_init.cls ≠ "java/lang/invoke/VarHandle" ∧ (parseMethodDescriptor yJ1_init.desc).map (fun d => d.parameters.length) = some 0 := by decide +kernel
theorem kJ2_init (l : Launch) (D : va_G) (cs : Nat → ClassId) (b : Nat) (H0 : Heap) (ad : Nat → Nat) (vs : Nat → Option Nat) (f : cW) (x0 : Nat) (Q : cW → Prop) (h : wJ2_init b cs ad vs f x0 Q) : CON l D clC (tysC cs) b H0 (XKd b H0 ad vs) yJ2_init cJ2_init 1 none 3 60 [.ref x0] f (qV Q) := by
  refine con_of (by decide) (Nat.le_of_ble_eq_true rfl) (fun p e R s m below meth c E1 h0 hin0 => ?_)
  have E : EX p R s m ([.ref x0] : List Value).toArray meth c cJ2_init 1 RJ2 none D cs b H0 (XKd b H0 ad vs) [] 3 60 f.2.1 f.2.2 := ⟨E1, h0⟩
  have hin : meth.name = "<init>" := hin0 rfl
  refine ag_sub (lv' := [(0, .ref x0)]) [0] rfl ?_
  refine ag_aload_n E1 dJ2_init_0 rfl 0 rfl ?_
  refine ag_callI E1 (kJ1_init_c16 _ _ _ _ _ _ _ _ _ _ h) q135 q85 q133 q134 rfl hdJ1_init (Nat.le_of_ble_eq_true rfl) (Nat.le_of_ble_eq_true rfl) (As := []) rfl (Nat.le_of_ble_eq_true rfl) dJ2_init_1 (fun v_ f_1 hv => ?_) rfl
  obtain ⟨rfl, h⟩ := hv
  refine ag_aload_n E1 dJ2_init_4 rfl 0 rfl ?_
  refine ag_gets E1 xk_empty q140 (fun _ h => h) dJ2_init_5 ?_
  obtain ⟨y_2, v_3, y_4, hP_5, h⟩ := h
  refine ag_putL E1 1 (ci := 16) (C := RJ2) (T := TJ2) (N := 3) (ty := (.array (.object "java/lang/Object"))) tyJ2 tyJ2_ok nmJ2 rfl in_J2 (by decide) q142 (fun _ h => h) rfl (by decide +kernel) rfl rfl dJ2_init_8 hP_5 (Nat.lt_of_lt_of_le (Nat.le_refl _) (Nat.le_of_ble_eq_true rfl)) rfl (fun f_6 e_7 => ?_)
  have h := h f_6 e_7
  have hP_8 : f_6.1 x0 = some (.inr (16, vp_V [.int y_2, .ref (ad 42), .int y_4])) := by rw [e_7]; exact updP_s
  exact gw_vret E rfl ⟨rfl, h⟩ dJ2_init_11
theorem hdJ2_init : yJ2_init.cls ≠ "java/lang/invoke/MethodHandle" ∧ yJ2_init.cls ≠ "java/lang/invoke/VarHandle" ∧ (parseMethodDescriptor yJ2_init.desc).map (fun d => d.parameters.length) = some 0 := by decide +kernel
theorem tbJ9_newLength_21 (E : EX p R s m args meth c cJ9_newLength 4 RJ9 (some .int) D cs b H0 (XKd b H0 ad vs) [] 1 22 z u) {Q : Int32 → cW → Prop}  {x0 : Int32} {x1 : Int32} {f : cW} (h : wbJ9_newLength_21 b cs ad vs  Q x0 x1 f) : AGW p l e R s m args below meth c D b 4 z u (qI Q) 21 [(0, .int x0), (1, .int x1)] [] f := by
  have E1 := E.1
  exact h.elim
theorem kJ9_newLength (l : Launch) (D : va_G) (cs : Nat → ClassId) (b : Nat) (H0 : Heap) (ad : Nat → Nat) (vs : Nat → Option Nat) (f : cW) (x0 : Int32) (x1 : Int32) (x2 : Int32) (Q : Int32 → cW → Prop) (h : wJ9_newLength b cs ad vs f x0 x1 x2 Q) : CON l D clC (tysC cs) b H0 (XKd b H0 ad vs) yJ9_newLength cJ9_newLength 4 (some .int) 1 22 [.int x0, .int x1, .int x2] f (qI Q) := by
  refine con_of (by decide) (Nat.le_of_ble_eq_true rfl) (fun p e R s m below meth c E1 h0 hin0 => ?_)
  have E : EX p R s m ([.int x0, .int x1, .int x2] : List Value).toArray meth c cJ9_newLength 4 RJ9 (some .int) D cs b H0 (XKd b H0 ad vs) [] 1 22 f.2.1 f.2.2 := ⟨E1, h0⟩
  refine ag_sub (lv' := [(0, .int x0), (1, .int x1), (2, .int x2)]) [0, 1, 2] rfl ?_
  refine ag_iload_n E1 dJ9_newLength_0 rfl 0 rfl ?_
  refine ag_iload_n E1 dJ9_newLength_1 rfl 1 rfl ?_
  refine ag_iload_n E1 dJ9_newLength_2 rfl 2 rfl ?_
  refine ag_mmax E1 q337 q338 q96 q339 (Nat.le_of_ble_eq_true rfl) (Nat.le_of_ble_eq_true rfl) (Nat.le_of_ble_eq_true rfl) dJ9_newLength_3 ?_
  refine ag_iadd E1 dJ9_newLength_6 ?_
  refine ag_topi (fun x3_1 e_x3_1 => ?_)
  have h := h x3_1 e_x3_1
  refine ag_istore_n E1 (lv' := [(3, .int x3_1), (0, .int x0), (1, .int x1), (2, .int x2)]) dJ9_newLength_7 rfl (Nat.lt_of_lt_of_le (Nat.le_refl _) (Nat.le_of_ble_eq_true rfl)) rfl ?_
  refine ag_iconst E1 dJ9_newLength_8 ki_0 ?_
  refine ag_iload_n E1 dJ9_newLength_9 rfl 0 rfl ?_
  refine ag_icmp_ge E1 (tgt := 21) dJ9_newLength_10 (by decide) (fun c_10 => ?_) (fun c_10 => ?_)
  · have h := h.1 c_10
    refine ag_sub (lv' := [(0, .int x0), (1, .int x1)]) [1, 2] rfl ?_
    exact tbJ9_newLength_21 E  h
  · have h := h.2 c_10
    refine ag_iload_n E1 dJ9_newLength_13 rfl 0 rfl ?_
    refine ag_ldc E1 q340 dJ9_newLength_14 ?_
    refine ag_icmp_gt E1 (tgt := 21) dJ9_newLength_16 (by decide) (fun c_16 => ?_) (fun c_16 => ?_)
    · have h := h.1 c_16
      refine ag_sub (lv' := [(0, .int x0), (1, .int x1)]) [1, 2] rfl ?_
      exact tbJ9_newLength_21 E  h
    · have h := h.2 c_16
      refine ag_iload_n E1 dJ9_newLength_19 rfl 0 rfl ?_
      exact gw_iret E rfl ⟨_, rfl, h⟩ dJ9_newLength_20
theorem hdJ9_newLength : yJ9_newLength.cls ≠ "java/lang/invoke/MethodHandle" ∧ yJ9_newLength.cls ≠ "java/lang/invoke/VarHandle" ∧ (parseMethodDescriptor yJ9_newLength.desc).map (fun d => d.parameters.length) = some 3 := by decide +kernel
theorem tbJ11_copyOf_3_24 (E : EX p R s m args meth c cJ11_copyOf_3 4 RJ11 (some (.array (.object "java/lang/Object"))) D cs b H0 (XKd b H0 ad vs) [] 1 40 z u) {Q : Nat → cW → Prop}  {x0 : Nat} {x1 : Int32} {t0 : Nat} {f : cW} (h : wbJ11_copyOf_3_24 b cs ad vs  Q x0 x1 t0 f) : AGW p l e R s m args below meth c D b 4 z u (qR Q) 24 [(0, .ref x0), (1, .int x1)] [.ref t0] f := by
  have E1 := E.1
  refine ag_astore_n E1 (lv' := [(3, .ref t0), (0, .ref x0), (1, .int x1)]) dJ11_copyOf_3_24 rfl (Nat.lt_of_lt_of_le (Nat.le_refl _) (Nat.le_of_ble_eq_true rfl)) rfl ?_
  refine ag_aload_n E1 dJ11_copyOf_3_25 rfl 1 rfl ?_
  refine ag_iconst E1 dJ11_copyOf_3_26 ki_0 ?_
  refine ag_aload_n E1 dJ11_copyOf_3_27 rfl 0 rfl ?_
  refine ag_iconst E1 dJ11_copyOf_3_28 ki_0 ?_
  refine ag_aload_n E1 dJ11_copyOf_3_29 rfl 1 rfl ?_
  obtain ⟨n_9, c_10, hP_11, h⟩ := h
  refine ag_alen E1 (t0 := 4) hP_11 rfl rfl dJ11_copyOf_3_30 ?_
  refine ag_iload_n E1 dJ11_copyOf_3_31 rfl 2 rfl ?_
  refine ag_mmin E1 q355 q356 q96 q357 (Nat.le_of_ble_eq_true rfl) (Nat.le_of_ble_eq_true rfl) (Nat.le_of_ble_eq_true rfl) dJ11_copyOf_3_32 ?_
  obtain ⟨n_12, c_13, hP_14, h⟩ := h
  obtain ⟨hc_15, hc_16, hc_17, hc_18, hc_19, hx_20, h⟩ := h
  refine ag_copyq E1 (t0 := 4) q358 q360 q359 q98 hP_11 hP_14 rfl hc_15 hc_16 hc_17 hc_18 hc_19 (fun i hi y hy => by obtain ⟨ci, V, h1, h2⟩ := hx_20 i hi y hy; exact ⟨ci, V, h1, oOk_ok h2⟩) (Nat.le_of_ble_eq_true rfl) (Nat.le_of_ble_eq_true rfl) (Nat.le_of_ble_eq_true rfl) dJ11_copyOf_3_35 (fun f_21 e_22 => ?_)
  have h := h f_21 e_22
  refine ag_aload_n E1 dJ11_copyOf_3_38 rfl 0 rfl ?_
  exact gw_aret E rfl (Or.inr ⟨_, rfl⟩) (Or.inr ⟨_, rfl⟩) ⟨_, rfl, h⟩ dJ11_copyOf_3_39
theorem kJ11_copyOf_3 (l : Launch) (D : va_G) (cs : Nat → ClassId) (b : Nat) (H0 : Heap) (ad : Nat → Nat) (vs : Nat → Option Nat) (f : cW) (x0 : Nat) (x1 : Int32) (x2 : Nat) (Q : Nat → cW → Prop) (h : wJ11_copyOf_3 b cs ad vs f x0 x1 x2 Q) : CON l D clC (tysC cs) b H0 (XKd b H0 ad vs) yJ11_copyOf_3 cJ11_copyOf_3 4 (some (.array (.object "java/lang/Object"))) 1 40 [.ref x0, .int x1, .ref x2] f (qR Q) := by
  refine con_of (by decide) (Nat.le_of_ble_eq_true rfl) (fun p e R s m below meth c E1 h0 hin0 => ?_)
  have E : EX p R s m ([.ref x0, .int x1, .ref x2] : List Value).toArray meth c cJ11_copyOf_3 4 RJ11 (some (.array (.object "java/lang/Object"))) D cs b H0 (XKd b H0 ad vs) [] 1 40 f.2.1 f.2.2 := ⟨E1, h0⟩
  refine ag_sub (lv' := [(0, .ref x0), (1, .int x1), (2, .ref x2)]) [0, 1, 2] rfl ?_
  refine ag_aload_n E1 dJ11_copyOf_3_0 rfl 2 rfl ?_
  refine ag_ldcM E1 q1041 xk_mir dJ11_copyOf_3_1 ?_
  refine ag_acmp_ne E1 (rx := some x2) (ry := some ((ad 44))) (tgt := 13) dJ11_copyOf_3_3 (by decide) (fun c_3 => ?_) (fun c_3 => ?_)
  · have h := h.1 c_3
    exact h.elim
  · have h := h.2 c_3
    refine ag_iload_n E1 dJ11_copyOf_3_6 rfl 1 rfl ?_
    obtain ⟨hb_3, hb_4, hb_5, h⟩ := h
    refine ag_anew E1 (t0 := 4) q1043 (xk_over q1042) rfl hb_3 rfl hb_4 hb_5 dJ11_copyOf_3_7 (fun a_1 f_2 e_6 e_7 => ?_)
    have h := h a_1 f_2 e_6 e_7
    have hP_8 : f_2.1 a_1 = some (.inl (cs 4, (Int32.toNatClampNeg x1), .inr (.inr (.inr (.inr (fun _ => none)))))) := by rw [e_7, e_6]; exact wNew_s
    refine ag_goto E1 (tgt := 24) dJ11_copyOf_3_10 (by decide) ?_
    refine ag_sub (lv' := [(0, .ref x0), (1, .int x1)]) [0, 1] rfl ?_
    exact tbJ11_copyOf_3_24 E  h
theorem hdJ11_copyOf_3 : yJ11_copyOf_3.cls ≠ "java/lang/invoke/MethodHandle" ∧ yJ11_copyOf_3.cls ≠ "java/lang/invoke/VarHandle" ∧ (parseMethodDescriptor yJ11_copyOf_3.desc).map (fun d => d.parameters.length) = some 3 := by decide +kernel
theorem kJ11_copyOf_2 (l : Launch) (D : va_G) (cs : Nat → ClassId) (b : Nat) (H0 : Heap) (ad : Nat → Nat) (vs : Nat → Option Nat) (f : cW) (x0 : Nat) (x1 : Int32) (Q : Nat → cW → Prop) (h : wJ11_copyOf_2 b cs ad vs f x0 x1 Q) : CON l D clC (tysC cs) b H0 (XKd b H0 ad vs) yJ11_copyOf_2 cJ11_copyOf_2 2 (some (.array (.object "java/lang/Object"))) 2 63 [.ref x0, .int x1] f (qR Q) := by
  refine con_of (by decide) (Nat.le_of_ble_eq_true rfl) (fun p e R s m below meth c E1 h0 hin0 => ?_)
  have E : EX p R s m ([.ref x0, .int x1] : List Value).toArray meth c cJ11_copyOf_2 2 RJ11 (some (.array (.object "java/lang/Object"))) D cs b H0 (XKd b H0 ad vs) [] 2 63 f.2.1 f.2.2 := ⟨E1, h0⟩
  refine ag_sub (lv' := [(0, .ref x0), (1, .int x1)]) [0, 1] rfl ?_
  refine ag_aload_n E1 dJ11_copyOf_2_0 rfl 0 rfl ?_
  refine ag_iload_n E1 dJ11_copyOf_2_1 rfl 1 rfl ?_
  refine ag_aload_n E1 dJ11_copyOf_2_2 rfl 0 rfl ?_
  obtain ⟨n_1, c_2, hP_3, h⟩ := h
  refine ag_getC E1 (t0 := 4) hP_3 rfl rfl q1014 (xk_nw q1978 rfl) q1977 q1015 q1037 xk_mir (Nat.le_of_ble_eq_true rfl) (Nat.le_of_ble_eq_true rfl) (Nat.le_of_ble_eq_true rfl) dJ11_copyOf_2_3 ?_
  refine ag_callS E1 (kJ11_copyOf_3 _ _ _ _ _ _ _ _ _ _ _ _ h) (lw_S q1038 q1039 q97 q1040) hdJ11_copyOf_3 (Nat.le_of_ble_eq_true rfl) (Nat.le_of_ble_eq_true rfl) (As := [.ref x0, .int x1, .ref (ad 44)]) rfl (Nat.le_of_ble_eq_true rfl) dJ11_copyOf_2_6 (fun v_ f_4 hv => ?_) rfl
  obtain ⟨r_5, rfl, h⟩ := hv
  exact gw_aret E rfl (Or.inr ⟨_, rfl⟩) (Or.inr ⟨_, rfl⟩) ⟨_, rfl, h⟩ dJ11_copyOf_2_9
theorem hdJ11_copyOf_2 : yJ11_copyOf_2.cls ≠ "java/lang/invoke/MethodHandle" ∧ yJ11_copyOf_2.cls ≠ "java/lang/invoke/VarHandle" ∧ (parseMethodDescriptor yJ11_copyOf_2.desc).map (fun d => d.parameters.length) = some 2 := by decide +kernel
theorem tbJ2_grow_2_a_20 (E : EX p R s m args meth c cJ2_grow_2 4 RJ2 (some (.array (.object "java/lang/Object"))) D cs b H0 (XKd b H0 ad vs) [] 3 84 z u) {Q : Nat → cW → Prop}  {x0 : Nat} {x1 : Int32} {x2 : Int32} {f : cW} (h : wbJ2_grow_2_a_20 b cs ad vs  Q x0 x1 x2 f) : AGW p l e R s m args below meth c D b 4 z u (qR Q) 20 [(0, .ref x0), (1, .int x1), (2, .int x2)] [] f := by
  have E1 := E.1
  exact h.elim
theorem kJ2_grow_2_a (l : Launch) (D : va_G) (cs : Nat → ClassId) (b : Nat) (H0 : Heap) (ad : Nat → Nat) (vs : Nat → Option Nat) (f : cW) (x0 : Nat) (x1 : Int32) (Q : Nat → cW → Prop) (h : wJ2_grow_2_a b cs ad vs f x0 x1 Q) : CON l D clC (tysC cs) b H0 (XKd b H0 ad vs) yJ2_grow_2 cJ2_grow_2 4 (some (.array (.object "java/lang/Object"))) 3 84 [.ref x0, .int x1] f (qR Q) := by
  refine con_of (by decide) (Nat.le_of_ble_eq_true rfl) (fun p e R s m below meth c E1 h0 hin0 => ?_)
  have E : EX p R s m ([.ref x0, .int x1] : List Value).toArray meth c cJ2_grow_2 4 RJ2 (some (.array (.object "java/lang/Object"))) D cs b H0 (XKd b H0 ad vs) [] 3 84 f.2.1 f.2.2 := ⟨E1, h0⟩
  refine ag_sub (lv' := [(0, .ref x0), (1, .int x1)]) [0, 1] rfl ?_
  refine ag_aload_n E1 dJ2_grow_2_0 rfl 0 rfl ?_
  obtain ⟨y_1, v_2, y_3, hP_4, h⟩ := h
  refine ag_getL E1 1 (ci := 16) (C := RJ2) (T := TJ2) (N := 3) rfl in_J2 (by decide) q142 (fun _ h => h) dJ2_grow_2_1 hP_4 rfl ?_
  obtain ⟨e_5, h⟩ := h
  rw [e_5]
  refine ag_tlen E1 (v := (0 : Int32)) xk_emptyT rfl dJ2_grow_2_4 ?_
  refine ag_istore_n E1 (lv' := [(2, .int (0 : Int32)), (0, .ref x0), (1, .int x1)]) dJ2_grow_2_5 rfl (Nat.lt_of_lt_of_le (Nat.le_refl _) (Nat.le_of_ble_eq_true rfl)) rfl ?_
  refine ag_iload_n E1 dJ2_grow_2_6 rfl 0 rfl ?_
  refine ag_if_gt E1 (tgt := 20) dJ2_grow_2_7 (by decide) (fun c_7 => ?_) (fun c_7 => ?_)
  · have h := h.1 c_7
    refine ag_sub (lv' := [(0, .ref x0), (1, .int x1), (2, .int (0 : Int32))]) [1, 2, 0] rfl ?_
    exact tbJ2_grow_2_a_20 E  h
  · have h := h.2 c_7
    refine ag_aload_n E1 dJ2_grow_2_10 rfl 1 rfl ?_
    refine ag_getL E1 1 (ci := 16) (C := RJ2) (T := TJ2) (N := 3) rfl in_J2 (by decide) q142 (fun _ h => h) dJ2_grow_2_11 hP_4 rfl ?_
    refine ag_gets E1 xk_empty q140 (fun _ h => h) dJ2_grow_2_14 ?_
    obtain ⟨e_6, h⟩ := h
    rw [e_6]
    refine ag_acmp_eq E1 (rx := some ((ad 42))) (ry := some ((ad 42))) (tgt := 45) dJ2_grow_2_17 (by decide) (fun c_17 => ?_) (fun c_17 => ?_)
    · have h := h.1 c_17
      refine ag_aload_n E1 dJ2_grow_2_45 rfl 1 rfl ?_
      refine ag_bipush E1 dJ2_grow_2_46 kb_10 ?_
      refine ag_iload_n E1 dJ2_grow_2_48 rfl 2 rfl ?_
      refine ag_mmax E1 q1044 q338 q96 q339 (Nat.le_of_ble_eq_true rfl) (Nat.le_of_ble_eq_true rfl) (Nat.le_of_ble_eq_true rfl) dJ2_grow_2_49 ?_
      obtain ⟨hb_9, hb_10, hb_11, h⟩ := h
      refine ag_anew E1 (t0 := 4) q1045 (xk_over q1042) rfl hb_9 rfl hb_10 hb_11 dJ2_grow_2_52 (fun a_7 f_8 e_12 e_13 => ?_)
      have h := h a_7 f_8 e_12 e_13
      have hP_14 : f_8.1 a_7 = some (.inl (cs 4, (Int32.toNatClampNeg (i_max (10 : Int32) x1)), .inr (.inr (.inr (.inr (fun _ => none)))))) := by rw [e_13, e_12]; exact wNew_s
      refine ag_dup_x1 E1 dJ2_grow_2_55 rfl rfl ?_
      obtain ⟨y_15, v_16, y_17, hP_18, h⟩ := h
      refine ag_putL E1 1 (ci := 16) (C := RJ2) (T := TJ2) (N := 3) (ty := (.array (.object "java/lang/Object"))) tyJ2 tyJ2_ok nmJ2 rfl in_J2 (by decide) q142 (fun _ h => h) rfl (by decide +kernel) rfl rfl dJ2_grow_2_56 hP_18 (Nat.lt_of_lt_of_le (Nat.le_refl _) (Nat.le_of_ble_eq_true rfl)) rfl (fun f_19 e_20 => ?_)
      have h := h f_19 e_20
      have hP_21 : f_19.1 x0 = some (.inr (16, vp_V [.int y_15, .ref a_7, .int y_17])) := by rw [e_20]; exact updP_s
      exact gw_aret E rfl (Or.inr ⟨_, rfl⟩) (Or.inr ⟨_, rfl⟩) ⟨_, rfl, h⟩ dJ2_grow_2_59
    · have h := h.2 c_17
      refine ag_sub (lv' := [(0, .ref x0), (1, .int x1), (2, .int (0 : Int32))]) [1, 2, 0] rfl ?_
      exact tbJ2_grow_2_a_20 E  h
theorem hdJ2_grow_2 : yJ2_grow_2.cls ≠ "java/lang/invoke/MethodHandle" ∧ yJ2_grow_2.cls ≠ "java/lang/invoke/VarHandle" ∧ (parseMethodDescriptor yJ2_grow_2.desc).map (fun d => d.parameters.length) = some 1 := by decide +kernel
theorem tbJ2_grow_2_b_20 (E : EX p R s m args meth c cJ2_grow_2 4 RJ2 (some (.array (.object "java/lang/Object"))) D cs b H0 (XKd b H0 ad vs) [] 3 84 z u) {Q : Nat → cW → Prop}  {x0 : Nat} {x1 : Int32} {x2 : Int32} {f : cW} (h : wbJ2_grow_2_b_20 b cs ad vs  Q x0 x1 x2 f) : AGW p l e R s m args below meth c D b 4 z u (qR Q) 20 [(0, .ref x0), (1, .int x1), (2, .int x2)] [] f := by
  have E1 := E.1
  refine ag_iload_n E1 dJ2_grow_2_20 rfl 2 rfl ?_
  refine ag_iload_n E1 dJ2_grow_2_21 rfl 1 rfl ?_
  refine ag_iload_n E1 dJ2_grow_2_22 rfl 2 rfl ?_
  refine ag_isub E1 dJ2_grow_2_23 ?_
  refine ag_iload_n E1 dJ2_grow_2_24 rfl 2 rfl ?_
  refine ag_iconst E1 dJ2_grow_2_25 ki_1 ?_
  refine ag_ishr E1 dJ2_grow_2_26 ?_
  refine ag_callS E1 (kJ9_newLength _ _ _ _ _ _ _ _ _ _ _ _ h) (lw_S q1010 q335 q95 q336) hdJ9_newLength (Nat.le_of_ble_eq_true rfl) (Nat.le_of_ble_eq_true rfl) (As := [.int x2, .int (x1 - x2), .int (i_shr x2 (1 : Int32))]) rfl (Nat.le_of_ble_eq_true rfl) dJ2_grow_2_27 (fun v_ f_11 hv => ?_) rfl
  obtain ⟨r_12, rfl, h⟩ := hv
  refine ag_istore_n E1 (lv' := [(3, .int r_12), (0, .ref x0), (1, .int x1), (2, .int x2)]) dJ2_grow_2_30 rfl (Nat.lt_of_lt_of_le (Nat.le_refl _) (Nat.le_of_ble_eq_true rfl)) rfl ?_
  refine ag_aload_n E1 dJ2_grow_2_31 rfl 1 rfl ?_
  refine ag_aload_n E1 dJ2_grow_2_32 rfl 1 rfl ?_
  obtain ⟨y_13, v_14, y_15, hP_16, h⟩ := h
  refine ag_getL E1 1 (ci := 16) (C := RJ2) (T := TJ2) (N := 3) rfl in_J2 (by decide) q142 (fun _ h => h) dJ2_grow_2_33 hP_16 rfl ?_
  refine ag_iload_n E1 dJ2_grow_2_36 rfl 0 rfl ?_
  obtain ⟨a_17, e_18, h⟩ := h
  rw [e_18]
  refine ag_callS E1 (kJ11_copyOf_2 _ _ _ _ _ _ _ _ _ _ _ h) (lw_S q1011 q1012 q97 q1013) hdJ11_copyOf_2 (Nat.le_of_ble_eq_true rfl) (Nat.le_of_ble_eq_true rfl) (As := [.ref a_17, .int r_12]) rfl (Nat.le_of_ble_eq_true rfl) dJ2_grow_2_37 (fun v_ f_19 hv => ?_) rfl
  obtain ⟨r_20, rfl, h⟩ := hv
  refine ag_dup_x1 E1 dJ2_grow_2_40 rfl rfl ?_
  obtain ⟨y_21, v_22, y_23, hP_24, h⟩ := h
  refine ag_putL E1 1 (ci := 16) (C := RJ2) (T := TJ2) (N := 3) (ty := (.array (.object "java/lang/Object"))) tyJ2 tyJ2_ok nmJ2 rfl in_J2 (by decide) q142 (fun _ h => h) rfl (by decide +kernel) rfl rfl dJ2_grow_2_41 hP_24 (Nat.lt_of_lt_of_le (Nat.le_refl _) (Nat.le_of_ble_eq_true rfl)) rfl (fun f_25 e_26 => ?_)
  have h := h f_25 e_26
  have hP_27 : f_25.1 x0 = some (.inr (16, vp_V [.int y_21, .ref r_20, .int y_23])) := by rw [e_26]; exact updP_s
  exact gw_aret E rfl (Or.inr ⟨_, rfl⟩) (Or.inr ⟨_, rfl⟩) ⟨_, rfl, h⟩ dJ2_grow_2_44
theorem kJ2_grow_2_b (l : Launch) (D : va_G) (cs : Nat → ClassId) (b : Nat) (H0 : Heap) (ad : Nat → Nat) (vs : Nat → Option Nat) (f : cW) (x0 : Nat) (x1 : Int32) (Q : Nat → cW → Prop) (h : wJ2_grow_2_b b cs ad vs f x0 x1 Q) : CON l D clC (tysC cs) b H0 (XKd b H0 ad vs) yJ2_grow_2 cJ2_grow_2 4 (some (.array (.object "java/lang/Object"))) 3 84 [.ref x0, .int x1] f (qR Q) := by
  refine con_of (by decide) (Nat.le_of_ble_eq_true rfl) (fun p e R s m below meth c E1 h0 hin0 => ?_)
  have E : EX p R s m ([.ref x0, .int x1] : List Value).toArray meth c cJ2_grow_2 4 RJ2 (some (.array (.object "java/lang/Object"))) D cs b H0 (XKd b H0 ad vs) [] 3 84 f.2.1 f.2.2 := ⟨E1, h0⟩
  refine ag_sub (lv' := [(0, .ref x0), (1, .int x1)]) [0, 1] rfl ?_
  refine ag_aload_n E1 dJ2_grow_2_0 rfl 0 rfl ?_
  obtain ⟨y_1, v_2, y_3, hP_4, h⟩ := h
  refine ag_getL E1 1 (ci := 16) (C := RJ2) (T := TJ2) (N := 3) rfl in_J2 (by decide) q142 (fun _ h => h) dJ2_grow_2_1 hP_4 rfl ?_
  obtain ⟨a_5, e_6, h⟩ := h
  rw [e_6]
  obtain ⟨n_7, c_8, hP_9, h⟩ := h
  refine ag_alen E1 (t0 := 4) hP_9 rfl rfl dJ2_grow_2_4 ?_
  refine ag_topi (fun x2_10 e_x2_10 => ?_)
  have h := h x2_10 e_x2_10
  refine ag_istore_n E1 (lv' := [(2, .int x2_10), (0, .ref x0), (1, .int x1)]) dJ2_grow_2_5 rfl (Nat.lt_of_lt_of_le (Nat.le_refl _) (Nat.le_of_ble_eq_true rfl)) rfl ?_
  refine ag_iload_n E1 dJ2_grow_2_6 rfl 0 rfl ?_
  refine ag_if_gt E1 (tgt := 20) dJ2_grow_2_7 (by decide) (fun c_7 => ?_) (fun c_7 => ?_)
  · have h := h.1 c_7
    refine ag_sub (lv' := [(0, .ref x0), (1, .int x1), (2, .int x2_10)]) [1, 2, 0] rfl ?_
    exact tbJ2_grow_2_b_20 E  h
  · have h := h.2 c_7
    exact h.elim
theorem kJ2_grow_a (l : Launch) (D : va_G) (cs : Nat → ClassId) (b : Nat) (H0 : Heap) (ad : Nat → Nat) (vs : Nat → Option Nat) (f : cW) (x0 : Nat) (Q : Nat → cW → Prop) (h : wJ2_grow_a b cs ad vs f x0 Q) : CON l D clC (tysC cs) b H0 (XKd b H0 ad vs) yJ2_grow cJ2_grow 1 (some (.array (.object "java/lang/Object"))) 4 107 [.ref x0] f (qR Q) := by
  refine con_of (by decide) (Nat.le_of_ble_eq_true rfl) (fun p e R s m below meth c E1 h0 hin0 => ?_)
  have E : EX p R s m ([.ref x0] : List Value).toArray meth c cJ2_grow 1 RJ2 (some (.array (.object "java/lang/Object"))) D cs b H0 (XKd b H0 ad vs) [] 4 107 f.2.1 f.2.2 := ⟨E1, h0⟩
  refine ag_sub (lv' := [(0, .ref x0)]) [0] rfl ?_
  refine ag_aload_n E1 dJ2_grow_0 rfl 0 rfl ?_
  refine ag_aload_n E1 dJ2_grow_1 rfl 0 rfl ?_
  obtain ⟨y_1, v_2, y_3, hP_4, h⟩ := h
  refine ag_getL E1 2 (ci := 16) (C := RJ2) (T := TJ2) (N := 3) rfl in_J2 (by decide) q143 (fun _ h => h) dJ2_grow_2 hP_4 rfl ?_
  refine ag_iconst E1 dJ2_grow_5 ki_1 ?_
  refine ag_iadd E1 dJ2_grow_6 ?_
  refine ag_callV E1 (ci := 16) (C := RJ2) (T0 := TJ2) (n2 := 3) hP_4 rfl (kJ2_grow_2_a _ _ _ _ _ _ _ _ _ _ _ h) (lw_V q1006 q1008 qs21 q86 q1009) ⟨rfl, hdJ2_grow_2⟩ (Nat.le_of_ble_eq_true rfl) (Nat.le_of_ble_eq_true rfl) (As := [.int (y_3 + (1 : Int32))]) rfl (Nat.le_of_ble_eq_true rfl) dJ2_grow_7 (fun v_ f_5 hv => ?_) rfl
  obtain ⟨r_6, rfl, h⟩ := hv
  exact gw_aret E rfl (Or.inr ⟨_, rfl⟩) (Or.inr ⟨_, rfl⟩) ⟨_, rfl, h⟩ dJ2_grow_10
theorem hdJ2_grow : yJ2_grow.cls ≠ "java/lang/invoke/MethodHandle" ∧ yJ2_grow.cls ≠ "java/lang/invoke/VarHandle" ∧ (parseMethodDescriptor yJ2_grow.desc).map (fun d => d.parameters.length) = some 0 := by decide +kernel
theorem kJ2_grow_b (l : Launch) (D : va_G) (cs : Nat → ClassId) (b : Nat) (H0 : Heap) (ad : Nat → Nat) (vs : Nat → Option Nat) (f : cW) (x0 : Nat) (Q : Nat → cW → Prop) (h : wJ2_grow_b b cs ad vs f x0 Q) : CON l D clC (tysC cs) b H0 (XKd b H0 ad vs) yJ2_grow cJ2_grow 1 (some (.array (.object "java/lang/Object"))) 4 107 [.ref x0] f (qR Q) := by
  refine con_of (by decide) (Nat.le_of_ble_eq_true rfl) (fun p e R s m below meth c E1 h0 hin0 => ?_)
  have E : EX p R s m ([.ref x0] : List Value).toArray meth c cJ2_grow 1 RJ2 (some (.array (.object "java/lang/Object"))) D cs b H0 (XKd b H0 ad vs) [] 4 107 f.2.1 f.2.2 := ⟨E1, h0⟩
  refine ag_sub (lv' := [(0, .ref x0)]) [0] rfl ?_
  refine ag_aload_n E1 dJ2_grow_0 rfl 0 rfl ?_
  refine ag_aload_n E1 dJ2_grow_1 rfl 0 rfl ?_
  obtain ⟨y_1, v_2, y_3, hP_4, h⟩ := h
  refine ag_getL E1 2 (ci := 16) (C := RJ2) (T := TJ2) (N := 3) rfl in_J2 (by decide) q143 (fun _ h => h) dJ2_grow_2 hP_4 rfl ?_
  refine ag_iconst E1 dJ2_grow_5 ki_1 ?_
  refine ag_iadd E1 dJ2_grow_6 ?_
  refine ag_callV E1 (ci := 16) (C := RJ2) (T0 := TJ2) (n2 := 3) hP_4 rfl (kJ2_grow_2_b _ _ _ _ _ _ _ _ _ _ _ h) (lw_V q1006 q1008 qs21 q86 q1009) ⟨rfl, hdJ2_grow_2⟩ (Nat.le_of_ble_eq_true rfl) (Nat.le_of_ble_eq_true rfl) (As := [.int (y_3 + (1 : Int32))]) rfl (Nat.le_of_ble_eq_true rfl) dJ2_grow_7 (fun v_ f_5 hv => ?_) rfl
  obtain ⟨r_6, rfl, h⟩ := hv
  exact gw_aret E rfl (Or.inr ⟨_, rfl⟩) (Or.inr ⟨_, rfl⟩) ⟨_, rfl, h⟩ dJ2_grow_10
theorem tbJ2_add_2_a_11 (E : EX p R s m args meth c cJ2_add_2 4 RJ2 none D cs b H0 (XKd b H0 ad vs) [] 5 127 z u) {Q : cW → Prop}  {x0 : Nat} {x1 : Nat} {x2 : Nat} {x3 : Int32} {f : cW} (h : wbJ2_add_2_a_11 b cs ad vs  Q x0 x1 x2 x3 f) : AGW p l e R s m args below meth c D b 4 z u (qV Q) 11 [(0, .ref x0), (1, .ref x1), (2, .ref x2), (3, .int x3)] [] f := by
  have E1 := E.1
  refine ag_aload_n E1 dJ2_add_2_11 rfl 2 rfl ?_
  refine ag_iload_n E1 dJ2_add_2_12 rfl 3 rfl ?_
  refine ag_aload_n E1 dJ2_add_2_13 rfl 1 rfl ?_
  obtain ⟨n_7, c_8, hP_9, h⟩ := h
  obtain ⟨hin_10, h⟩ := h
  obtain ⟨ci_11, cV_12, hv_13, ho_14, h⟩ := h
  refine ag_aastO E1 (t0 := 4) hP_9 rfl hv_13 (oOk_ok ho_14) hin_10 dJ2_add_2_14 (fun f_15 e_16 => ?_)
  have h := h f_15 e_16
  refine ag_aload_n E1 dJ2_add_2_15 rfl 0 rfl ?_
  refine ag_iload_n E1 dJ2_add_2_16 rfl 3 rfl ?_
  refine ag_iconst E1 dJ2_add_2_17 ki_1 ?_
  refine ag_iadd E1 dJ2_add_2_18 ?_
  obtain ⟨y_17, v_18, y_19, hP_20, h⟩ := h
  refine ag_putL E1 2 (ci := 16) (C := RJ2) (T := TJ2) (N := 3) (ty := .int) tyJ2 tyJ2_ok nmJ2 rfl in_J2 (by decide) q143 (fun _ h => h) rfl (by decide +kernel) rfl rfl dJ2_add_2_19 hP_20 (Nat.lt_of_lt_of_le (Nat.le_refl _) (Nat.le_of_ble_eq_true rfl)) rfl (fun f_21 e_22 => ?_)
  have h := h f_21 e_22
  have hP_23 : f_21.1 x0 = some (.inr (16, vp_V [.int y_17, v_18, .int (x3 + (1 : Int32))])) := by rw [e_22]; exact updP_s
  exact gw_vret E rfl ⟨rfl, h⟩ dJ2_add_2_22
theorem kJ2_add_2_a (l : Launch) (D : va_G) (cs : Nat → ClassId) (b : Nat) (H0 : Heap) (ad : Nat → Nat) (vs : Nat → Option Nat) (f : cW) (x0 : Nat) (x1 : Nat) (x3 : Int32) (Q : cW → Prop) (h : wJ2_add_2_a b cs ad vs f x0 x1 x3 Q) : CON l D clC (tysC cs) b H0 (XKd b H0 ad vs) yJ2_add_2 cJ2_add_2 4 none 5 127 [.ref x0, .ref x1, .ref (ad 42), .int x3] f (qV Q) := by
  refine con_of (by decide) (Nat.le_of_ble_eq_true rfl) (fun p e R s m below meth c E1 h0 hin0 => ?_)
  have E : EX p R s m ([.ref x0, .ref x1, .ref (ad 42), .int x3] : List Value).toArray meth c cJ2_add_2 4 RJ2 none D cs b H0 (XKd b H0 ad vs) [] 5 127 f.2.1 f.2.2 := ⟨E1, h0⟩
  refine ag_sub (lv' := [(0, .ref x0), (1, .ref x1), (2, .ref (ad 42)), (3, .int x3)]) [0, 1, 2, 3] rfl ?_
  refine ag_iload_n E1 dJ2_add_2_0 rfl 3 rfl ?_
  refine ag_aload_n E1 dJ2_add_2_1 rfl 2 rfl ?_
  refine ag_tlen E1 (v := (0 : Int32)) xk_emptyT rfl dJ2_add_2_2 ?_
  refine ag_icmp_ne E1 (tgt := 11) dJ2_add_2_3 (by decide) (fun c_3 => ?_) (fun c_3 => ?_)
  · have h := h.1 c_3
    exact h.elim
  · have h := h.2 c_3
    refine ag_aload_n E1 dJ2_add_2_6 rfl 0 rfl ?_
    obtain ⟨y_2, v_3, y_4, hP_5, h⟩ := h
    refine ag_callV E1 (ci := 16) (C := RJ2) (T0 := TJ2) (n2 := 3) hP_5 rfl (kJ2_grow_a _ _ _ _ _ _ _ _ _ _ h) (lw_V q1002 q1004 qs20 q86 q1005) ⟨rfl, hdJ2_grow⟩ (Nat.le_of_ble_eq_true rfl) (Nat.le_of_ble_eq_true rfl) (As := []) rfl (Nat.le_of_ble_eq_true rfl) dJ2_add_2_7 (fun v_ f_1 hv => ?_) rfl
    obtain ⟨r_6, rfl, h⟩ := hv
    refine ag_astore_n E1 (lv' := [(2, .ref r_6), (0, .ref x0), (1, .ref x1), (3, .int x3)]) dJ2_add_2_10 rfl (Nat.lt_of_lt_of_le (Nat.le_refl _) (Nat.le_of_ble_eq_true rfl)) rfl ?_
    refine ag_sub (lv' := [(0, .ref x0), (1, .ref x1), (2, .ref r_6), (3, .int x3)]) [1, 2, 0, 3] rfl ?_
    exact tbJ2_add_2_a_11 E  h
theorem hdJ2_add_2 : yJ2_add_2.cls ≠ "java/lang/invoke/MethodHandle" ∧ yJ2_add_2.cls ≠ "java/lang/invoke/VarHandle" ∧ (parseMethodDescriptor yJ2_add_2.desc).map (fun d => d.parameters.length) = some 3 := by decide +kernel
theorem tbJ2_add_2_b_11 (E : EX p R s m args meth c cJ2_add_2 4 RJ2 none D cs b H0 (XKd b H0 ad vs) [] 5 127 z u) {Q : cW → Prop}  {x0 : Nat} {x1 : Nat} {x2 : Nat} {x3 : Int32} {f : cW} (h : wbJ2_add_2_b_11 b cs ad vs  Q x0 x1 x2 x3 f) : AGW p l e R s m args below meth c D b 4 z u (qV Q) 11 [(0, .ref x0), (1, .ref x1), (2, .ref x2), (3, .int x3)] [] f := by
  have E1 := E.1
  refine ag_aload_n E1 dJ2_add_2_11 rfl 2 rfl ?_
  refine ag_iload_n E1 dJ2_add_2_12 rfl 3 rfl ?_
  refine ag_aload_n E1 dJ2_add_2_13 rfl 1 rfl ?_
  obtain ⟨n_4, c_5, hP_6, h⟩ := h
  obtain ⟨hin_7, h⟩ := h
  obtain ⟨ci_8, cV_9, hv_10, ho_11, h⟩ := h
  refine ag_aastO E1 (t0 := 4) hP_6 rfl hv_10 (oOk_ok ho_11) hin_7 dJ2_add_2_14 (fun f_12 e_13 => ?_)
  have h := h f_12 e_13
  refine ag_aload_n E1 dJ2_add_2_15 rfl 0 rfl ?_
  refine ag_iload_n E1 dJ2_add_2_16 rfl 3 rfl ?_
  refine ag_iconst E1 dJ2_add_2_17 ki_1 ?_
  refine ag_iadd E1 dJ2_add_2_18 ?_
  obtain ⟨y_14, v_15, y_16, hP_17, h⟩ := h
  refine ag_putL E1 2 (ci := 16) (C := RJ2) (T := TJ2) (N := 3) (ty := .int) tyJ2 tyJ2_ok nmJ2 rfl in_J2 (by decide) q143 (fun _ h => h) rfl (by decide +kernel) rfl rfl dJ2_add_2_19 hP_17 (Nat.lt_of_lt_of_le (Nat.le_refl _) (Nat.le_of_ble_eq_true rfl)) rfl (fun f_18 e_19 => ?_)
  have h := h f_18 e_19
  have hP_20 : f_18.1 x0 = some (.inr (16, vp_V [.int y_14, v_15, .int (x3 + (1 : Int32))])) := by rw [e_19]; exact updP_s
  exact gw_vret E rfl ⟨rfl, h⟩ dJ2_add_2_22
theorem kJ2_add_2_b (l : Launch) (D : va_G) (cs : Nat → ClassId) (b : Nat) (H0 : Heap) (ad : Nat → Nat) (vs : Nat → Option Nat) (f : cW) (x0 : Nat) (x1 : Nat) (x2 : Nat) (x3 : Int32) (Q : cW → Prop) (h : wJ2_add_2_b b cs ad vs f x0 x1 x2 x3 Q) : CON l D clC (tysC cs) b H0 (XKd b H0 ad vs) yJ2_add_2 cJ2_add_2 4 none 5 127 [.ref x0, .ref x1, .ref x2, .int x3] f (qV Q) := by
  refine con_of (by decide) (Nat.le_of_ble_eq_true rfl) (fun p e R s m below meth c E1 h0 hin0 => ?_)
  have E : EX p R s m ([.ref x0, .ref x1, .ref x2, .int x3] : List Value).toArray meth c cJ2_add_2 4 RJ2 none D cs b H0 (XKd b H0 ad vs) [] 5 127 f.2.1 f.2.2 := ⟨E1, h0⟩
  refine ag_sub (lv' := [(0, .ref x0), (1, .ref x1), (2, .ref x2), (3, .int x3)]) [0, 1, 2, 3] rfl ?_
  refine ag_iload_n E1 dJ2_add_2_0 rfl 3 rfl ?_
  refine ag_aload_n E1 dJ2_add_2_1 rfl 2 rfl ?_
  obtain ⟨n_1, c_2, hP_3, h⟩ := h
  refine ag_alen E1 (t0 := 4) hP_3 rfl rfl dJ2_add_2_2 ?_
  refine ag_icmp_ne E1 (tgt := 11) dJ2_add_2_3 (by decide) (fun c_3 => ?_) (fun c_3 => ?_)
  · have h := h.1 c_3
    exact tbJ2_add_2_b_11 E  h
  · have h := h.2 c_3
    refine ag_aload_n E1 dJ2_add_2_6 rfl 0 rfl ?_
    obtain ⟨y_22, v_23, y_24, hP_25, h⟩ := h
    refine ag_callV E1 (ci := 16) (C := RJ2) (T0 := TJ2) (n2 := 3) hP_25 rfl (kJ2_grow_b _ _ _ _ _ _ _ _ _ _ h) (lw_V q1002 q1004 qs20 q86 q1005) ⟨rfl, hdJ2_grow⟩ (Nat.le_of_ble_eq_true rfl) (Nat.le_of_ble_eq_true rfl) (As := []) rfl (Nat.le_of_ble_eq_true rfl) dJ2_add_2_7 (fun v_ f_21 hv => ?_) rfl
    obtain ⟨r_26, rfl, h⟩ := hv
    refine ag_astore_n E1 (lv' := [(2, .ref r_26), (0, .ref x0), (1, .ref x1), (3, .int x3)]) dJ2_add_2_10 rfl (Nat.lt_of_lt_of_le (Nat.le_refl _) (Nat.le_of_ble_eq_true rfl)) rfl ?_
    refine ag_sub (lv' := [(0, .ref x0), (1, .ref x1), (2, .ref r_26), (3, .int x3)]) [1, 2, 0, 3] rfl ?_
    exact tbJ2_add_2_b_11 E  h
theorem kJ2_add_a (l : Launch) (D : va_G) (cs : Nat → ClassId) (b : Nat) (H0 : Heap) (ad : Nat → Nat) (vs : Nat → Option Nat) (f : cW) (x0 : Nat) (x1 : Nat) (Q : Int32 → cW → Prop) (h : wJ2_add_a b cs ad vs f x0 x1 Q) : CON l D clC (tysC cs) b H0 (XKd b H0 ad vs) yJ2_add cJ2_add 2 (some .boolean) 6 150 [.ref x0, .ref x1] f (qI Q) := by
  refine con_of (by decide) (Nat.le_of_ble_eq_true rfl) (fun p e R s m below meth c E1 h0 hin0 => ?_)
  have E : EX p R s m ([.ref x0, .ref x1] : List Value).toArray meth c cJ2_add 2 RJ2 (some .boolean) D cs b H0 (XKd b H0 ad vs) [] 6 150 f.2.1 f.2.2 := ⟨E1, h0⟩
  refine ag_sub (lv' := [(0, .ref x0), (1, .ref x1)]) [0, 1] rfl ?_
  refine ag_aload_n E1 dJ2_add_0 rfl 0 rfl ?_
  refine ag_dup E1 dJ2_add_1 rfl ?_
  obtain ⟨y_1, v_2, y_3, hP_4, h⟩ := h
  refine ag_getL E1 0 (ci := 16) (C := RJ2) (T := TJ2) (N := 3) rfl in_J2 (by decide) q145 (u_same (E1.1.2.2.2.2 _ q146)) dJ2_add_2 hP_4 rfl ?_
  refine ag_iconst E1 dJ2_add_5 ki_1 ?_
  refine ag_iadd E1 dJ2_add_6 ?_
  refine ag_putL E1 0 (ci := 16) (C := RJ2) (T := TJ2) (N := 3) (ty := .int) tyJ2 tyJ2_ok nmJ2 rfl in_J2 (by decide) q145 (u_same (E1.1.2.2.2.2 _ q146)) rfl (by decide +kernel) rfl rfl dJ2_add_7 hP_4 (Nat.lt_of_lt_of_le (Nat.le_refl _) (Nat.le_of_ble_eq_true rfl)) rfl (fun f_5 e_6 => ?_)
  have h := h f_5 e_6
  have hP_7 : f_5.1 x0 = some (.inr (16, vp_V [.int (y_1 + (1 : Int32)), v_2, .int y_3])) := by rw [e_6]; exact updP_s
  refine ag_aload_n E1 dJ2_add_10 rfl 0 rfl ?_
  refine ag_aload_n E1 dJ2_add_11 rfl 1 rfl ?_
  refine ag_aload_n E1 dJ2_add_12 rfl 0 rfl ?_
  refine ag_getL E1 1 (ci := 16) (C := RJ2) (T := TJ2) (N := 3) rfl in_J2 (by decide) q142 (fun _ h => h) dJ2_add_13 hP_7 rfl ?_
  refine ag_aload_n E1 dJ2_add_16 rfl 0 rfl ?_
  refine ag_getL E1 2 (ci := 16) (C := RJ2) (T := TJ2) (N := 3) rfl in_J2 (by decide) q143 (fun _ h => h) dJ2_add_17 hP_7 rfl ?_
  obtain ⟨e_8, h⟩ := h
  rw [e_8]
  refine ag_callV E1 (ci := 16) (C := RJ2) (T0 := TJ2) (n2 := 3) hP_7 rfl (kJ2_add_2_a _ _ _ _ _ _ _ _ _ _ _ _ h) (lw_V q998 q1000 qs19 q86 q1001) ⟨rfl, hdJ2_add_2⟩ (Nat.le_of_ble_eq_true rfl) (Nat.le_of_ble_eq_true rfl) (As := [.ref x1, .ref (ad 42), .int y_3]) rfl (Nat.le_of_ble_eq_true rfl) dJ2_add_20 (fun v_ f_9 hv => ?_) rfl
  obtain ⟨rfl, h⟩ := hv
  refine ag_iconst E1 dJ2_add_23 ki_1 ?_
  exact gw_zret E rfl (Or.inr rfl) ⟨_, rfl, h⟩ dJ2_add_24
theorem hdJ2_add : yJ2_add.cls ≠ "java/lang/invoke/MethodHandle" ∧ yJ2_add.cls ≠ "java/lang/invoke/VarHandle" ∧ (parseMethodDescriptor yJ2_add.desc).map (fun d => d.parameters.length) = some 1 := by decide +kernel
theorem kJ2_add_b (l : Launch) (D : va_G) (cs : Nat → ClassId) (b : Nat) (H0 : Heap) (ad : Nat → Nat) (vs : Nat → Option Nat) (f : cW) (x0 : Nat) (x1 : Nat) (Q : Int32 → cW → Prop) (h : wJ2_add_b b cs ad vs f x0 x1 Q) : CON l D clC (tysC cs) b H0 (XKd b H0 ad vs) yJ2_add cJ2_add 2 (some .boolean) 6 150 [.ref x0, .ref x1] f (qI Q) := by
  refine con_of (by decide) (Nat.le_of_ble_eq_true rfl) (fun p e R s m below meth c E1 h0 hin0 => ?_)
  have E : EX p R s m ([.ref x0, .ref x1] : List Value).toArray meth c cJ2_add 2 RJ2 (some .boolean) D cs b H0 (XKd b H0 ad vs) [] 6 150 f.2.1 f.2.2 := ⟨E1, h0⟩
  refine ag_sub (lv' := [(0, .ref x0), (1, .ref x1)]) [0, 1] rfl ?_
  refine ag_aload_n E1 dJ2_add_0 rfl 0 rfl ?_
  refine ag_dup E1 dJ2_add_1 rfl ?_
  obtain ⟨y_1, v_2, y_3, hP_4, h⟩ := h
  refine ag_getL E1 0 (ci := 16) (C := RJ2) (T := TJ2) (N := 3) rfl in_J2 (by decide) q145 (u_same (E1.1.2.2.2.2 _ q146)) dJ2_add_2 hP_4 rfl ?_
  refine ag_iconst E1 dJ2_add_5 ki_1 ?_
  refine ag_iadd E1 dJ2_add_6 ?_
  refine ag_putL E1 0 (ci := 16) (C := RJ2) (T := TJ2) (N := 3) (ty := .int) tyJ2 tyJ2_ok nmJ2 rfl in_J2 (by decide) q145 (u_same (E1.1.2.2.2.2 _ q146)) rfl (by decide +kernel) rfl rfl dJ2_add_7 hP_4 (Nat.lt_of_lt_of_le (Nat.le_refl _) (Nat.le_of_ble_eq_true rfl)) rfl (fun f_5 e_6 => ?_)
  have h := h f_5 e_6
  have hP_7 : f_5.1 x0 = some (.inr (16, vp_V [.int (y_1 + (1 : Int32)), v_2, .int y_3])) := by rw [e_6]; exact updP_s
  refine ag_aload_n E1 dJ2_add_10 rfl 0 rfl ?_
  refine ag_aload_n E1 dJ2_add_11 rfl 1 rfl ?_
  refine ag_aload_n E1 dJ2_add_12 rfl 0 rfl ?_
  refine ag_getL E1 1 (ci := 16) (C := RJ2) (T := TJ2) (N := 3) rfl in_J2 (by decide) q142 (fun _ h => h) dJ2_add_13 hP_7 rfl ?_
  refine ag_aload_n E1 dJ2_add_16 rfl 0 rfl ?_
  refine ag_getL E1 2 (ci := 16) (C := RJ2) (T := TJ2) (N := 3) rfl in_J2 (by decide) q143 (fun _ h => h) dJ2_add_17 hP_7 rfl ?_
  obtain ⟨a_8, e_9, h⟩ := h
  rw [e_9]
  refine ag_callV E1 (ci := 16) (C := RJ2) (T0 := TJ2) (n2 := 3) hP_7 rfl (kJ2_add_2_b _ _ _ _ _ _ _ _ _ _ _ _ _ h) (lw_V q998 q1000 qs19 q86 q1001) ⟨rfl, hdJ2_add_2⟩ (Nat.le_of_ble_eq_true rfl) (Nat.le_of_ble_eq_true rfl) (As := [.ref x1, .ref a_8, .int y_3]) rfl (Nat.le_of_ble_eq_true rfl) dJ2_add_20 (fun v_ f_10 hv => ?_) rfl
  obtain ⟨rfl, h⟩ := hv
  refine ag_iconst E1 dJ2_add_23 ki_1 ?_
  exact gw_zret E rfl (Or.inr rfl) ⟨_, rfl, h⟩ dJ2_add_24
theorem kX5_worth (l : Launch) (D : va_G) (cs : Nat → ClassId) (b : Nat) (H0 : Heap) (ad : Nat → Nat) (vs : Nat → Option Nat) (f : cW) (x0 : Nat) (x1 : Nat) (Q : Int32 → cW → Prop) (h : wX5_worth b cs ad vs f x0 x1 Q) : CON l D clC (tysC cs) b H0 (XKd b H0 ad vs) yX5_worth cX5_worth 2 (some .int) 0 0 [.ref x0, .ref x1] f (qI Q) := by
  refine con_of (by decide) (Nat.le_of_ble_eq_true rfl) (fun p e R s m below meth c E1 h0 hin0 => ?_)
  have E : EX p R s m ([.ref x0, .ref x1] : List Value).toArray meth c cX5_worth 2 RX5 (some .int) D cs b H0 (XKd b H0 ad vs) [] 0 0 f.2.1 f.2.2 := ⟨E1, h0⟩
  refine ag_sub (lv' := [(0, .ref x0), (1, .ref x1)]) [0, 1] rfl ?_
  refine ag_aload_n E1 dX5_worth_0 rfl 0 rfl ?_
  obtain ⟨y_1, y_2, hP_3, h⟩ := h
  refine ag_getL E1 1 (ci := 10) (C := RX5) (T := TX5) (N := 2) rfl in_X5 (by decide) q636 (fun _ h => h) dX5_worth_1 hP_3 rfl ?_
  refine ag_iconst E1 dX5_worth_4 ki_m1 ?_
  refine ag_icmp_ne E1 (tgt := 15) dX5_worth_5 (by decide) (fun c_5 => ?_) (fun c_5 => ?_)
  · have h := h.1 c_5
    refine ag_aload_n E1 dX5_worth_15 rfl 1 rfl ?_
    refine ag_aload_n E1 dX5_worth_16 rfl 0 rfl ?_
    refine ag_getL E1 1 (ci := 10) (C := RX5) (T := TX5) (N := 2) rfl in_X5 (by decide) q636 (fun _ h => h) dX5_worth_17 hP_3 rfl ?_
    obtain ⟨n_4, c_5, hP_6, h⟩ := h
    obtain ⟨hin_7, h⟩ := h
    refine ag_iald E1 (t0 := 0) hP_6 rfl hin_7 dX5_worth_20 ?_
    exact gw_iret E rfl ⟨_, rfl, h⟩ dX5_worth_21
  · have h := h.2 c_5
    refine ag_aload_n E1 dX5_worth_8 rfl 0 rfl ?_
    refine ag_getL E1 0 (ci := 10) (C := RX5) (T := TX5) (N := 2) rfl in_X5 (by decide) q635 (fun _ h => h) dX5_worth_9 hP_3 rfl ?_
    refine ag_goto E1 (tgt := 21) dX5_worth_12 (by decide) ?_
    exact gw_iret E rfl ⟨_, rfl, h⟩ dX5_worth_21
theorem hdX5_worth : yX5_worth.cls ≠ "java/lang/invoke/MethodHandle" ∧ yX5_worth.cls ≠ "java/lang/invoke/VarHandle" ∧ (parseMethodDescriptor yX5_worth.desc).map (fun d => d.parameters.length) = some 1 := by decide +kernel
theorem kX5_init (l : Launch) (D : va_G) (cs : Nat → ClassId) (b : Nat) (H0 : Heap) (ad : Nat → Nat) (vs : Nat → Option Nat) (f : cW) (x0 : Nat) (x1 : Int32) (x2 : Int32) (Q : cW → Prop) (h : wX5_init b cs ad vs f x0 x1 x2 Q) : CON l D clC (tysC cs) b H0 (XKd b H0 ad vs) yX5_init cX5_init 3 none 1 20 [.ref x0, .int x1, .int x2] f (qV Q) := by
  refine con_of (by decide) (Nat.le_of_ble_eq_true rfl) (fun p e R s m below meth c E1 h0 hin0 => ?_)
  have E : EX p R s m ([.ref x0, .int x1, .int x2] : List Value).toArray meth c cX5_init 3 RX5 none D cs b H0 (XKd b H0 ad vs) [] 1 20 f.2.1 f.2.2 := ⟨E1, h0⟩
  have hin : meth.name = "<init>" := hin0 rfl
  refine ag_sub (lv' := [(0, .ref x0), (1, .int x1), (2, .int x2)]) [0, 1, 2] rfl ?_
  refine ag_aload_n E1 dX5_init_0 rfl 0 rfl ?_
  refine ag_objInit E1 q634 q126 q127 (Nat.le_of_ble_eq_true rfl) (Nat.le_of_ble_eq_true rfl) (Nat.le_of_ble_eq_true rfl) dX5_init_1 ?_
  refine ag_aload_n E1 dX5_init_4 rfl 0 rfl ?_
  refine ag_iload_n E1 dX5_init_5 rfl 1 rfl ?_
  obtain ⟨y_1, y_2, hP_3, h⟩ := h
  refine ag_putFL E1 0 (ci := 10) (C := RX5) (T := TX5) (N := 2) (ty := .int) tyX5 tyX5_ok nmX5 rfl in_X5 (by decide) q635 (fun _ h => h) rfl hin rfl (by decide +kernel) rfl rfl dX5_init_6 hP_3 (Nat.lt_of_lt_of_le (Nat.le_refl _) (Nat.le_of_ble_eq_true rfl)) rfl (fun f_4 e_5 => ?_)
  have h := h f_4 e_5
  have hP_6 : f_4.1 x0 = some (.inr (10, vp_V [.int x1, .int y_2])) := by rw [e_5]; exact updP_s
  refine ag_aload_n E1 dX5_init_9 rfl 0 rfl ?_
  refine ag_iload_n E1 dX5_init_10 rfl 2 rfl ?_
  refine ag_putFL E1 1 (ci := 10) (C := RX5) (T := TX5) (N := 2) (ty := .int) tyX5 tyX5_ok nmX5 rfl in_X5 (by decide) q636 (fun _ h => h) rfl hin rfl (by decide +kernel) rfl rfl dX5_init_11 hP_6 (Nat.lt_of_lt_of_le (Nat.le_refl _) (Nat.le_of_ble_eq_true rfl)) rfl (fun f_7 e_8 => ?_)
  have h := h f_7 e_8
  have hP_9 : f_7.1 x0 = some (.inr (10, vp_V [.int x1, .int x2])) := by rw [e_8]; exact updP_s
  exact gw_vret E rfl ⟨rfl, h⟩ dX5_init_14
theorem hdX5_init : yX5_init.cls ≠ "java/lang/invoke/MethodHandle" ∧ yX5_init.cls ≠ "java/lang/invoke/VarHandle" ∧ (parseMethodDescriptor yX5_init.desc).map (fun d => d.parameters.length) = some 2 := by decide +kernel
theorem kX4_init (l : Launch) (D : va_G) (cs : Nat → ClassId) (b : Nat) (H0 : Heap) (ad : Nat → Nat) (vs : Nat → Option Nat) (f : cW) (x0 : Nat) (x1 : Int32) (x2 : Nat) (Q : cW → Prop) (h : wX4_init b cs ad vs f x0 x1 x2 Q) : CON l D clC (tysC cs) b H0 (XKd b H0 ad vs) yX4_init cX4_init 3 none 1 20 [.ref x0, .int x1, .ref x2] f (qV Q) := by
  refine con_of (by decide) (Nat.le_of_ble_eq_true rfl) (fun p e R s m below meth c E1 h0 hin0 => ?_)
  have E : EX p R s m ([.ref x0, .int x1, .ref x2] : List Value).toArray meth c cX4_init 3 RX4 none D cs b H0 (XKd b H0 ad vs) [] 1 20 f.2.1 f.2.2 := ⟨E1, h0⟩
  have hin : meth.name = "<init>" := hin0 rfl
  refine ag_sub (lv' := [(0, .ref x0), (1, .int x1), (2, .ref x2)]) [0, 1, 2] rfl ?_
  refine ag_aload_n E1 dX4_init_0 rfl 0 rfl ?_
  refine ag_objInit E1 q609 q126 q127 (Nat.le_of_ble_eq_true rfl) (Nat.le_of_ble_eq_true rfl) (Nat.le_of_ble_eq_true rfl) dX4_init_1 ?_
  refine ag_aload_n E1 dX4_init_4 rfl 0 rfl ?_
  refine ag_iload_n E1 dX4_init_5 rfl 1 rfl ?_
  obtain ⟨y_1, v_2, hP_3, h⟩ := h
  obtain ⟨hz_4, h⟩ := h
  refine ag_putFL E1 0 (ci := 9) (C := RX4) (T := TX4) (N := 2) (ty := .boolean) tyX4 tyX4_ok nmX4 rfl in_X4 (by decide) q610 (fun _ h => h) rfl hin rfl (by decide +kernel) (vz_nar hz_4) (vz_fit hz_4) dX4_init_6 hP_3 (Nat.lt_of_lt_of_le (Nat.le_refl _) (Nat.le_of_ble_eq_true rfl)) rfl (fun f_5 e_6 => ?_)
  have h := h f_5 e_6
  have hP_7 : f_5.1 x0 = some (.inr (9, vp_V [.int x1, v_2])) := by rw [e_6]; exact updP_s
  refine ag_aload_n E1 dX4_init_9 rfl 0 rfl ?_
  refine ag_aload_n E1 dX4_init_10 rfl 2 rfl ?_
  refine ag_putFL E1 1 (ci := 9) (C := RX4) (T := TX4) (N := 2) (ty := (.object "MarketDays$Node")) tyX4 tyX4_ok nmX4 rfl in_X4 (by decide) q611 (fun _ h => h) rfl hin rfl (by decide +kernel) rfl rfl dX4_init_11 hP_7 (Nat.lt_of_lt_of_le (Nat.le_refl _) (Nat.le_of_ble_eq_true rfl)) rfl (fun f_8 e_9 => ?_)
  have h := h f_8 e_9
  have hP_10 : f_8.1 x0 = some (.inr (9, vp_V [.int x1, .ref x2])) := by rw [e_9]; exact updP_s
  exact gw_vret E rfl ⟨rfl, h⟩ dX4_init_14
theorem hdX4_init : yX4_init.cls ≠ "java/lang/invoke/MethodHandle" ∧ yX4_init.cls ≠ "java/lang/invoke/VarHandle" ∧ (parseMethodDescriptor yX4_init.desc).map (fun d => d.parameters.length) = some 2 := by decide +kernel
theorem kX6_init (l : Launch) (D : va_G) (cs : Nat → ClassId) (b : Nat) (H0 : Heap) (ad : Nat → Nat) (vs : Nat → Option Nat) (f : cW) (x0 : Nat) (x1 : Int32) (x2 : Nat) (x3 : Nat) (Q : cW → Prop) (h : wX6_init b cs ad vs f x0 x1 x2 x3 Q) : CON l D clC (tysC cs) b H0 (XKd b H0 ad vs) yX6_init cX6_init 4 none 1 20 [.ref x0, .int x1, .ref x2, .ref x3] f (qV Q) := by
  refine con_of (by decide) (Nat.le_of_ble_eq_true rfl) (fun p e R s m below meth c E1 h0 hin0 => ?_)
  have E : EX p R s m ([.ref x0, .int x1, .ref x2, .ref x3] : List Value).toArray meth c cX6_init 4 RX6 none D cs b H0 (XKd b H0 ad vs) [] 1 20 f.2.1 f.2.2 := ⟨E1, h0⟩
  have hin : meth.name = "<init>" := hin0 rfl
  refine ag_sub (lv' := [(0, .ref x0), (1, .int x1), (2, .ref x2), (3, .ref x3)]) [0, 1, 2, 3] rfl ?_
  refine ag_aload_n E1 dX6_init_0 rfl 0 rfl ?_
  refine ag_objInit E1 q653 q126 q127 (Nat.le_of_ble_eq_true rfl) (Nat.le_of_ble_eq_true rfl) (Nat.le_of_ble_eq_true rfl) dX6_init_1 ?_
  refine ag_aload_n E1 dX6_init_4 rfl 0 rfl ?_
  refine ag_iload_n E1 dX6_init_5 rfl 1 rfl ?_
  obtain ⟨y_1, v_2, v_3, hP_4, h⟩ := h
  refine ag_putFL E1 0 (ci := 11) (C := RX6) (T := TX6) (N := 3) (ty := .int) tyX6 tyX6_ok nmX6 rfl in_X6 (by decide) q654 (fun _ h => h) rfl hin rfl (by decide +kernel) rfl rfl dX6_init_6 hP_4 (Nat.lt_of_lt_of_le (Nat.le_refl _) (Nat.le_of_ble_eq_true rfl)) rfl (fun f_5 e_6 => ?_)
  have h := h f_5 e_6
  have hP_7 : f_5.1 x0 = some (.inr (11, vp_V [.int x1, v_2, v_3])) := by rw [e_6]; exact updP_s
  refine ag_aload_n E1 dX6_init_9 rfl 0 rfl ?_
  refine ag_aload_n E1 dX6_init_10 rfl 2 rfl ?_
  refine ag_putFL E1 1 (ci := 11) (C := RX6) (T := TX6) (N := 3) (ty := (.object "MarketDays$Node")) tyX6 tyX6_ok nmX6 rfl in_X6 (by decide) q655 (fun _ h => h) rfl hin rfl (by decide +kernel) rfl rfl dX6_init_11 hP_7 (Nat.lt_of_lt_of_le (Nat.le_refl _) (Nat.le_of_ble_eq_true rfl)) rfl (fun f_8 e_9 => ?_)
  have h := h f_8 e_9
  have hP_10 : f_8.1 x0 = some (.inr (11, vp_V [.int x1, .ref x2, v_3])) := by rw [e_9]; exact updP_s
  refine ag_aload_n E1 dX6_init_14 rfl 0 rfl ?_
  refine ag_aload_n E1 dX6_init_15 rfl 3 rfl ?_
  refine ag_putFL E1 2 (ci := 11) (C := RX6) (T := TX6) (N := 3) (ty := (.object "MarketDays$Node")) tyX6 tyX6_ok nmX6 rfl in_X6 (by decide) q656 (fun _ h => h) rfl hin rfl (by decide +kernel) rfl rfl dX6_init_16 hP_10 (Nat.lt_of_lt_of_le (Nat.le_refl _) (Nat.le_of_ble_eq_true rfl)) rfl (fun f_11 e_12 => ?_)
  have h := h f_11 e_12
  have hP_13 : f_11.1 x0 = some (.inr (11, vp_V [.int x1, .ref x2, .ref x3])) := by rw [e_12]; exact updP_s
  exact gw_vret E rfl ⟨rfl, h⟩ dX6_init_19
theorem hdX6_init : yX6_init.cls ≠ "java/lang/invoke/MethodHandle" ∧ yX6_init.cls ≠ "java/lang/invoke/VarHandle" ∧ (parseMethodDescriptor yX6_init.desc).map (fun d => d.parameters.length) = some 3 := by decide +kernel
theorem kX15_init (l : Launch) (D : va_G) (cs : Nat → ClassId) (b : Nat) (H0 : Heap) (ad : Nat → Nat) (vs : Nat → Option Nat) (f : cW) (x0 : Nat) (x1 : Nat) (Q : cW → Prop) (h : wX15_init b cs ad vs f x0 x1 Q) : CON l D clC (tysC cs) b H0 (XKd b H0 ad vs) yX15_init cX15_init 2 none 1 20 [.ref x0, .ref x1] f (qV Q) := by
  refine con_of (by decide) (Nat.le_of_ble_eq_true rfl) (fun p e R s m below meth c E1 h0 hin0 => ?_)
  have E : EX p R s m ([.ref x0, .ref x1] : List Value).toArray meth c cX15_init 2 RX15 none D cs b H0 (XKd b H0 ad vs) [] 1 20 f.2.1 f.2.2 := ⟨E1, h0⟩
  have hin : meth.name = "<init>" := hin0 rfl
  refine ag_sub (lv' := [(0, .ref x0), (1, .ref x1)]) [0, 1] rfl ?_
  refine ag_aload_n E1 dX15_init_0 rfl 0 rfl ?_
  refine ag_objInit E1 q1401 q126 q127 (Nat.le_of_ble_eq_true rfl) (Nat.le_of_ble_eq_true rfl) (Nat.le_of_ble_eq_true rfl) dX15_init_1 ?_
  refine ag_aload_n E1 dX15_init_4 rfl 0 rfl ?_
  refine ag_aload_n E1 dX15_init_5 rfl 1 rfl ?_
  obtain ⟨v_1, hP_2, h⟩ := h
  refine ag_putFL E1 0 (ci := 15) (C := RX15) (T := TX15) (N := 1) (ty := (.object "java/lang/Object")) tyX15 tyX15_ok nmX15 rfl in_X15 (by decide) q1402 (fun _ h => h) rfl hin rfl (by decide +kernel) rfl rfl dX15_init_6 hP_2 (Nat.lt_of_lt_of_le (Nat.le_refl _) (Nat.le_of_ble_eq_true rfl)) rfl (fun f_3 e_4 => ?_)
  have h := h f_3 e_4
  have hP_5 : f_3.1 x0 = some (.inr (15, vp_V [.ref x1])) := by rw [e_4]; exact updP_s
  exact gw_vret E rfl ⟨rfl, h⟩ dX15_init_9
theorem hdX15_init : yX15_init.cls ≠ "java/lang/invoke/MethodHandle" ∧ yX15_init.cls ≠ "java/lang/invoke/VarHandle" ∧ (parseMethodDescriptor yX15_init.desc).map (fun d => d.parameters.length) = some 1 := by decide +kernel
theorem kX8_init_c3 (l : Launch) (D : va_G) (cs : Nat → ClassId) (b : Nat) (H0 : Heap) (ad : Nat → Nat) (vs : Nat → Option Nat) (f : cW) (x0 : Nat) (x1 : Int32) (x2 : Nat) (Q : cW → Prop) (h : wX8_init_c3 b cs ad vs f x0 x1 x2 Q) : CON l D clC (tysC cs) b H0 (XKd b H0 ad vs) yX8_init cX8_init 3 none 1 20 [.ref x0, .int x1, .ref x2] f (qV Q) := by
  refine con_of (by decide) (Nat.le_of_ble_eq_true rfl) (fun p e R s m below meth c E1 h0 hin0 => ?_)
  have E : EX p R s m ([.ref x0, .int x1, .ref x2] : List Value).toArray meth c cX8_init 3 RX8 none D cs b H0 (XKd b H0 ad vs) [] 1 20 f.2.1 f.2.2 := ⟨E1, h0⟩
  have hin : meth.name = "<init>" := hin0 rfl
  refine ag_sub (lv' := [(0, .ref x0), (1, .int x1), (2, .ref x2)]) [0, 1, 2] rfl ?_
  refine ag_aload_n E1 dX8_init_0 rfl 0 rfl ?_
  refine ag_objInit E1 q914 q126 q127 (Nat.le_of_ble_eq_true rfl) (Nat.le_of_ble_eq_true rfl) (Nat.le_of_ble_eq_true rfl) dX8_init_1 ?_
  refine ag_aload_n E1 dX8_init_4 rfl 0 rfl ?_
  refine ag_iload_n E1 dX8_init_5 rfl 1 rfl ?_
  obtain ⟨y_1, y_2, v_3, hP_4, h⟩ := h
  refine ag_putFL E1 0 (ci := 3) (C := RX8) (T := TX8) (N := 3) (ty := .int) tyX8 tyX8_ok nmX8 rfl in_X8 (by decide) q915 (fun _ h => h) rfl hin rfl (by decide +kernel) rfl rfl dX8_init_6 hP_4 (Nat.lt_of_lt_of_le (Nat.le_refl _) (Nat.le_of_ble_eq_true rfl)) rfl (fun f_5 e_6 => ?_)
  have h := h f_5 e_6
  have hP_7 : f_5.1 x0 = some (.inr (3, vp_V [.int x1, .int y_2, v_3])) := by rw [e_6]; exact updP_s
  refine ag_aload_n E1 dX8_init_9 rfl 0 rfl ?_
  refine ag_aload_n E1 dX8_init_10 rfl 2 rfl ?_
  obtain ⟨n_8, c_9, hP_10, h⟩ := h
  refine ag_alen E1 (t0 := 1) hP_10 rfl rfl dX8_init_11 ?_
  refine ag_putFL E1 1 (ci := 3) (C := RX8) (T := TX8) (N := 3) (ty := .int) tyX8 tyX8_ok nmX8 rfl in_X8 (by decide) q917 (fun _ h => h) rfl hin rfl (by decide +kernel) rfl rfl dX8_init_12 hP_7 (Nat.lt_of_lt_of_le (Nat.le_refl _) (Nat.le_of_ble_eq_true rfl)) rfl (fun f_11 e_12 => ?_)
  have h := h f_11 e_12
  have hP_13 : f_11.1 x0 = some (.inr (3, vp_V [.int x1, .int (Int32.ofNat n_8), v_3])) := by rw [e_12]; exact updP_s
  refine ag_aload_n E1 dX8_init_15 rfl 0 rfl ?_
  refine ag_aload_n E1 dX8_init_16 rfl 2 rfl ?_
  refine ag_putFL E1 2 (ci := 3) (C := RX8) (T := TX8) (N := 3) (ty := (.array .byte)) tyX8 tyX8_ok nmX8 rfl in_X8 (by decide) q919 (fun _ h => h) rfl hin rfl (by decide +kernel) rfl rfl dX8_init_17 hP_13 (Nat.lt_of_lt_of_le (Nat.le_refl _) (Nat.le_of_ble_eq_true rfl)) rfl (fun f_14 e_15 => ?_)
  have h := h f_14 e_15
  have hP_16 : f_14.1 x0 = some (.inr (3, vp_V [.int x1, .int (Int32.ofNat n_8), .ref x2])) := by rw [e_15]; exact updP_s
  exact gw_vret E rfl ⟨rfl, h⟩ dX8_init_20
theorem hdX8_init : yX8_init.cls ≠ "java/lang/invoke/MethodHandle" ∧ yX8_init.cls ≠ "java/lang/invoke/VarHandle" ∧ (parseMethodDescriptor yX8_init.desc).map (fun d => d.parameters.length) = some 2 := by decide +kernel
theorem kX8_daysOf_c3 (l : Launch) (D : va_G) (cs : Nat → ClassId) (b : Nat) (H0 : Heap) (ad : Nat → Nat) (vs : Nat → Option Nat) (f : cW) (x0 : Nat) (x1 : Int32) (x2 : Int32) (x3 : Int32) (Q : Int32 → cW → Prop) (h : wX8_daysOf_c3 b cs ad vs f x0 x1 x2 x3 Q) : CON l D clC (tysC cs) b H0 (XKd b H0 ad vs) yX8_daysOf cX8_daysOf 4 (some .int) 0 0 [.ref x0, .int x1, .int x2, .int x3] f (qI Q) := by
  refine con_of (by decide) (Nat.le_of_ble_eq_true rfl) (fun p e R s m below meth c E1 h0 hin0 => ?_)
  have E : EX p R s m ([.ref x0, .int x1, .int x2, .int x3] : List Value).toArray meth c cX8_daysOf 4 RX8 (some .int) D cs b H0 (XKd b H0 ad vs) [] 0 0 f.2.1 f.2.2 := ⟨E1, h0⟩
  refine ag_sub (lv' := [(0, .ref x0), (1, .int x1), (2, .int x2), (3, .int x3)]) [0, 1, 2, 3] rfl ?_
  refine ag_iload_n E1 dX8_daysOf_0 rfl 1 rfl ?_
  refine ag_aload_n E1 dX8_daysOf_1 rfl 0 rfl ?_
  obtain ⟨y_1, y_2, v_3, hP_4, h⟩ := h
  refine ag_getL E1 1 (ci := 3) (C := RX8) (T := TX8) (N := 3) rfl in_X8 (by decide) q917 (fun _ h => h) dX8_daysOf_2 hP_4 rfl ?_
  refine ag_icmp_ge E1 (tgt := 29) dX8_daysOf_5 (by decide) (fun c_5 => ?_) (fun c_5 => ?_)
  · have h := h.1 c_5
    refine ag_iconst E1 dX8_daysOf_29 ki_0 ?_
    exact gw_iret E rfl ⟨_, rfl, h⟩ dX8_daysOf_30
  · have h := h.2 c_5
    refine ag_aload_n E1 dX8_daysOf_8 rfl 0 rfl ?_
    refine ag_getL E1 2 (ci := 3) (C := RX8) (T := TX8) (N := 3) rfl in_X8 (by decide) q919 (fun _ h => h) dX8_daysOf_9 hP_4 rfl ?_
    refine ag_iload_n E1 dX8_daysOf_12 rfl 1 rfl ?_
    obtain ⟨a_5, e_6, h⟩ := h
    rw [e_6]
    obtain ⟨n_7, c_8, hP_9, h⟩ := h
    obtain ⟨hin_10, h⟩ := h
    refine ag_bald E1 (t0 := 1) hP_9 rfl hin_10 dX8_daysOf_13 ?_
    refine ag_iload_n E1 dX8_daysOf_14 rfl 3 rfl ?_
    refine ag_icmp_ge E1 (tgt := 29) dX8_daysOf_15 (by decide) (fun c_15 => ?_) (fun c_15 => ?_)
    · have h := h.1 c_15
      refine ag_iconst E1 dX8_daysOf_29 ki_0 ?_
      exact gw_iret E rfl ⟨_, rfl, h⟩ dX8_daysOf_30
    · have h := h.2 c_15
      refine ag_iconst E1 dX8_daysOf_18 ki_1 ?_
      refine ag_aload_n E1 dX8_daysOf_19 rfl 0 rfl ?_
      refine ag_getL E1 2 (ci := 3) (C := RX8) (T := TX8) (N := 3) rfl in_X8 (by decide) q919 (fun _ h => h) dX8_daysOf_20 hP_4 rfl ?_
      refine ag_iload_n E1 dX8_daysOf_23 rfl 1 rfl ?_
      obtain ⟨a_11, e_12, h⟩ := h
      rw [e_12]
      obtain ⟨n_13, c_14, hP_15, h⟩ := h
      obtain ⟨hin_16, h⟩ := h
      refine ag_bald E1 (t0 := 1) hP_15 rfl hin_16 dX8_daysOf_24 ?_
      refine ag_ishl E1 dX8_daysOf_25 ?_
      refine ag_goto E1 (tgt := 30) dX8_daysOf_26 (by decide) ?_
      exact gw_iret E rfl ⟨_, rfl, h⟩ dX8_daysOf_30
theorem hdX8_daysOf : yX8_daysOf.cls ≠ "java/lang/invoke/MethodHandle" ∧ yX8_daysOf.cls ≠ "java/lang/invoke/VarHandle" ∧ (parseMethodDescriptor yX8_daysOf.desc).map (fun d => d.parameters.length) = some 3 := by decide +kernel
theorem kX8_worth_c3 (l : Launch) (D : va_G) (cs : Nat → ClassId) (b : Nat) (H0 : Heap) (ad : Nat → Nat) (vs : Nat → Option Nat) (f : cW) (x0 : Nat) (x1 : Int32) (x2 : Int32) (Q : Int32 → cW → Prop) (h : wX8_worth_c3 b cs ad vs f x0 x1 x2 Q) : CON l D clC (tysC cs) b H0 (XKd b H0 ad vs) yX8_worth cX8_worth 3 (some .int) 0 0 [.ref x0, .int x1, .int x2] f (qI Q) := by
  refine con_of (by decide) (Nat.le_of_ble_eq_true rfl) (fun p e R s m below meth c E1 h0 hin0 => ?_)
  have E : EX p R s m ([.ref x0, .int x1, .int x2] : List Value).toArray meth c cX8_worth 3 RX8 (some .int) D cs b H0 (XKd b H0 ad vs) [] 0 0 f.2.1 f.2.2 := ⟨E1, h0⟩
  refine ag_sub (lv' := [(0, .ref x0), (1, .int x1), (2, .int x2)]) [0, 1, 2] rfl ?_
  refine ag_iload_n E1 dX8_worth_0 rfl 1 rfl ?_
  exact gw_iret E rfl ⟨_, rfl, h⟩ dX8_worth_1
theorem hdX8_worth : yX8_worth.cls ≠ "java/lang/invoke/MethodHandle" ∧ yX8_worth.cls ≠ "java/lang/invoke/VarHandle" ∧ (parseMethodDescriptor yX8_worth.desc).map (fun d => d.parameters.length) = some 2 := by decide +kernel
theorem kX8_moves_c3 (l : Launch) (D : va_G) (cs : Nat → ClassId) (b : Nat) (H0 : Heap) (ad : Nat → Nat) (vs : Nat → Option Nat) (f : cW) (x0 : Nat) (Q : Int32 → cW → Prop) (h : wX8_moves_c3 b cs ad vs f x0 Q) : CON l D clC (tysC cs) b H0 (XKd b H0 ad vs) yX8_moves cX8_moves 1 (some .boolean) 0 0 [.ref x0] f (qI Q) := by
  refine con_of (by decide) (Nat.le_of_ble_eq_true rfl) (fun p e R s m below meth c E1 h0 hin0 => ?_)
  have E : EX p R s m ([.ref x0] : List Value).toArray meth c cX8_moves 1 RX8 (some .boolean) D cs b H0 (XKd b H0 ad vs) [] 0 0 f.2.1 f.2.2 := ⟨E1, h0⟩
  refine ag_sub (lv' := [(0, .ref x0)]) [0] rfl ?_
  refine ag_iconst E1 dX8_moves_0 ki_1 ?_
  exact gw_zret E rfl (Or.inr rfl) ⟨_, rfl, h⟩ dX8_moves_1
theorem hdX8_moves : yX8_moves.cls ≠ "java/lang/invoke/MethodHandle" ∧ yX8_moves.cls ≠ "java/lang/invoke/VarHandle" ∧ (parseMethodDescriptor yX8_moves.desc).map (fun d => d.parameters.length) = some 0 := by decide +kernel
theorem kX8_kind_c3 (l : Launch) (D : va_G) (cs : Nat → ClassId) (b : Nat) (H0 : Heap) (ad : Nat → Nat) (vs : Nat → Option Nat) (f : cW) (x0 : Nat) (Q : Int32 → cW → Prop) (h : wX8_kind_c3 b cs ad vs f x0 Q) : CON l D clC (tysC cs) b H0 (XKd b H0 ad vs) yX8_kind cX8_kind 1 (some .int) 0 0 [.ref x0] f (qI Q) := by
  refine con_of (by decide) (Nat.le_of_ble_eq_true rfl) (fun p e R s m below meth c E1 h0 hin0 => ?_)
  have E : EX p R s m ([.ref x0] : List Value).toArray meth c cX8_kind 1 RX8 (some .int) D cs b H0 (XKd b H0 ad vs) [] 0 0 f.2.1 f.2.2 := ⟨E1, h0⟩
  refine ag_sub (lv' := [(0, .ref x0)]) [0] rfl ?_
  refine ag_iconst E1 dX8_kind_0 ki_0 ?_
  exact gw_iret E rfl ⟨_, rfl, h⟩ dX8_kind_1
theorem hdX8_kind : yX8_kind.cls ≠ "java/lang/invoke/MethodHandle" ∧ yX8_kind.cls ≠ "java/lang/invoke/VarHandle" ∧ (parseMethodDescriptor yX8_kind.desc).map (fun d => d.parameters.length) = some 0 := by decide +kernel
theorem kX8_mostTold_c3 (l : Launch) (D : va_G) (cs : Nat → ClassId) (b : Nat) (H0 : Heap) (ad : Nat → Nat) (vs : Nat → Option Nat) (f : cW) (x0 : Nat) (x1 : Int32) (Q : Int32 → cW → Prop) (h : wX8_mostTold_c3 b cs ad vs f x0 x1 Q) : CON l D clC (tysC cs) b H0 (XKd b H0 ad vs) yX8_mostTold cX8_mostTold 2 (some .int) 0 0 [.ref x0, .int x1] f (qI Q) := by
  refine con_of (by decide) (Nat.le_of_ble_eq_true rfl) (fun p e R s m below meth c E1 h0 hin0 => ?_)
  have E : EX p R s m ([.ref x0, .int x1] : List Value).toArray meth c cX8_mostTold 2 RX8 (some .int) D cs b H0 (XKd b H0 ad vs) [] 0 0 f.2.1 f.2.2 := ⟨E1, h0⟩
  refine ag_sub (lv' := [(0, .ref x0), (1, .int x1)]) [0, 1] rfl ?_
  refine ag_iload_n E1 dX8_mostTold_0 rfl 1 rfl ?_
  refine ag_iconst E1 dX8_mostTold_1 ki_1 ?_
  refine ag_isub E1 dX8_mostTold_2 ?_
  exact gw_iret E rfl ⟨_, rfl, h⟩ dX8_mostTold_3
theorem hdX8_mostTold : yX8_mostTold.cls ≠ "java/lang/invoke/MethodHandle" ∧ yX8_mostTold.cls ≠ "java/lang/invoke/VarHandle" ∧ (parseMethodDescriptor yX8_mostTold.desc).map (fun d => d.parameters.length) = some 1 := by decide +kernel
theorem kX8_init_c4 (l : Launch) (D : va_G) (cs : Nat → ClassId) (b : Nat) (H0 : Heap) (ad : Nat → Nat) (vs : Nat → Option Nat) (f : cW) (x0 : Nat) (x1 : Int32) (x2 : Nat) (Q : cW → Prop) (h : wX8_init_c4 b cs ad vs f x0 x1 x2 Q) : CON l D clC (tysC cs) b H0 (XKd b H0 ad vs) yX8_init cX8_init 3 none 1 20 [.ref x0, .int x1, .ref x2] f (qV Q) := by
  refine con_of (by decide) (Nat.le_of_ble_eq_true rfl) (fun p e R s m below meth c E1 h0 hin0 => ?_)
  have E : EX p R s m ([.ref x0, .int x1, .ref x2] : List Value).toArray meth c cX8_init 3 RX8 none D cs b H0 (XKd b H0 ad vs) [] 1 20 f.2.1 f.2.2 := ⟨E1, h0⟩
  have hin : meth.name = "<init>" := hin0 rfl
  refine ag_sub (lv' := [(0, .ref x0), (1, .int x1), (2, .ref x2)]) [0, 1, 2] rfl ?_
  refine ag_aload_n E1 dX8_init_0 rfl 0 rfl ?_
  refine ag_objInit E1 q914 q126 q127 (Nat.le_of_ble_eq_true rfl) (Nat.le_of_ble_eq_true rfl) (Nat.le_of_ble_eq_true rfl) dX8_init_1 ?_
  refine ag_aload_n E1 dX8_init_4 rfl 0 rfl ?_
  refine ag_iload_n E1 dX8_init_5 rfl 1 rfl ?_
  obtain ⟨y_1, y_2, v_3, hP_4, h⟩ := h
  refine ag_putFL E1 0 (ci := 4) (C := RX9) (T := TX9) (N := 3) (ty := .int) tyX9 tyX9_ok nmX9 rfl in_X9 (by decide) q915 (fun _ h => h) rfl hin rfl (by decide +kernel) rfl rfl dX8_init_6 hP_4 (Nat.lt_of_lt_of_le (Nat.le_refl _) (Nat.le_of_ble_eq_true rfl)) rfl (fun f_5 e_6 => ?_)
  have h := h f_5 e_6
  have hP_7 : f_5.1 x0 = some (.inr (4, vp_V [.int x1, .int y_2, v_3])) := by rw [e_6]; exact updP_s
  refine ag_aload_n E1 dX8_init_9 rfl 0 rfl ?_
  refine ag_aload_n E1 dX8_init_10 rfl 2 rfl ?_
  obtain ⟨n_8, c_9, hP_10, h⟩ := h
  refine ag_alen E1 (t0 := 1) hP_10 rfl rfl dX8_init_11 ?_
  refine ag_putFL E1 1 (ci := 4) (C := RX9) (T := TX9) (N := 3) (ty := .int) tyX9 tyX9_ok nmX9 rfl in_X9 (by decide) q917 (fun _ h => h) rfl hin rfl (by decide +kernel) rfl rfl dX8_init_12 hP_7 (Nat.lt_of_lt_of_le (Nat.le_refl _) (Nat.le_of_ble_eq_true rfl)) rfl (fun f_11 e_12 => ?_)
  have h := h f_11 e_12
  have hP_13 : f_11.1 x0 = some (.inr (4, vp_V [.int x1, .int (Int32.ofNat n_8), v_3])) := by rw [e_12]; exact updP_s
  refine ag_aload_n E1 dX8_init_15 rfl 0 rfl ?_
  refine ag_aload_n E1 dX8_init_16 rfl 2 rfl ?_
  refine ag_putFL E1 2 (ci := 4) (C := RX9) (T := TX9) (N := 3) (ty := (.array .byte)) tyX9 tyX9_ok nmX9 rfl in_X9 (by decide) q919 (fun _ h => h) rfl hin rfl (by decide +kernel) rfl rfl dX8_init_17 hP_13 (Nat.lt_of_lt_of_le (Nat.le_refl _) (Nat.le_of_ble_eq_true rfl)) rfl (fun f_14 e_15 => ?_)
  have h := h f_14 e_15
  have hP_16 : f_14.1 x0 = some (.inr (4, vp_V [.int x1, .int (Int32.ofNat n_8), .ref x2])) := by rw [e_15]; exact updP_s
  exact gw_vret E rfl ⟨rfl, h⟩ dX8_init_20
theorem kX8_daysOf_c4 (l : Launch) (D : va_G) (cs : Nat → ClassId) (b : Nat) (H0 : Heap) (ad : Nat → Nat) (vs : Nat → Option Nat) (f : cW) (x0 : Nat) (x1 : Int32) (x2 : Int32) (x3 : Int32) (Q : Int32 → cW → Prop) (h : wX8_daysOf_c4 b cs ad vs f x0 x1 x2 x3 Q) : CON l D clC (tysC cs) b H0 (XKd b H0 ad vs) yX8_daysOf cX8_daysOf 4 (some .int) 0 0 [.ref x0, .int x1, .int x2, .int x3] f (qI Q) := by
  refine con_of (by decide) (Nat.le_of_ble_eq_true rfl) (fun p e R s m below meth c E1 h0 hin0 => ?_)
  have E : EX p R s m ([.ref x0, .int x1, .int x2, .int x3] : List Value).toArray meth c cX8_daysOf 4 RX8 (some .int) D cs b H0 (XKd b H0 ad vs) [] 0 0 f.2.1 f.2.2 := ⟨E1, h0⟩
  refine ag_sub (lv' := [(0, .ref x0), (1, .int x1), (2, .int x2), (3, .int x3)]) [0, 1, 2, 3] rfl ?_
  refine ag_iload_n E1 dX8_daysOf_0 rfl 1 rfl ?_
  refine ag_aload_n E1 dX8_daysOf_1 rfl 0 rfl ?_
  obtain ⟨y_1, y_2, v_3, hP_4, h⟩ := h
  refine ag_getL E1 1 (ci := 4) (C := RX9) (T := TX9) (N := 3) rfl in_X9 (by decide) q917 (fun _ h => h) dX8_daysOf_2 hP_4 rfl ?_
  refine ag_icmp_ge E1 (tgt := 29) dX8_daysOf_5 (by decide) (fun c_5 => ?_) (fun c_5 => ?_)
  · have h := h.1 c_5
    refine ag_iconst E1 dX8_daysOf_29 ki_0 ?_
    exact gw_iret E rfl ⟨_, rfl, h⟩ dX8_daysOf_30
  · have h := h.2 c_5
    refine ag_aload_n E1 dX8_daysOf_8 rfl 0 rfl ?_
    refine ag_getL E1 2 (ci := 4) (C := RX9) (T := TX9) (N := 3) rfl in_X9 (by decide) q919 (fun _ h => h) dX8_daysOf_9 hP_4 rfl ?_
    refine ag_iload_n E1 dX8_daysOf_12 rfl 1 rfl ?_
    obtain ⟨a_5, e_6, h⟩ := h
    rw [e_6]
    obtain ⟨n_7, c_8, hP_9, h⟩ := h
    obtain ⟨hin_10, h⟩ := h
    refine ag_bald E1 (t0 := 1) hP_9 rfl hin_10 dX8_daysOf_13 ?_
    refine ag_iload_n E1 dX8_daysOf_14 rfl 3 rfl ?_
    refine ag_icmp_ge E1 (tgt := 29) dX8_daysOf_15 (by decide) (fun c_15 => ?_) (fun c_15 => ?_)
    · have h := h.1 c_15
      refine ag_iconst E1 dX8_daysOf_29 ki_0 ?_
      exact gw_iret E rfl ⟨_, rfl, h⟩ dX8_daysOf_30
    · have h := h.2 c_15
      refine ag_iconst E1 dX8_daysOf_18 ki_1 ?_
      refine ag_aload_n E1 dX8_daysOf_19 rfl 0 rfl ?_
      refine ag_getL E1 2 (ci := 4) (C := RX9) (T := TX9) (N := 3) rfl in_X9 (by decide) q919 (fun _ h => h) dX8_daysOf_20 hP_4 rfl ?_
      refine ag_iload_n E1 dX8_daysOf_23 rfl 1 rfl ?_
      obtain ⟨a_11, e_12, h⟩ := h
      rw [e_12]
      obtain ⟨n_13, c_14, hP_15, h⟩ := h
      obtain ⟨hin_16, h⟩ := h
      refine ag_bald E1 (t0 := 1) hP_15 rfl hin_16 dX8_daysOf_24 ?_
      refine ag_ishl E1 dX8_daysOf_25 ?_
      refine ag_goto E1 (tgt := 30) dX8_daysOf_26 (by decide) ?_
      exact gw_iret E rfl ⟨_, rfl, h⟩ dX8_daysOf_30
theorem kX8_worth_c4 (l : Launch) (D : va_G) (cs : Nat → ClassId) (b : Nat) (H0 : Heap) (ad : Nat → Nat) (vs : Nat → Option Nat) (f : cW) (x0 : Nat) (x1 : Int32) (x2 : Int32) (Q : Int32 → cW → Prop) (h : wX8_worth_c4 b cs ad vs f x0 x1 x2 Q) : CON l D clC (tysC cs) b H0 (XKd b H0 ad vs) yX8_worth cX8_worth 3 (some .int) 0 0 [.ref x0, .int x1, .int x2] f (qI Q) := by
  refine con_of (by decide) (Nat.le_of_ble_eq_true rfl) (fun p e R s m below meth c E1 h0 hin0 => ?_)
  have E : EX p R s m ([.ref x0, .int x1, .int x2] : List Value).toArray meth c cX8_worth 3 RX8 (some .int) D cs b H0 (XKd b H0 ad vs) [] 0 0 f.2.1 f.2.2 := ⟨E1, h0⟩
  refine ag_sub (lv' := [(0, .ref x0), (1, .int x1), (2, .int x2)]) [0, 1, 2] rfl ?_
  refine ag_iload_n E1 dX8_worth_0 rfl 1 rfl ?_
  exact gw_iret E rfl ⟨_, rfl, h⟩ dX8_worth_1
theorem kX8_moves_c4 (l : Launch) (D : va_G) (cs : Nat → ClassId) (b : Nat) (H0 : Heap) (ad : Nat → Nat) (vs : Nat → Option Nat) (f : cW) (x0 : Nat) (Q : Int32 → cW → Prop) (h : wX8_moves_c4 b cs ad vs f x0 Q) : CON l D clC (tysC cs) b H0 (XKd b H0 ad vs) yX8_moves cX8_moves 1 (some .boolean) 0 0 [.ref x0] f (qI Q) := by
  refine con_of (by decide) (Nat.le_of_ble_eq_true rfl) (fun p e R s m below meth c E1 h0 hin0 => ?_)
  have E : EX p R s m ([.ref x0] : List Value).toArray meth c cX8_moves 1 RX8 (some .boolean) D cs b H0 (XKd b H0 ad vs) [] 0 0 f.2.1 f.2.2 := ⟨E1, h0⟩
  refine ag_sub (lv' := [(0, .ref x0)]) [0] rfl ?_
  refine ag_iconst E1 dX8_moves_0 ki_1 ?_
  exact gw_zret E rfl (Or.inr rfl) ⟨_, rfl, h⟩ dX8_moves_1
theorem kX8_kind_c4 (l : Launch) (D : va_G) (cs : Nat → ClassId) (b : Nat) (H0 : Heap) (ad : Nat → Nat) (vs : Nat → Option Nat) (f : cW) (x0 : Nat) (Q : Int32 → cW → Prop) (h : wX8_kind_c4 b cs ad vs f x0 Q) : CON l D clC (tysC cs) b H0 (XKd b H0 ad vs) yX8_kind cX8_kind 1 (some .int) 0 0 [.ref x0] f (qI Q) := by
  refine con_of (by decide) (Nat.le_of_ble_eq_true rfl) (fun p e R s m below meth c E1 h0 hin0 => ?_)
  have E : EX p R s m ([.ref x0] : List Value).toArray meth c cX8_kind 1 RX8 (some .int) D cs b H0 (XKd b H0 ad vs) [] 0 0 f.2.1 f.2.2 := ⟨E1, h0⟩
  refine ag_sub (lv' := [(0, .ref x0)]) [0] rfl ?_
  refine ag_iconst E1 dX8_kind_0 ki_0 ?_
  exact gw_iret E rfl ⟨_, rfl, h⟩ dX8_kind_1
theorem kX8_mostTold_c4 (l : Launch) (D : va_G) (cs : Nat → ClassId) (b : Nat) (H0 : Heap) (ad : Nat → Nat) (vs : Nat → Option Nat) (f : cW) (x0 : Nat) (x1 : Int32) (Q : Int32 → cW → Prop) (h : wX8_mostTold_c4 b cs ad vs f x0 x1 Q) : CON l D clC (tysC cs) b H0 (XKd b H0 ad vs) yX8_mostTold cX8_mostTold 2 (some .int) 0 0 [.ref x0, .int x1] f (qI Q) := by
  refine con_of (by decide) (Nat.le_of_ble_eq_true rfl) (fun p e R s m below meth c E1 h0 hin0 => ?_)
  have E : EX p R s m ([.ref x0, .int x1] : List Value).toArray meth c cX8_mostTold 2 RX8 (some .int) D cs b H0 (XKd b H0 ad vs) [] 0 0 f.2.1 f.2.2 := ⟨E1, h0⟩
  refine ag_sub (lv' := [(0, .ref x0), (1, .int x1)]) [0, 1] rfl ?_
  refine ag_iload_n E1 dX8_mostTold_0 rfl 1 rfl ?_
  refine ag_iconst E1 dX8_mostTold_1 ki_1 ?_
  refine ag_isub E1 dX8_mostTold_2 ?_
  exact gw_iret E rfl ⟨_, rfl, h⟩ dX8_mostTold_3
theorem kX8_init_c5 (l : Launch) (D : va_G) (cs : Nat → ClassId) (b : Nat) (H0 : Heap) (ad : Nat → Nat) (vs : Nat → Option Nat) (f : cW) (x0 : Nat) (x1 : Int32) (x2 : Nat) (Q : cW → Prop) (h : wX8_init_c5 b cs ad vs f x0 x1 x2 Q) : CON l D clC (tysC cs) b H0 (XKd b H0 ad vs) yX8_init cX8_init 3 none 1 20 [.ref x0, .int x1, .ref x2] f (qV Q) := by
  refine con_of (by decide) (Nat.le_of_ble_eq_true rfl) (fun p e R s m below meth c E1 h0 hin0 => ?_)
  have E : EX p R s m ([.ref x0, .int x1, .ref x2] : List Value).toArray meth c cX8_init 3 RX8 none D cs b H0 (XKd b H0 ad vs) [] 1 20 f.2.1 f.2.2 := ⟨E1, h0⟩
  have hin : meth.name = "<init>" := hin0 rfl
  refine ag_sub (lv' := [(0, .ref x0), (1, .int x1), (2, .ref x2)]) [0, 1, 2] rfl ?_
  refine ag_aload_n E1 dX8_init_0 rfl 0 rfl ?_
  refine ag_objInit E1 q914 q126 q127 (Nat.le_of_ble_eq_true rfl) (Nat.le_of_ble_eq_true rfl) (Nat.le_of_ble_eq_true rfl) dX8_init_1 ?_
  refine ag_aload_n E1 dX8_init_4 rfl 0 rfl ?_
  refine ag_iload_n E1 dX8_init_5 rfl 1 rfl ?_
  obtain ⟨y_1, y_2, v_3, hP_4, h⟩ := h
  refine ag_putFL E1 0 (ci := 5) (C := RX10) (T := TX10) (N := 3) (ty := .int) tyX10 tyX10_ok nmX10 rfl in_X10 (by decide) q915 (fun _ h => h) rfl hin rfl (by decide +kernel) rfl rfl dX8_init_6 hP_4 (Nat.lt_of_lt_of_le (Nat.le_refl _) (Nat.le_of_ble_eq_true rfl)) rfl (fun f_5 e_6 => ?_)
  have h := h f_5 e_6
  have hP_7 : f_5.1 x0 = some (.inr (5, vp_V [.int x1, .int y_2, v_3])) := by rw [e_6]; exact updP_s
  refine ag_aload_n E1 dX8_init_9 rfl 0 rfl ?_
  refine ag_aload_n E1 dX8_init_10 rfl 2 rfl ?_
  obtain ⟨n_8, c_9, hP_10, h⟩ := h
  refine ag_alen E1 (t0 := 1) hP_10 rfl rfl dX8_init_11 ?_
  refine ag_putFL E1 1 (ci := 5) (C := RX10) (T := TX10) (N := 3) (ty := .int) tyX10 tyX10_ok nmX10 rfl in_X10 (by decide) q917 (fun _ h => h) rfl hin rfl (by decide +kernel) rfl rfl dX8_init_12 hP_7 (Nat.lt_of_lt_of_le (Nat.le_refl _) (Nat.le_of_ble_eq_true rfl)) rfl (fun f_11 e_12 => ?_)
  have h := h f_11 e_12
  have hP_13 : f_11.1 x0 = some (.inr (5, vp_V [.int x1, .int (Int32.ofNat n_8), v_3])) := by rw [e_12]; exact updP_s
  refine ag_aload_n E1 dX8_init_15 rfl 0 rfl ?_
  refine ag_aload_n E1 dX8_init_16 rfl 2 rfl ?_
  refine ag_putFL E1 2 (ci := 5) (C := RX10) (T := TX10) (N := 3) (ty := (.array .byte)) tyX10 tyX10_ok nmX10 rfl in_X10 (by decide) q919 (fun _ h => h) rfl hin rfl (by decide +kernel) rfl rfl dX8_init_17 hP_13 (Nat.lt_of_lt_of_le (Nat.le_refl _) (Nat.le_of_ble_eq_true rfl)) rfl (fun f_14 e_15 => ?_)
  have h := h f_14 e_15
  have hP_16 : f_14.1 x0 = some (.inr (5, vp_V [.int x1, .int (Int32.ofNat n_8), .ref x2])) := by rw [e_15]; exact updP_s
  exact gw_vret E rfl ⟨rfl, h⟩ dX8_init_20
theorem kX8_daysOf_c5 (l : Launch) (D : va_G) (cs : Nat → ClassId) (b : Nat) (H0 : Heap) (ad : Nat → Nat) (vs : Nat → Option Nat) (f : cW) (x0 : Nat) (x1 : Int32) (x2 : Int32) (x3 : Int32) (Q : Int32 → cW → Prop) (h : wX8_daysOf_c5 b cs ad vs f x0 x1 x2 x3 Q) : CON l D clC (tysC cs) b H0 (XKd b H0 ad vs) yX8_daysOf cX8_daysOf 4 (some .int) 0 0 [.ref x0, .int x1, .int x2, .int x3] f (qI Q) := by
  refine con_of (by decide) (Nat.le_of_ble_eq_true rfl) (fun p e R s m below meth c E1 h0 hin0 => ?_)
  have E : EX p R s m ([.ref x0, .int x1, .int x2, .int x3] : List Value).toArray meth c cX8_daysOf 4 RX8 (some .int) D cs b H0 (XKd b H0 ad vs) [] 0 0 f.2.1 f.2.2 := ⟨E1, h0⟩
  refine ag_sub (lv' := [(0, .ref x0), (1, .int x1), (2, .int x2), (3, .int x3)]) [0, 1, 2, 3] rfl ?_
  refine ag_iload_n E1 dX8_daysOf_0 rfl 1 rfl ?_
  refine ag_aload_n E1 dX8_daysOf_1 rfl 0 rfl ?_
  obtain ⟨y_1, y_2, v_3, hP_4, h⟩ := h
  refine ag_getL E1 1 (ci := 5) (C := RX10) (T := TX10) (N := 3) rfl in_X10 (by decide) q917 (fun _ h => h) dX8_daysOf_2 hP_4 rfl ?_
  refine ag_icmp_ge E1 (tgt := 29) dX8_daysOf_5 (by decide) (fun c_5 => ?_) (fun c_5 => ?_)
  · have h := h.1 c_5
    refine ag_iconst E1 dX8_daysOf_29 ki_0 ?_
    exact gw_iret E rfl ⟨_, rfl, h⟩ dX8_daysOf_30
  · have h := h.2 c_5
    refine ag_aload_n E1 dX8_daysOf_8 rfl 0 rfl ?_
    refine ag_getL E1 2 (ci := 5) (C := RX10) (T := TX10) (N := 3) rfl in_X10 (by decide) q919 (fun _ h => h) dX8_daysOf_9 hP_4 rfl ?_
    refine ag_iload_n E1 dX8_daysOf_12 rfl 1 rfl ?_
    obtain ⟨a_5, e_6, h⟩ := h
    rw [e_6]
    obtain ⟨n_7, c_8, hP_9, h⟩ := h
    obtain ⟨hin_10, h⟩ := h
    refine ag_bald E1 (t0 := 1) hP_9 rfl hin_10 dX8_daysOf_13 ?_
    refine ag_iload_n E1 dX8_daysOf_14 rfl 3 rfl ?_
    refine ag_icmp_ge E1 (tgt := 29) dX8_daysOf_15 (by decide) (fun c_15 => ?_) (fun c_15 => ?_)
    · have h := h.1 c_15
      refine ag_iconst E1 dX8_daysOf_29 ki_0 ?_
      exact gw_iret E rfl ⟨_, rfl, h⟩ dX8_daysOf_30
    · have h := h.2 c_15
      refine ag_iconst E1 dX8_daysOf_18 ki_1 ?_
      refine ag_aload_n E1 dX8_daysOf_19 rfl 0 rfl ?_
      refine ag_getL E1 2 (ci := 5) (C := RX10) (T := TX10) (N := 3) rfl in_X10 (by decide) q919 (fun _ h => h) dX8_daysOf_20 hP_4 rfl ?_
      refine ag_iload_n E1 dX8_daysOf_23 rfl 1 rfl ?_
      obtain ⟨a_11, e_12, h⟩ := h
      rw [e_12]
      obtain ⟨n_13, c_14, hP_15, h⟩ := h
      obtain ⟨hin_16, h⟩ := h
      refine ag_bald E1 (t0 := 1) hP_15 rfl hin_16 dX8_daysOf_24 ?_
      refine ag_ishl E1 dX8_daysOf_25 ?_
      refine ag_goto E1 (tgt := 30) dX8_daysOf_26 (by decide) ?_
      exact gw_iret E rfl ⟨_, rfl, h⟩ dX8_daysOf_30
theorem kX8_worth_c5 (l : Launch) (D : va_G) (cs : Nat → ClassId) (b : Nat) (H0 : Heap) (ad : Nat → Nat) (vs : Nat → Option Nat) (f : cW) (x0 : Nat) (x1 : Int32) (x2 : Int32) (Q : Int32 → cW → Prop) (h : wX8_worth_c5 b cs ad vs f x0 x1 x2 Q) : CON l D clC (tysC cs) b H0 (XKd b H0 ad vs) yX8_worth cX8_worth 3 (some .int) 0 0 [.ref x0, .int x1, .int x2] f (qI Q) := by
  refine con_of (by decide) (Nat.le_of_ble_eq_true rfl) (fun p e R s m below meth c E1 h0 hin0 => ?_)
  have E : EX p R s m ([.ref x0, .int x1, .int x2] : List Value).toArray meth c cX8_worth 3 RX8 (some .int) D cs b H0 (XKd b H0 ad vs) [] 0 0 f.2.1 f.2.2 := ⟨E1, h0⟩
  refine ag_sub (lv' := [(0, .ref x0), (1, .int x1), (2, .int x2)]) [0, 1, 2] rfl ?_
  refine ag_iload_n E1 dX8_worth_0 rfl 1 rfl ?_
  exact gw_iret E rfl ⟨_, rfl, h⟩ dX8_worth_1
theorem kX8_moves_c5 (l : Launch) (D : va_G) (cs : Nat → ClassId) (b : Nat) (H0 : Heap) (ad : Nat → Nat) (vs : Nat → Option Nat) (f : cW) (x0 : Nat) (Q : Int32 → cW → Prop) (h : wX8_moves_c5 b cs ad vs f x0 Q) : CON l D clC (tysC cs) b H0 (XKd b H0 ad vs) yX8_moves cX8_moves 1 (some .boolean) 0 0 [.ref x0] f (qI Q) := by
  refine con_of (by decide) (Nat.le_of_ble_eq_true rfl) (fun p e R s m below meth c E1 h0 hin0 => ?_)
  have E : EX p R s m ([.ref x0] : List Value).toArray meth c cX8_moves 1 RX8 (some .boolean) D cs b H0 (XKd b H0 ad vs) [] 0 0 f.2.1 f.2.2 := ⟨E1, h0⟩
  refine ag_sub (lv' := [(0, .ref x0)]) [0] rfl ?_
  refine ag_iconst E1 dX8_moves_0 ki_1 ?_
  exact gw_zret E rfl (Or.inr rfl) ⟨_, rfl, h⟩ dX8_moves_1
theorem kX8_kind_c5 (l : Launch) (D : va_G) (cs : Nat → ClassId) (b : Nat) (H0 : Heap) (ad : Nat → Nat) (vs : Nat → Option Nat) (f : cW) (x0 : Nat) (Q : Int32 → cW → Prop) (h : wX8_kind_c5 b cs ad vs f x0 Q) : CON l D clC (tysC cs) b H0 (XKd b H0 ad vs) yX8_kind cX8_kind 1 (some .int) 0 0 [.ref x0] f (qI Q) := by
  refine con_of (by decide) (Nat.le_of_ble_eq_true rfl) (fun p e R s m below meth c E1 h0 hin0 => ?_)
  have E : EX p R s m ([.ref x0] : List Value).toArray meth c cX8_kind 1 RX8 (some .int) D cs b H0 (XKd b H0 ad vs) [] 0 0 f.2.1 f.2.2 := ⟨E1, h0⟩
  refine ag_sub (lv' := [(0, .ref x0)]) [0] rfl ?_
  refine ag_iconst E1 dX8_kind_0 ki_0 ?_
  exact gw_iret E rfl ⟨_, rfl, h⟩ dX8_kind_1
theorem kX8_mostTold_c5 (l : Launch) (D : va_G) (cs : Nat → ClassId) (b : Nat) (H0 : Heap) (ad : Nat → Nat) (vs : Nat → Option Nat) (f : cW) (x0 : Nat) (x1 : Int32) (Q : Int32 → cW → Prop) (h : wX8_mostTold_c5 b cs ad vs f x0 x1 Q) : CON l D clC (tysC cs) b H0 (XKd b H0 ad vs) yX8_mostTold cX8_mostTold 2 (some .int) 0 0 [.ref x0, .int x1] f (qI Q) := by
  refine con_of (by decide) (Nat.le_of_ble_eq_true rfl) (fun p e R s m below meth c E1 h0 hin0 => ?_)
  have E : EX p R s m ([.ref x0, .int x1] : List Value).toArray meth c cX8_mostTold 2 RX8 (some .int) D cs b H0 (XKd b H0 ad vs) [] 0 0 f.2.1 f.2.2 := ⟨E1, h0⟩
  refine ag_sub (lv' := [(0, .ref x0), (1, .int x1)]) [0, 1] rfl ?_
  refine ag_iload_n E1 dX8_mostTold_0 rfl 1 rfl ?_
  refine ag_iconst E1 dX8_mostTold_1 ki_1 ?_
  refine ag_isub E1 dX8_mostTold_2 ?_
  exact gw_iret E rfl ⟨_, rfl, h⟩ dX8_mostTold_3
theorem kX8_init_c6 (l : Launch) (D : va_G) (cs : Nat → ClassId) (b : Nat) (H0 : Heap) (ad : Nat → Nat) (vs : Nat → Option Nat) (f : cW) (x0 : Nat) (x1 : Int32) (x2 : Nat) (Q : cW → Prop) (h : wX8_init_c6 b cs ad vs f x0 x1 x2 Q) : CON l D clC (tysC cs) b H0 (XKd b H0 ad vs) yX8_init cX8_init 3 none 1 20 [.ref x0, .int x1, .ref x2] f (qV Q) := by
  refine con_of (by decide) (Nat.le_of_ble_eq_true rfl) (fun p e R s m below meth c E1 h0 hin0 => ?_)
  have E : EX p R s m ([.ref x0, .int x1, .ref x2] : List Value).toArray meth c cX8_init 3 RX8 none D cs b H0 (XKd b H0 ad vs) [] 1 20 f.2.1 f.2.2 := ⟨E1, h0⟩
  have hin : meth.name = "<init>" := hin0 rfl
  refine ag_sub (lv' := [(0, .ref x0), (1, .int x1), (2, .ref x2)]) [0, 1, 2] rfl ?_
  refine ag_aload_n E1 dX8_init_0 rfl 0 rfl ?_
  refine ag_objInit E1 q914 q126 q127 (Nat.le_of_ble_eq_true rfl) (Nat.le_of_ble_eq_true rfl) (Nat.le_of_ble_eq_true rfl) dX8_init_1 ?_
  refine ag_aload_n E1 dX8_init_4 rfl 0 rfl ?_
  refine ag_iload_n E1 dX8_init_5 rfl 1 rfl ?_
  obtain ⟨y_1, y_2, v_3, hP_4, h⟩ := h
  refine ag_putFL E1 0 (ci := 6) (C := RX11) (T := TX11) (N := 3) (ty := .int) tyX11 tyX11_ok nmX11 rfl in_X11 (by decide) q915 (fun _ h => h) rfl hin rfl (by decide +kernel) rfl rfl dX8_init_6 hP_4 (Nat.lt_of_lt_of_le (Nat.le_refl _) (Nat.le_of_ble_eq_true rfl)) rfl (fun f_5 e_6 => ?_)
  have h := h f_5 e_6
  have hP_7 : f_5.1 x0 = some (.inr (6, vp_V [.int x1, .int y_2, v_3])) := by rw [e_6]; exact updP_s
  refine ag_aload_n E1 dX8_init_9 rfl 0 rfl ?_
  refine ag_aload_n E1 dX8_init_10 rfl 2 rfl ?_
  obtain ⟨n_8, c_9, hP_10, h⟩ := h
  refine ag_alen E1 (t0 := 1) hP_10 rfl rfl dX8_init_11 ?_
  refine ag_putFL E1 1 (ci := 6) (C := RX11) (T := TX11) (N := 3) (ty := .int) tyX11 tyX11_ok nmX11 rfl in_X11 (by decide) q917 (fun _ h => h) rfl hin rfl (by decide +kernel) rfl rfl dX8_init_12 hP_7 (Nat.lt_of_lt_of_le (Nat.le_refl _) (Nat.le_of_ble_eq_true rfl)) rfl (fun f_11 e_12 => ?_)
  have h := h f_11 e_12
  have hP_13 : f_11.1 x0 = some (.inr (6, vp_V [.int x1, .int (Int32.ofNat n_8), v_3])) := by rw [e_12]; exact updP_s
  refine ag_aload_n E1 dX8_init_15 rfl 0 rfl ?_
  refine ag_aload_n E1 dX8_init_16 rfl 2 rfl ?_
  refine ag_putFL E1 2 (ci := 6) (C := RX11) (T := TX11) (N := 3) (ty := (.array .byte)) tyX11 tyX11_ok nmX11 rfl in_X11 (by decide) q919 (fun _ h => h) rfl hin rfl (by decide +kernel) rfl rfl dX8_init_17 hP_13 (Nat.lt_of_lt_of_le (Nat.le_refl _) (Nat.le_of_ble_eq_true rfl)) rfl (fun f_14 e_15 => ?_)
  have h := h f_14 e_15
  have hP_16 : f_14.1 x0 = some (.inr (6, vp_V [.int x1, .int (Int32.ofNat n_8), .ref x2])) := by rw [e_15]; exact updP_s
  exact gw_vret E rfl ⟨rfl, h⟩ dX8_init_20
theorem kX8_daysOf_c6 (l : Launch) (D : va_G) (cs : Nat → ClassId) (b : Nat) (H0 : Heap) (ad : Nat → Nat) (vs : Nat → Option Nat) (f : cW) (x0 : Nat) (x1 : Int32) (x2 : Int32) (x3 : Int32) (Q : Int32 → cW → Prop) (h : wX8_daysOf_c6 b cs ad vs f x0 x1 x2 x3 Q) : CON l D clC (tysC cs) b H0 (XKd b H0 ad vs) yX8_daysOf cX8_daysOf 4 (some .int) 0 0 [.ref x0, .int x1, .int x2, .int x3] f (qI Q) := by
  refine con_of (by decide) (Nat.le_of_ble_eq_true rfl) (fun p e R s m below meth c E1 h0 hin0 => ?_)
  have E : EX p R s m ([.ref x0, .int x1, .int x2, .int x3] : List Value).toArray meth c cX8_daysOf 4 RX8 (some .int) D cs b H0 (XKd b H0 ad vs) [] 0 0 f.2.1 f.2.2 := ⟨E1, h0⟩
  refine ag_sub (lv' := [(0, .ref x0), (1, .int x1), (2, .int x2), (3, .int x3)]) [0, 1, 2, 3] rfl ?_
  refine ag_iload_n E1 dX8_daysOf_0 rfl 1 rfl ?_
  refine ag_aload_n E1 dX8_daysOf_1 rfl 0 rfl ?_
  obtain ⟨y_1, y_2, v_3, hP_4, h⟩ := h
  refine ag_getL E1 1 (ci := 6) (C := RX11) (T := TX11) (N := 3) rfl in_X11 (by decide) q917 (fun _ h => h) dX8_daysOf_2 hP_4 rfl ?_
  refine ag_icmp_ge E1 (tgt := 29) dX8_daysOf_5 (by decide) (fun c_5 => ?_) (fun c_5 => ?_)
  · have h := h.1 c_5
    refine ag_iconst E1 dX8_daysOf_29 ki_0 ?_
    exact gw_iret E rfl ⟨_, rfl, h⟩ dX8_daysOf_30
  · have h := h.2 c_5
    refine ag_aload_n E1 dX8_daysOf_8 rfl 0 rfl ?_
    refine ag_getL E1 2 (ci := 6) (C := RX11) (T := TX11) (N := 3) rfl in_X11 (by decide) q919 (fun _ h => h) dX8_daysOf_9 hP_4 rfl ?_
    refine ag_iload_n E1 dX8_daysOf_12 rfl 1 rfl ?_
    obtain ⟨a_5, e_6, h⟩ := h
    rw [e_6]
    obtain ⟨n_7, c_8, hP_9, h⟩ := h
    obtain ⟨hin_10, h⟩ := h
    refine ag_bald E1 (t0 := 1) hP_9 rfl hin_10 dX8_daysOf_13 ?_
    refine ag_iload_n E1 dX8_daysOf_14 rfl 3 rfl ?_
    refine ag_icmp_ge E1 (tgt := 29) dX8_daysOf_15 (by decide) (fun c_15 => ?_) (fun c_15 => ?_)
    · have h := h.1 c_15
      refine ag_iconst E1 dX8_daysOf_29 ki_0 ?_
      exact gw_iret E rfl ⟨_, rfl, h⟩ dX8_daysOf_30
    · have h := h.2 c_15
      refine ag_iconst E1 dX8_daysOf_18 ki_1 ?_
      refine ag_aload_n E1 dX8_daysOf_19 rfl 0 rfl ?_
      refine ag_getL E1 2 (ci := 6) (C := RX11) (T := TX11) (N := 3) rfl in_X11 (by decide) q919 (fun _ h => h) dX8_daysOf_20 hP_4 rfl ?_
      refine ag_iload_n E1 dX8_daysOf_23 rfl 1 rfl ?_
      obtain ⟨a_11, e_12, h⟩ := h
      rw [e_12]
      obtain ⟨n_13, c_14, hP_15, h⟩ := h
      obtain ⟨hin_16, h⟩ := h
      refine ag_bald E1 (t0 := 1) hP_15 rfl hin_16 dX8_daysOf_24 ?_
      refine ag_ishl E1 dX8_daysOf_25 ?_
      refine ag_goto E1 (tgt := 30) dX8_daysOf_26 (by decide) ?_
      exact gw_iret E rfl ⟨_, rfl, h⟩ dX8_daysOf_30
theorem kX8_worth_c6 (l : Launch) (D : va_G) (cs : Nat → ClassId) (b : Nat) (H0 : Heap) (ad : Nat → Nat) (vs : Nat → Option Nat) (f : cW) (x0 : Nat) (x1 : Int32) (x2 : Int32) (Q : Int32 → cW → Prop) (h : wX8_worth_c6 b cs ad vs f x0 x1 x2 Q) : CON l D clC (tysC cs) b H0 (XKd b H0 ad vs) yX8_worth cX8_worth 3 (some .int) 0 0 [.ref x0, .int x1, .int x2] f (qI Q) := by
  refine con_of (by decide) (Nat.le_of_ble_eq_true rfl) (fun p e R s m below meth c E1 h0 hin0 => ?_)
  have E : EX p R s m ([.ref x0, .int x1, .int x2] : List Value).toArray meth c cX8_worth 3 RX8 (some .int) D cs b H0 (XKd b H0 ad vs) [] 0 0 f.2.1 f.2.2 := ⟨E1, h0⟩
  refine ag_sub (lv' := [(0, .ref x0), (1, .int x1), (2, .int x2)]) [0, 1, 2] rfl ?_
  refine ag_iload_n E1 dX8_worth_0 rfl 1 rfl ?_
  exact gw_iret E rfl ⟨_, rfl, h⟩ dX8_worth_1
theorem kX8_moves_c6 (l : Launch) (D : va_G) (cs : Nat → ClassId) (b : Nat) (H0 : Heap) (ad : Nat → Nat) (vs : Nat → Option Nat) (f : cW) (x0 : Nat) (Q : Int32 → cW → Prop) (h : wX8_moves_c6 b cs ad vs f x0 Q) : CON l D clC (tysC cs) b H0 (XKd b H0 ad vs) yX8_moves cX8_moves 1 (some .boolean) 0 0 [.ref x0] f (qI Q) := by
  refine con_of (by decide) (Nat.le_of_ble_eq_true rfl) (fun p e R s m below meth c E1 h0 hin0 => ?_)
  have E : EX p R s m ([.ref x0] : List Value).toArray meth c cX8_moves 1 RX8 (some .boolean) D cs b H0 (XKd b H0 ad vs) [] 0 0 f.2.1 f.2.2 := ⟨E1, h0⟩
  refine ag_sub (lv' := [(0, .ref x0)]) [0] rfl ?_
  refine ag_iconst E1 dX8_moves_0 ki_1 ?_
  exact gw_zret E rfl (Or.inr rfl) ⟨_, rfl, h⟩ dX8_moves_1
theorem kX8_kind_c6 (l : Launch) (D : va_G) (cs : Nat → ClassId) (b : Nat) (H0 : Heap) (ad : Nat → Nat) (vs : Nat → Option Nat) (f : cW) (x0 : Nat) (Q : Int32 → cW → Prop) (h : wX8_kind_c6 b cs ad vs f x0 Q) : CON l D clC (tysC cs) b H0 (XKd b H0 ad vs) yX8_kind cX8_kind 1 (some .int) 0 0 [.ref x0] f (qI Q) := by
  refine con_of (by decide) (Nat.le_of_ble_eq_true rfl) (fun p e R s m below meth c E1 h0 hin0 => ?_)
  have E : EX p R s m ([.ref x0] : List Value).toArray meth c cX8_kind 1 RX8 (some .int) D cs b H0 (XKd b H0 ad vs) [] 0 0 f.2.1 f.2.2 := ⟨E1, h0⟩
  refine ag_sub (lv' := [(0, .ref x0)]) [0] rfl ?_
  refine ag_iconst E1 dX8_kind_0 ki_0 ?_
  exact gw_iret E rfl ⟨_, rfl, h⟩ dX8_kind_1
theorem kX8_mostTold_c6 (l : Launch) (D : va_G) (cs : Nat → ClassId) (b : Nat) (H0 : Heap) (ad : Nat → Nat) (vs : Nat → Option Nat) (f : cW) (x0 : Nat) (x1 : Int32) (Q : Int32 → cW → Prop) (h : wX8_mostTold_c6 b cs ad vs f x0 x1 Q) : CON l D clC (tysC cs) b H0 (XKd b H0 ad vs) yX8_mostTold cX8_mostTold 2 (some .int) 0 0 [.ref x0, .int x1] f (qI Q) := by
  refine con_of (by decide) (Nat.le_of_ble_eq_true rfl) (fun p e R s m below meth c E1 h0 hin0 => ?_)
  have E : EX p R s m ([.ref x0, .int x1] : List Value).toArray meth c cX8_mostTold 2 RX8 (some .int) D cs b H0 (XKd b H0 ad vs) [] 0 0 f.2.1 f.2.2 := ⟨E1, h0⟩
  refine ag_sub (lv' := [(0, .ref x0), (1, .int x1)]) [0, 1] rfl ?_
  refine ag_iload_n E1 dX8_mostTold_0 rfl 1 rfl ?_
  refine ag_iconst E1 dX8_mostTold_1 ki_1 ?_
  refine ag_isub E1 dX8_mostTold_2 ?_
  exact gw_iret E rfl ⟨_, rfl, h⟩ dX8_mostTold_3
theorem kX8_init_c7 (l : Launch) (D : va_G) (cs : Nat → ClassId) (b : Nat) (H0 : Heap) (ad : Nat → Nat) (vs : Nat → Option Nat) (f : cW) (x0 : Nat) (x1 : Int32) (x2 : Nat) (Q : cW → Prop) (h : wX8_init_c7 b cs ad vs f x0 x1 x2 Q) : CON l D clC (tysC cs) b H0 (XKd b H0 ad vs) yX8_init cX8_init 3 none 1 20 [.ref x0, .int x1, .ref x2] f (qV Q) := by
  refine con_of (by decide) (Nat.le_of_ble_eq_true rfl) (fun p e R s m below meth c E1 h0 hin0 => ?_)
  have E : EX p R s m ([.ref x0, .int x1, .ref x2] : List Value).toArray meth c cX8_init 3 RX8 none D cs b H0 (XKd b H0 ad vs) [] 1 20 f.2.1 f.2.2 := ⟨E1, h0⟩
  have hin : meth.name = "<init>" := hin0 rfl
  refine ag_sub (lv' := [(0, .ref x0), (1, .int x1), (2, .ref x2)]) [0, 1, 2] rfl ?_
  refine ag_aload_n E1 dX8_init_0 rfl 0 rfl ?_
  refine ag_objInit E1 q914 q126 q127 (Nat.le_of_ble_eq_true rfl) (Nat.le_of_ble_eq_true rfl) (Nat.le_of_ble_eq_true rfl) dX8_init_1 ?_
  refine ag_aload_n E1 dX8_init_4 rfl 0 rfl ?_
  refine ag_iload_n E1 dX8_init_5 rfl 1 rfl ?_
  obtain ⟨y_1, y_2, v_3, hP_4, h⟩ := h
  refine ag_putFL E1 0 (ci := 7) (C := RX12) (T := TX12) (N := 3) (ty := .int) tyX12 tyX12_ok nmX12 rfl in_X12 (by decide) q915 (fun _ h => h) rfl hin rfl (by decide +kernel) rfl rfl dX8_init_6 hP_4 (Nat.lt_of_lt_of_le (Nat.le_refl _) (Nat.le_of_ble_eq_true rfl)) rfl (fun f_5 e_6 => ?_)
  have h := h f_5 e_6
  have hP_7 : f_5.1 x0 = some (.inr (7, vp_V [.int x1, .int y_2, v_3])) := by rw [e_6]; exact updP_s
  refine ag_aload_n E1 dX8_init_9 rfl 0 rfl ?_
  refine ag_aload_n E1 dX8_init_10 rfl 2 rfl ?_
  obtain ⟨n_8, c_9, hP_10, h⟩ := h
  refine ag_alen E1 (t0 := 1) hP_10 rfl rfl dX8_init_11 ?_
  refine ag_putFL E1 1 (ci := 7) (C := RX12) (T := TX12) (N := 3) (ty := .int) tyX12 tyX12_ok nmX12 rfl in_X12 (by decide) q917 (fun _ h => h) rfl hin rfl (by decide +kernel) rfl rfl dX8_init_12 hP_7 (Nat.lt_of_lt_of_le (Nat.le_refl _) (Nat.le_of_ble_eq_true rfl)) rfl (fun f_11 e_12 => ?_)
  have h := h f_11 e_12
  have hP_13 : f_11.1 x0 = some (.inr (7, vp_V [.int x1, .int (Int32.ofNat n_8), v_3])) := by rw [e_12]; exact updP_s
  refine ag_aload_n E1 dX8_init_15 rfl 0 rfl ?_
  refine ag_aload_n E1 dX8_init_16 rfl 2 rfl ?_
  refine ag_putFL E1 2 (ci := 7) (C := RX12) (T := TX12) (N := 3) (ty := (.array .byte)) tyX12 tyX12_ok nmX12 rfl in_X12 (by decide) q919 (fun _ h => h) rfl hin rfl (by decide +kernel) rfl rfl dX8_init_17 hP_13 (Nat.lt_of_lt_of_le (Nat.le_refl _) (Nat.le_of_ble_eq_true rfl)) rfl (fun f_14 e_15 => ?_)
  have h := h f_14 e_15
  have hP_16 : f_14.1 x0 = some (.inr (7, vp_V [.int x1, .int (Int32.ofNat n_8), .ref x2])) := by rw [e_15]; exact updP_s
  exact gw_vret E rfl ⟨rfl, h⟩ dX8_init_20
theorem kX8_daysOf_c7 (l : Launch) (D : va_G) (cs : Nat → ClassId) (b : Nat) (H0 : Heap) (ad : Nat → Nat) (vs : Nat → Option Nat) (f : cW) (x0 : Nat) (x1 : Int32) (x2 : Int32) (x3 : Int32) (Q : Int32 → cW → Prop) (h : wX8_daysOf_c7 b cs ad vs f x0 x1 x2 x3 Q) : CON l D clC (tysC cs) b H0 (XKd b H0 ad vs) yX8_daysOf cX8_daysOf 4 (some .int) 0 0 [.ref x0, .int x1, .int x2, .int x3] f (qI Q) := by
  refine con_of (by decide) (Nat.le_of_ble_eq_true rfl) (fun p e R s m below meth c E1 h0 hin0 => ?_)
  have E : EX p R s m ([.ref x0, .int x1, .int x2, .int x3] : List Value).toArray meth c cX8_daysOf 4 RX8 (some .int) D cs b H0 (XKd b H0 ad vs) [] 0 0 f.2.1 f.2.2 := ⟨E1, h0⟩
  refine ag_sub (lv' := [(0, .ref x0), (1, .int x1), (2, .int x2), (3, .int x3)]) [0, 1, 2, 3] rfl ?_
  refine ag_iload_n E1 dX8_daysOf_0 rfl 1 rfl ?_
  refine ag_aload_n E1 dX8_daysOf_1 rfl 0 rfl ?_
  obtain ⟨y_1, y_2, v_3, hP_4, h⟩ := h
  refine ag_getL E1 1 (ci := 7) (C := RX12) (T := TX12) (N := 3) rfl in_X12 (by decide) q917 (fun _ h => h) dX8_daysOf_2 hP_4 rfl ?_
  refine ag_icmp_ge E1 (tgt := 29) dX8_daysOf_5 (by decide) (fun c_5 => ?_) (fun c_5 => ?_)
  · have h := h.1 c_5
    refine ag_iconst E1 dX8_daysOf_29 ki_0 ?_
    exact gw_iret E rfl ⟨_, rfl, h⟩ dX8_daysOf_30
  · have h := h.2 c_5
    refine ag_aload_n E1 dX8_daysOf_8 rfl 0 rfl ?_
    refine ag_getL E1 2 (ci := 7) (C := RX12) (T := TX12) (N := 3) rfl in_X12 (by decide) q919 (fun _ h => h) dX8_daysOf_9 hP_4 rfl ?_
    refine ag_iload_n E1 dX8_daysOf_12 rfl 1 rfl ?_
    obtain ⟨a_5, e_6, h⟩ := h
    rw [e_6]
    obtain ⟨n_7, c_8, hP_9, h⟩ := h
    obtain ⟨hin_10, h⟩ := h
    refine ag_bald E1 (t0 := 1) hP_9 rfl hin_10 dX8_daysOf_13 ?_
    refine ag_iload_n E1 dX8_daysOf_14 rfl 3 rfl ?_
    refine ag_icmp_ge E1 (tgt := 29) dX8_daysOf_15 (by decide) (fun c_15 => ?_) (fun c_15 => ?_)
    · have h := h.1 c_15
      refine ag_iconst E1 dX8_daysOf_29 ki_0 ?_
      exact gw_iret E rfl ⟨_, rfl, h⟩ dX8_daysOf_30
    · have h := h.2 c_15
      refine ag_iconst E1 dX8_daysOf_18 ki_1 ?_
      refine ag_aload_n E1 dX8_daysOf_19 rfl 0 rfl ?_
      refine ag_getL E1 2 (ci := 7) (C := RX12) (T := TX12) (N := 3) rfl in_X12 (by decide) q919 (fun _ h => h) dX8_daysOf_20 hP_4 rfl ?_
      refine ag_iload_n E1 dX8_daysOf_23 rfl 1 rfl ?_
      obtain ⟨a_11, e_12, h⟩ := h
      rw [e_12]
      obtain ⟨n_13, c_14, hP_15, h⟩ := h
      obtain ⟨hin_16, h⟩ := h
      refine ag_bald E1 (t0 := 1) hP_15 rfl hin_16 dX8_daysOf_24 ?_
      refine ag_ishl E1 dX8_daysOf_25 ?_
      refine ag_goto E1 (tgt := 30) dX8_daysOf_26 (by decide) ?_
      exact gw_iret E rfl ⟨_, rfl, h⟩ dX8_daysOf_30
theorem kX8_worth_c7 (l : Launch) (D : va_G) (cs : Nat → ClassId) (b : Nat) (H0 : Heap) (ad : Nat → Nat) (vs : Nat → Option Nat) (f : cW) (x0 : Nat) (x1 : Int32) (x2 : Int32) (Q : Int32 → cW → Prop) (h : wX8_worth_c7 b cs ad vs f x0 x1 x2 Q) : CON l D clC (tysC cs) b H0 (XKd b H0 ad vs) yX8_worth cX8_worth 3 (some .int) 0 0 [.ref x0, .int x1, .int x2] f (qI Q) := by
  refine con_of (by decide) (Nat.le_of_ble_eq_true rfl) (fun p e R s m below meth c E1 h0 hin0 => ?_)
  have E : EX p R s m ([.ref x0, .int x1, .int x2] : List Value).toArray meth c cX8_worth 3 RX8 (some .int) D cs b H0 (XKd b H0 ad vs) [] 0 0 f.2.1 f.2.2 := ⟨E1, h0⟩
  refine ag_sub (lv' := [(0, .ref x0), (1, .int x1), (2, .int x2)]) [0, 1, 2] rfl ?_
  refine ag_iload_n E1 dX8_worth_0 rfl 1 rfl ?_
  exact gw_iret E rfl ⟨_, rfl, h⟩ dX8_worth_1
theorem kX8_moves_c7 (l : Launch) (D : va_G) (cs : Nat → ClassId) (b : Nat) (H0 : Heap) (ad : Nat → Nat) (vs : Nat → Option Nat) (f : cW) (x0 : Nat) (Q : Int32 → cW → Prop) (h : wX8_moves_c7 b cs ad vs f x0 Q) : CON l D clC (tysC cs) b H0 (XKd b H0 ad vs) yX8_moves cX8_moves 1 (some .boolean) 0 0 [.ref x0] f (qI Q) := by
  refine con_of (by decide) (Nat.le_of_ble_eq_true rfl) (fun p e R s m below meth c E1 h0 hin0 => ?_)
  have E : EX p R s m ([.ref x0] : List Value).toArray meth c cX8_moves 1 RX8 (some .boolean) D cs b H0 (XKd b H0 ad vs) [] 0 0 f.2.1 f.2.2 := ⟨E1, h0⟩
  refine ag_sub (lv' := [(0, .ref x0)]) [0] rfl ?_
  refine ag_iconst E1 dX8_moves_0 ki_1 ?_
  exact gw_zret E rfl (Or.inr rfl) ⟨_, rfl, h⟩ dX8_moves_1
theorem kX8_kind_c7 (l : Launch) (D : va_G) (cs : Nat → ClassId) (b : Nat) (H0 : Heap) (ad : Nat → Nat) (vs : Nat → Option Nat) (f : cW) (x0 : Nat) (Q : Int32 → cW → Prop) (h : wX8_kind_c7 b cs ad vs f x0 Q) : CON l D clC (tysC cs) b H0 (XKd b H0 ad vs) yX8_kind cX8_kind 1 (some .int) 0 0 [.ref x0] f (qI Q) := by
  refine con_of (by decide) (Nat.le_of_ble_eq_true rfl) (fun p e R s m below meth c E1 h0 hin0 => ?_)
  have E : EX p R s m ([.ref x0] : List Value).toArray meth c cX8_kind 1 RX8 (some .int) D cs b H0 (XKd b H0 ad vs) [] 0 0 f.2.1 f.2.2 := ⟨E1, h0⟩
  refine ag_sub (lv' := [(0, .ref x0)]) [0] rfl ?_
  refine ag_iconst E1 dX8_kind_0 ki_0 ?_
  exact gw_iret E rfl ⟨_, rfl, h⟩ dX8_kind_1
theorem kX8_mostTold_c7 (l : Launch) (D : va_G) (cs : Nat → ClassId) (b : Nat) (H0 : Heap) (ad : Nat → Nat) (vs : Nat → Option Nat) (f : cW) (x0 : Nat) (x1 : Int32) (Q : Int32 → cW → Prop) (h : wX8_mostTold_c7 b cs ad vs f x0 x1 Q) : CON l D clC (tysC cs) b H0 (XKd b H0 ad vs) yX8_mostTold cX8_mostTold 2 (some .int) 0 0 [.ref x0, .int x1] f (qI Q) := by
  refine con_of (by decide) (Nat.le_of_ble_eq_true rfl) (fun p e R s m below meth c E1 h0 hin0 => ?_)
  have E : EX p R s m ([.ref x0, .int x1] : List Value).toArray meth c cX8_mostTold 2 RX8 (some .int) D cs b H0 (XKd b H0 ad vs) [] 0 0 f.2.1 f.2.2 := ⟨E1, h0⟩
  refine ag_sub (lv' := [(0, .ref x0), (1, .int x1)]) [0, 1] rfl ?_
  refine ag_iload_n E1 dX8_mostTold_0 rfl 1 rfl ?_
  refine ag_iconst E1 dX8_mostTold_1 ki_1 ?_
  refine ag_isub E1 dX8_mostTold_2 ?_
  exact gw_iret E rfl ⟨_, rfl, h⟩ dX8_mostTold_3
theorem kX8_init_c8 (l : Launch) (D : va_G) (cs : Nat → ClassId) (b : Nat) (H0 : Heap) (ad : Nat → Nat) (vs : Nat → Option Nat) (f : cW) (x0 : Nat) (x1 : Int32) (x2 : Nat) (Q : cW → Prop) (h : wX8_init_c8 b cs ad vs f x0 x1 x2 Q) : CON l D clC (tysC cs) b H0 (XKd b H0 ad vs) yX8_init cX8_init 3 none 1 20 [.ref x0, .int x1, .ref x2] f (qV Q) := by
  refine con_of (by decide) (Nat.le_of_ble_eq_true rfl) (fun p e R s m below meth c E1 h0 hin0 => ?_)
  have E : EX p R s m ([.ref x0, .int x1, .ref x2] : List Value).toArray meth c cX8_init 3 RX8 none D cs b H0 (XKd b H0 ad vs) [] 1 20 f.2.1 f.2.2 := ⟨E1, h0⟩
  have hin : meth.name = "<init>" := hin0 rfl
  refine ag_sub (lv' := [(0, .ref x0), (1, .int x1), (2, .ref x2)]) [0, 1, 2] rfl ?_
  refine ag_aload_n E1 dX8_init_0 rfl 0 rfl ?_
  refine ag_objInit E1 q914 q126 q127 (Nat.le_of_ble_eq_true rfl) (Nat.le_of_ble_eq_true rfl) (Nat.le_of_ble_eq_true rfl) dX8_init_1 ?_
  refine ag_aload_n E1 dX8_init_4 rfl 0 rfl ?_
  refine ag_iload_n E1 dX8_init_5 rfl 1 rfl ?_
  obtain ⟨y_1, y_2, v_3, hP_4, h⟩ := h
  refine ag_putFL E1 0 (ci := 8) (C := RX13) (T := TX13) (N := 3) (ty := .int) tyX13 tyX13_ok nmX13 rfl in_X13 (by decide) q915 (fun _ h => h) rfl hin rfl (by decide +kernel) rfl rfl dX8_init_6 hP_4 (Nat.lt_of_lt_of_le (Nat.le_refl _) (Nat.le_of_ble_eq_true rfl)) rfl (fun f_5 e_6 => ?_)
  have h := h f_5 e_6
  have hP_7 : f_5.1 x0 = some (.inr (8, vp_V [.int x1, .int y_2, v_3])) := by rw [e_6]; exact updP_s
  refine ag_aload_n E1 dX8_init_9 rfl 0 rfl ?_
  refine ag_aload_n E1 dX8_init_10 rfl 2 rfl ?_
  obtain ⟨n_8, c_9, hP_10, h⟩ := h
  refine ag_alen E1 (t0 := 1) hP_10 rfl rfl dX8_init_11 ?_
  refine ag_putFL E1 1 (ci := 8) (C := RX13) (T := TX13) (N := 3) (ty := .int) tyX13 tyX13_ok nmX13 rfl in_X13 (by decide) q917 (fun _ h => h) rfl hin rfl (by decide +kernel) rfl rfl dX8_init_12 hP_7 (Nat.lt_of_lt_of_le (Nat.le_refl _) (Nat.le_of_ble_eq_true rfl)) rfl (fun f_11 e_12 => ?_)
  have h := h f_11 e_12
  have hP_13 : f_11.1 x0 = some (.inr (8, vp_V [.int x1, .int (Int32.ofNat n_8), v_3])) := by rw [e_12]; exact updP_s
  refine ag_aload_n E1 dX8_init_15 rfl 0 rfl ?_
  refine ag_aload_n E1 dX8_init_16 rfl 2 rfl ?_
  refine ag_putFL E1 2 (ci := 8) (C := RX13) (T := TX13) (N := 3) (ty := (.array .byte)) tyX13 tyX13_ok nmX13 rfl in_X13 (by decide) q919 (fun _ h => h) rfl hin rfl (by decide +kernel) rfl rfl dX8_init_17 hP_13 (Nat.lt_of_lt_of_le (Nat.le_refl _) (Nat.le_of_ble_eq_true rfl)) rfl (fun f_14 e_15 => ?_)
  have h := h f_14 e_15
  have hP_16 : f_14.1 x0 = some (.inr (8, vp_V [.int x1, .int (Int32.ofNat n_8), .ref x2])) := by rw [e_15]; exact updP_s
  exact gw_vret E rfl ⟨rfl, h⟩ dX8_init_20
theorem kX8_daysOf_c8 (l : Launch) (D : va_G) (cs : Nat → ClassId) (b : Nat) (H0 : Heap) (ad : Nat → Nat) (vs : Nat → Option Nat) (f : cW) (x0 : Nat) (x1 : Int32) (x2 : Int32) (x3 : Int32) (Q : Int32 → cW → Prop) (h : wX8_daysOf_c8 b cs ad vs f x0 x1 x2 x3 Q) : CON l D clC (tysC cs) b H0 (XKd b H0 ad vs) yX8_daysOf cX8_daysOf 4 (some .int) 0 0 [.ref x0, .int x1, .int x2, .int x3] f (qI Q) := by
  refine con_of (by decide) (Nat.le_of_ble_eq_true rfl) (fun p e R s m below meth c E1 h0 hin0 => ?_)
  have E : EX p R s m ([.ref x0, .int x1, .int x2, .int x3] : List Value).toArray meth c cX8_daysOf 4 RX8 (some .int) D cs b H0 (XKd b H0 ad vs) [] 0 0 f.2.1 f.2.2 := ⟨E1, h0⟩
  refine ag_sub (lv' := [(0, .ref x0), (1, .int x1), (2, .int x2), (3, .int x3)]) [0, 1, 2, 3] rfl ?_
  refine ag_iload_n E1 dX8_daysOf_0 rfl 1 rfl ?_
  refine ag_aload_n E1 dX8_daysOf_1 rfl 0 rfl ?_
  obtain ⟨y_1, y_2, v_3, hP_4, h⟩ := h
  refine ag_getL E1 1 (ci := 8) (C := RX13) (T := TX13) (N := 3) rfl in_X13 (by decide) q917 (fun _ h => h) dX8_daysOf_2 hP_4 rfl ?_
  refine ag_icmp_ge E1 (tgt := 29) dX8_daysOf_5 (by decide) (fun c_5 => ?_) (fun c_5 => ?_)
  · have h := h.1 c_5
    refine ag_iconst E1 dX8_daysOf_29 ki_0 ?_
    exact gw_iret E rfl ⟨_, rfl, h⟩ dX8_daysOf_30
  · have h := h.2 c_5
    refine ag_aload_n E1 dX8_daysOf_8 rfl 0 rfl ?_
    refine ag_getL E1 2 (ci := 8) (C := RX13) (T := TX13) (N := 3) rfl in_X13 (by decide) q919 (fun _ h => h) dX8_daysOf_9 hP_4 rfl ?_
    refine ag_iload_n E1 dX8_daysOf_12 rfl 1 rfl ?_
    obtain ⟨a_5, e_6, h⟩ := h
    rw [e_6]
    obtain ⟨n_7, c_8, hP_9, h⟩ := h
    obtain ⟨hin_10, h⟩ := h
    refine ag_bald E1 (t0 := 1) hP_9 rfl hin_10 dX8_daysOf_13 ?_
    refine ag_iload_n E1 dX8_daysOf_14 rfl 3 rfl ?_
    refine ag_icmp_ge E1 (tgt := 29) dX8_daysOf_15 (by decide) (fun c_15 => ?_) (fun c_15 => ?_)
    · have h := h.1 c_15
      refine ag_iconst E1 dX8_daysOf_29 ki_0 ?_
      exact gw_iret E rfl ⟨_, rfl, h⟩ dX8_daysOf_30
    · have h := h.2 c_15
      refine ag_iconst E1 dX8_daysOf_18 ki_1 ?_
      refine ag_aload_n E1 dX8_daysOf_19 rfl 0 rfl ?_
      refine ag_getL E1 2 (ci := 8) (C := RX13) (T := TX13) (N := 3) rfl in_X13 (by decide) q919 (fun _ h => h) dX8_daysOf_20 hP_4 rfl ?_
      refine ag_iload_n E1 dX8_daysOf_23 rfl 1 rfl ?_
      obtain ⟨a_11, e_12, h⟩ := h
      rw [e_12]
      obtain ⟨n_13, c_14, hP_15, h⟩ := h
      obtain ⟨hin_16, h⟩ := h
      refine ag_bald E1 (t0 := 1) hP_15 rfl hin_16 dX8_daysOf_24 ?_
      refine ag_ishl E1 dX8_daysOf_25 ?_
      refine ag_goto E1 (tgt := 30) dX8_daysOf_26 (by decide) ?_
      exact gw_iret E rfl ⟨_, rfl, h⟩ dX8_daysOf_30
theorem kX8_worth_c8 (l : Launch) (D : va_G) (cs : Nat → ClassId) (b : Nat) (H0 : Heap) (ad : Nat → Nat) (vs : Nat → Option Nat) (f : cW) (x0 : Nat) (x1 : Int32) (x2 : Int32) (Q : Int32 → cW → Prop) (h : wX8_worth_c8 b cs ad vs f x0 x1 x2 Q) : CON l D clC (tysC cs) b H0 (XKd b H0 ad vs) yX8_worth cX8_worth 3 (some .int) 0 0 [.ref x0, .int x1, .int x2] f (qI Q) := by
  refine con_of (by decide) (Nat.le_of_ble_eq_true rfl) (fun p e R s m below meth c E1 h0 hin0 => ?_)
  have E : EX p R s m ([.ref x0, .int x1, .int x2] : List Value).toArray meth c cX8_worth 3 RX8 (some .int) D cs b H0 (XKd b H0 ad vs) [] 0 0 f.2.1 f.2.2 := ⟨E1, h0⟩
  refine ag_sub (lv' := [(0, .ref x0), (1, .int x1), (2, .int x2)]) [0, 1, 2] rfl ?_
  refine ag_iload_n E1 dX8_worth_0 rfl 1 rfl ?_
  exact gw_iret E rfl ⟨_, rfl, h⟩ dX8_worth_1
theorem kX8_moves_c8 (l : Launch) (D : va_G) (cs : Nat → ClassId) (b : Nat) (H0 : Heap) (ad : Nat → Nat) (vs : Nat → Option Nat) (f : cW) (x0 : Nat) (Q : Int32 → cW → Prop) (h : wX8_moves_c8 b cs ad vs f x0 Q) : CON l D clC (tysC cs) b H0 (XKd b H0 ad vs) yX8_moves cX8_moves 1 (some .boolean) 0 0 [.ref x0] f (qI Q) := by
  refine con_of (by decide) (Nat.le_of_ble_eq_true rfl) (fun p e R s m below meth c E1 h0 hin0 => ?_)
  have E : EX p R s m ([.ref x0] : List Value).toArray meth c cX8_moves 1 RX8 (some .boolean) D cs b H0 (XKd b H0 ad vs) [] 0 0 f.2.1 f.2.2 := ⟨E1, h0⟩
  refine ag_sub (lv' := [(0, .ref x0)]) [0] rfl ?_
  refine ag_iconst E1 dX8_moves_0 ki_1 ?_
  exact gw_zret E rfl (Or.inr rfl) ⟨_, rfl, h⟩ dX8_moves_1
theorem kX8_kind_c8 (l : Launch) (D : va_G) (cs : Nat → ClassId) (b : Nat) (H0 : Heap) (ad : Nat → Nat) (vs : Nat → Option Nat) (f : cW) (x0 : Nat) (Q : Int32 → cW → Prop) (h : wX8_kind_c8 b cs ad vs f x0 Q) : CON l D clC (tysC cs) b H0 (XKd b H0 ad vs) yX8_kind cX8_kind 1 (some .int) 0 0 [.ref x0] f (qI Q) := by
  refine con_of (by decide) (Nat.le_of_ble_eq_true rfl) (fun p e R s m below meth c E1 h0 hin0 => ?_)
  have E : EX p R s m ([.ref x0] : List Value).toArray meth c cX8_kind 1 RX8 (some .int) D cs b H0 (XKd b H0 ad vs) [] 0 0 f.2.1 f.2.2 := ⟨E1, h0⟩
  refine ag_sub (lv' := [(0, .ref x0)]) [0] rfl ?_
  refine ag_iconst E1 dX8_kind_0 ki_0 ?_
  exact gw_iret E rfl ⟨_, rfl, h⟩ dX8_kind_1
theorem kX8_mostTold_c8 (l : Launch) (D : va_G) (cs : Nat → ClassId) (b : Nat) (H0 : Heap) (ad : Nat → Nat) (vs : Nat → Option Nat) (f : cW) (x0 : Nat) (x1 : Int32) (Q : Int32 → cW → Prop) (h : wX8_mostTold_c8 b cs ad vs f x0 x1 Q) : CON l D clC (tysC cs) b H0 (XKd b H0 ad vs) yX8_mostTold cX8_mostTold 2 (some .int) 0 0 [.ref x0, .int x1] f (qI Q) := by
  refine con_of (by decide) (Nat.le_of_ble_eq_true rfl) (fun p e R s m below meth c E1 h0 hin0 => ?_)
  have E : EX p R s m ([.ref x0, .int x1] : List Value).toArray meth c cX8_mostTold 2 RX8 (some .int) D cs b H0 (XKd b H0 ad vs) [] 0 0 f.2.1 f.2.2 := ⟨E1, h0⟩
  refine ag_sub (lv' := [(0, .ref x0), (1, .int x1)]) [0, 1] rfl ?_
  refine ag_iload_n E1 dX8_mostTold_0 rfl 1 rfl ?_
  refine ag_iconst E1 dX8_mostTold_1 ki_1 ?_
  refine ag_isub E1 dX8_mostTold_2 ?_
  exact gw_iret E rfl ⟨_, rfl, h⟩ dX8_mostTold_3
theorem kX9_init_c4 (l : Launch) (D : va_G) (cs : Nat → ClassId) (b : Nat) (H0 : Heap) (ad : Nat → Nat) (vs : Nat → Option Nat) (f : cW) (x0 : Nat) (x1 : Int32) (x2 : Nat) (Q : cW → Prop) (h : wX9_init_c4 b cs ad vs f x0 x1 x2 Q) : CON l D clC (tysC cs) b H0 (XKd b H0 ad vs) yX9_init cX9_init 3 none 2 42 [.ref x0, .int x1, .ref x2] f (qV Q) := by
  refine con_of (by decide) (Nat.le_of_ble_eq_true rfl) (fun p e R s m below meth c E1 h0 hin0 => ?_)
  have E : EX p R s m ([.ref x0, .int x1, .ref x2] : List Value).toArray meth c cX9_init 3 RX9 none D cs b H0 (XKd b H0 ad vs) [] 2 42 f.2.1 f.2.2 := ⟨E1, h0⟩
  have hin : meth.name = "<init>" := hin0 rfl
  refine ag_sub (lv' := [(0, .ref x0), (1, .int x1), (2, .ref x2)]) [0, 1, 2] rfl ?_
  refine ag_aload_n E1 dX9_init_0 rfl 0 rfl ?_
  refine ag_iload_n E1 dX9_init_1 rfl 1 rfl ?_
  refine ag_aload_n E1 dX9_init_2 rfl 2 rfl ?_
  refine ag_callI E1 (kX8_init_c4 _ _ _ _ _ _ _ _ _ _ _ _ h) q913 q108 q937 q912 rfl hdX8_init (Nat.le_of_ble_eq_true rfl) (Nat.le_of_ble_eq_true rfl) (As := [.int x1, .ref x2]) rfl (Nat.le_of_ble_eq_true rfl) dX9_init_3 (fun v_ f_1 hv => ?_) rfl
  obtain ⟨rfl, h⟩ := hv
  exact gw_vret E rfl ⟨rfl, h⟩ dX9_init_6
theorem hdX9_init : yX9_init.cls ≠ "java/lang/invoke/MethodHandle" ∧ yX9_init.cls ≠ "java/lang/invoke/VarHandle" ∧ (parseMethodDescriptor yX9_init.desc).map (fun d => d.parameters.length) = some 2 := by decide +kernel
theorem kX9_kind_c4 (l : Launch) (D : va_G) (cs : Nat → ClassId) (b : Nat) (H0 : Heap) (ad : Nat → Nat) (vs : Nat → Option Nat) (f : cW) (x0 : Nat) (Q : Int32 → cW → Prop) (h : wX9_kind_c4 b cs ad vs f x0 Q) : CON l D clC (tysC cs) b H0 (XKd b H0 ad vs) yX9_kind cX9_kind 1 (some .int) 0 0 [.ref x0] f (qI Q) := by
  refine con_of (by decide) (Nat.le_of_ble_eq_true rfl) (fun p e R s m below meth c E1 h0 hin0 => ?_)
  have E : EX p R s m ([.ref x0] : List Value).toArray meth c cX9_kind 1 RX9 (some .int) D cs b H0 (XKd b H0 ad vs) [] 0 0 f.2.1 f.2.2 := ⟨E1, h0⟩
  refine ag_sub (lv' := [(0, .ref x0)]) [0] rfl ?_
  refine ag_iconst E1 dX9_kind_0 ki_1 ?_
  exact gw_iret E rfl ⟨_, rfl, h⟩ dX9_kind_1
theorem hdX9_kind : yX9_kind.cls ≠ "java/lang/invoke/MethodHandle" ∧ yX9_kind.cls ≠ "java/lang/invoke/VarHandle" ∧ (parseMethodDescriptor yX9_kind.desc).map (fun d => d.parameters.length) = some 0 := by decide +kernel
theorem kX9_mostTold_c4 (l : Launch) (D : va_G) (cs : Nat → ClassId) (b : Nat) (H0 : Heap) (ad : Nat → Nat) (vs : Nat → Option Nat) (f : cW) (x0 : Nat) (x1 : Int32) (Q : Int32 → cW → Prop) (h : wX9_mostTold_c4 b cs ad vs f x0 x1 Q) : CON l D clC (tysC cs) b H0 (XKd b H0 ad vs) yX9_mostTold cX9_mostTold 2 (some .int) 0 0 [.ref x0, .int x1] f (qI Q) := by
  refine con_of (by decide) (Nat.le_of_ble_eq_true rfl) (fun p e R s m below meth c E1 h0 hin0 => ?_)
  have E : EX p R s m ([.ref x0, .int x1] : List Value).toArray meth c cX9_mostTold 2 RX9 (some .int) D cs b H0 (XKd b H0 ad vs) [] 0 0 f.2.1 f.2.2 := ⟨E1, h0⟩
  refine ag_sub (lv' := [(0, .ref x0), (1, .int x1)]) [0, 1] rfl ?_
  refine ag_bipush E1 dX9_mostTold_0 kb_7 ?_
  exact gw_iret E rfl ⟨_, rfl, h⟩ dX9_mostTold_2
theorem hdX9_mostTold : yX9_mostTold.cls ≠ "java/lang/invoke/MethodHandle" ∧ yX9_mostTold.cls ≠ "java/lang/invoke/VarHandle" ∧ (parseMethodDescriptor yX9_mostTold.desc).map (fun d => d.parameters.length) = some 1 := by decide +kernel
theorem kX9_worth_c4 (l : Launch) (D : va_G) (cs : Nat → ClassId) (b : Nat) (H0 : Heap) (ad : Nat → Nat) (vs : Nat → Option Nat) (f : cW) (x0 : Nat) (x1 : Int32) (x2 : Int32) (Q : Int32 → cW → Prop) (h : wX9_worth_c4 b cs ad vs f x0 x1 x2 Q) : CON l D clC (tysC cs) b H0 (XKd b H0 ad vs) yX9_worth cX9_worth 3 (some .int) 1 22 [.ref x0, .int x1, .int x2] f (qI Q) := by
  refine con_of (by decide) (Nat.le_of_ble_eq_true rfl) (fun p e R s m below meth c E1 h0 hin0 => ?_)
  have E : EX p R s m ([.ref x0, .int x1, .int x2] : List Value).toArray meth c cX9_worth 3 RX9 (some .int) D cs b H0 (XKd b H0 ad vs) [] 1 22 f.2.1 f.2.2 := ⟨E1, h0⟩
  refine ag_sub (lv' := [(0, .ref x0), (1, .int x1), (2, .int x2)]) [0, 1, 2] rfl ?_
  refine ag_iload_n E1 dX9_worth_0 rfl 2 rfl ?_
  refine ag_if_ne E1 (tgt := 8) dX9_worth_1 (by decide) (fun c_1 => ?_) (fun c_1 => ?_)
  · have h := h.1 c_1
    refine ag_aload_n E1 dX9_worth_8 rfl 0 rfl ?_
    refine ag_iload_n E1 dX9_worth_9 rfl 1 rfl ?_
    refine ag_iload_n E1 dX9_worth_10 rfl 2 rfl ?_
    obtain ⟨y_2, y_3, v_4, hP_5, h⟩ := h
    refine ag_callSU E1 (ci := 4) (C := RX9) (T0 := TX9) (n2 := 3) hP_5 rfl (kX8_worth_c4 _ _ _ _ _ _ _ _ _ _ _ _ h) (lw_app (a := [.methodLink RX9 _ yX8_worth, .sameMethod _ _ _ _, .superclass _ _, .instanceMethod yX8_worth, .initialized _]) (by intro w hw; simp only [List.mem_cons, List.not_mem_nil, or_false] at hw; rcases hw with e | e | e | e | e <;> (rw [e]; first | exact q1148 | exact q1144 | exact q941 | exact q1142 | exact q108)) (lw_meth q1162)) ⟨by decide, hdX8_worth.2.2⟩ (Nat.le_of_ble_eq_true rfl) (Nat.le_of_ble_eq_true rfl) (As := [.int x1, .int x2]) rfl (Nat.le_of_ble_eq_true rfl) dX9_worth_11 rfl (fun v_ f_1 hv => ?_)
    obtain ⟨r_6, rfl, h⟩ := hv
    exact gw_iret E rfl ⟨_, rfl, h⟩ dX9_worth_14
  · have h := h.2 c_1
    refine ag_iconst E1 dX9_worth_4 ki_m1 ?_
    refine ag_goto E1 (tgt := 14) dX9_worth_5 (by decide) ?_
    exact gw_iret E rfl ⟨_, rfl, h⟩ dX9_worth_14
theorem hdX9_worth : yX9_worth.cls ≠ "java/lang/invoke/MethodHandle" ∧ yX9_worth.cls ≠ "java/lang/invoke/VarHandle" ∧ (parseMethodDescriptor yX9_worth.desc).map (fun d => d.parameters.length) = some 2 := by decide +kernel
theorem kX9_init_c8 (l : Launch) (D : va_G) (cs : Nat → ClassId) (b : Nat) (H0 : Heap) (ad : Nat → Nat) (vs : Nat → Option Nat) (f : cW) (x0 : Nat) (x1 : Int32) (x2 : Nat) (Q : cW → Prop) (h : wX9_init_c8 b cs ad vs f x0 x1 x2 Q) : CON l D clC (tysC cs) b H0 (XKd b H0 ad vs) yX9_init cX9_init 3 none 2 42 [.ref x0, .int x1, .ref x2] f (qV Q) := by
  refine con_of (by decide) (Nat.le_of_ble_eq_true rfl) (fun p e R s m below meth c E1 h0 hin0 => ?_)
  have E : EX p R s m ([.ref x0, .int x1, .ref x2] : List Value).toArray meth c cX9_init 3 RX9 none D cs b H0 (XKd b H0 ad vs) [] 2 42 f.2.1 f.2.2 := ⟨E1, h0⟩
  have hin : meth.name = "<init>" := hin0 rfl
  refine ag_sub (lv' := [(0, .ref x0), (1, .int x1), (2, .ref x2)]) [0, 1, 2] rfl ?_
  refine ag_aload_n E1 dX9_init_0 rfl 0 rfl ?_
  refine ag_iload_n E1 dX9_init_1 rfl 1 rfl ?_
  refine ag_aload_n E1 dX9_init_2 rfl 2 rfl ?_
  refine ag_callI E1 (kX8_init_c8 _ _ _ _ _ _ _ _ _ _ _ _ h) q913 q108 q937 q912 rfl hdX8_init (Nat.le_of_ble_eq_true rfl) (Nat.le_of_ble_eq_true rfl) (As := [.int x1, .ref x2]) rfl (Nat.le_of_ble_eq_true rfl) dX9_init_3 (fun v_ f_1 hv => ?_) rfl
  obtain ⟨rfl, h⟩ := hv
  exact gw_vret E rfl ⟨rfl, h⟩ dX9_init_6
theorem kX9_kind_c8 (l : Launch) (D : va_G) (cs : Nat → ClassId) (b : Nat) (H0 : Heap) (ad : Nat → Nat) (vs : Nat → Option Nat) (f : cW) (x0 : Nat) (Q : Int32 → cW → Prop) (h : wX9_kind_c8 b cs ad vs f x0 Q) : CON l D clC (tysC cs) b H0 (XKd b H0 ad vs) yX9_kind cX9_kind 1 (some .int) 0 0 [.ref x0] f (qI Q) := by
  refine con_of (by decide) (Nat.le_of_ble_eq_true rfl) (fun p e R s m below meth c E1 h0 hin0 => ?_)
  have E : EX p R s m ([.ref x0] : List Value).toArray meth c cX9_kind 1 RX9 (some .int) D cs b H0 (XKd b H0 ad vs) [] 0 0 f.2.1 f.2.2 := ⟨E1, h0⟩
  refine ag_sub (lv' := [(0, .ref x0)]) [0] rfl ?_
  refine ag_iconst E1 dX9_kind_0 ki_1 ?_
  exact gw_iret E rfl ⟨_, rfl, h⟩ dX9_kind_1
theorem kX9_mostTold_c8 (l : Launch) (D : va_G) (cs : Nat → ClassId) (b : Nat) (H0 : Heap) (ad : Nat → Nat) (vs : Nat → Option Nat) (f : cW) (x0 : Nat) (x1 : Int32) (Q : Int32 → cW → Prop) (h : wX9_mostTold_c8 b cs ad vs f x0 x1 Q) : CON l D clC (tysC cs) b H0 (XKd b H0 ad vs) yX9_mostTold cX9_mostTold 2 (some .int) 0 0 [.ref x0, .int x1] f (qI Q) := by
  refine con_of (by decide) (Nat.le_of_ble_eq_true rfl) (fun p e R s m below meth c E1 h0 hin0 => ?_)
  have E : EX p R s m ([.ref x0, .int x1] : List Value).toArray meth c cX9_mostTold 2 RX9 (some .int) D cs b H0 (XKd b H0 ad vs) [] 0 0 f.2.1 f.2.2 := ⟨E1, h0⟩
  refine ag_sub (lv' := [(0, .ref x0), (1, .int x1)]) [0, 1] rfl ?_
  refine ag_bipush E1 dX9_mostTold_0 kb_7 ?_
  exact gw_iret E rfl ⟨_, rfl, h⟩ dX9_mostTold_2
theorem kX9_worth_c8 (l : Launch) (D : va_G) (cs : Nat → ClassId) (b : Nat) (H0 : Heap) (ad : Nat → Nat) (vs : Nat → Option Nat) (f : cW) (x0 : Nat) (x1 : Int32) (x2 : Int32) (Q : Int32 → cW → Prop) (h : wX9_worth_c8 b cs ad vs f x0 x1 x2 Q) : CON l D clC (tysC cs) b H0 (XKd b H0 ad vs) yX9_worth cX9_worth 3 (some .int) 1 22 [.ref x0, .int x1, .int x2] f (qI Q) := by
  refine con_of (by decide) (Nat.le_of_ble_eq_true rfl) (fun p e R s m below meth c E1 h0 hin0 => ?_)
  have E : EX p R s m ([.ref x0, .int x1, .int x2] : List Value).toArray meth c cX9_worth 3 RX9 (some .int) D cs b H0 (XKd b H0 ad vs) [] 1 22 f.2.1 f.2.2 := ⟨E1, h0⟩
  refine ag_sub (lv' := [(0, .ref x0), (1, .int x1), (2, .int x2)]) [0, 1, 2] rfl ?_
  refine ag_iload_n E1 dX9_worth_0 rfl 2 rfl ?_
  refine ag_if_ne E1 (tgt := 8) dX9_worth_1 (by decide) (fun c_1 => ?_) (fun c_1 => ?_)
  · have h := h.1 c_1
    refine ag_aload_n E1 dX9_worth_8 rfl 0 rfl ?_
    refine ag_iload_n E1 dX9_worth_9 rfl 1 rfl ?_
    refine ag_iload_n E1 dX9_worth_10 rfl 2 rfl ?_
    obtain ⟨y_2, y_3, v_4, hP_5, h⟩ := h
    refine ag_callSU E1 (ci := 8) (C := RX13) (T0 := TX13) (n2 := 3) hP_5 rfl (kX8_worth_c8 _ _ _ _ _ _ _ _ _ _ _ _ h) (lw_app (a := [.methodLink RX9 _ yX8_worth, .sameMethod _ _ _ _, .superclass _ _, .instanceMethod yX8_worth, .initialized _]) (by intro w hw; simp only [List.mem_cons, List.not_mem_nil, or_false] at hw; rcases hw with e | e | e | e | e <;> (rw [e]; first | exact q1148 | exact q1144 | exact q941 | exact q1142 | exact q108)) (lw_meth q1162)) ⟨by decide, hdX8_worth.2.2⟩ (Nat.le_of_ble_eq_true rfl) (Nat.le_of_ble_eq_true rfl) (As := [.int x1, .int x2]) rfl (Nat.le_of_ble_eq_true rfl) dX9_worth_11 rfl (fun v_ f_1 hv => ?_)
    obtain ⟨r_6, rfl, h⟩ := hv
    exact gw_iret E rfl ⟨_, rfl, h⟩ dX9_worth_14
  · have h := h.2 c_1
    refine ag_iconst E1 dX9_worth_4 ki_m1 ?_
    refine ag_goto E1 (tgt := 14) dX9_worth_5 (by decide) ?_
    exact gw_iret E rfl ⟨_, rfl, h⟩ dX9_worth_14
theorem kX10_init_c5 (l : Launch) (D : va_G) (cs : Nat → ClassId) (b : Nat) (H0 : Heap) (ad : Nat → Nat) (vs : Nat → Option Nat) (f : cW) (x0 : Nat) (x1 : Int32) (x2 : Nat) (Q : cW → Prop) (h : wX10_init_c5 b cs ad vs f x0 x1 x2 Q) : CON l D clC (tysC cs) b H0 (XKd b H0 ad vs) yX10_init cX10_init 3 none 2 42 [.ref x0, .int x1, .ref x2] f (qV Q) := by
  refine con_of (by decide) (Nat.le_of_ble_eq_true rfl) (fun p e R s m below meth c E1 h0 hin0 => ?_)
  have E : EX p R s m ([.ref x0, .int x1, .ref x2] : List Value).toArray meth c cX10_init 3 RX10 none D cs b H0 (XKd b H0 ad vs) [] 2 42 f.2.1 f.2.2 := ⟨E1, h0⟩
  have hin : meth.name = "<init>" := hin0 rfl
  refine ag_sub (lv' := [(0, .ref x0), (1, .int x1), (2, .ref x2)]) [0, 1, 2] rfl ?_
  refine ag_aload_n E1 dX10_init_0 rfl 0 rfl ?_
  refine ag_iload_n E1 dX10_init_1 rfl 1 rfl ?_
  refine ag_aload_n E1 dX10_init_2 rfl 2 rfl ?_
  refine ag_callI E1 (kX8_init_c5 _ _ _ _ _ _ _ _ _ _ _ _ h) q913 q108 q947 q912 rfl hdX8_init (Nat.le_of_ble_eq_true rfl) (Nat.le_of_ble_eq_true rfl) (As := [.int x1, .ref x2]) rfl (Nat.le_of_ble_eq_true rfl) dX10_init_3 (fun v_ f_1 hv => ?_) rfl
  obtain ⟨rfl, h⟩ := hv
  exact gw_vret E rfl ⟨rfl, h⟩ dX10_init_6
theorem hdX10_init : yX10_init.cls ≠ "java/lang/invoke/MethodHandle" ∧ yX10_init.cls ≠ "java/lang/invoke/VarHandle" ∧ (parseMethodDescriptor yX10_init.desc).map (fun d => d.parameters.length) = some 2 := by decide +kernel
theorem kX10_kind_c5 (l : Launch) (D : va_G) (cs : Nat → ClassId) (b : Nat) (H0 : Heap) (ad : Nat → Nat) (vs : Nat → Option Nat) (f : cW) (x0 : Nat) (Q : Int32 → cW → Prop) (h : wX10_kind_c5 b cs ad vs f x0 Q) : CON l D clC (tysC cs) b H0 (XKd b H0 ad vs) yX10_kind cX10_kind 1 (some .int) 0 0 [.ref x0] f (qI Q) := by
  refine con_of (by decide) (Nat.le_of_ble_eq_true rfl) (fun p e R s m below meth c E1 h0 hin0 => ?_)
  have E : EX p R s m ([.ref x0] : List Value).toArray meth c cX10_kind 1 RX10 (some .int) D cs b H0 (XKd b H0 ad vs) [] 0 0 f.2.1 f.2.2 := ⟨E1, h0⟩
  refine ag_sub (lv' := [(0, .ref x0)]) [0] rfl ?_
  refine ag_iconst E1 dX10_kind_0 ki_2 ?_
  exact gw_iret E rfl ⟨_, rfl, h⟩ dX10_kind_1
theorem hdX10_kind : yX10_kind.cls ≠ "java/lang/invoke/MethodHandle" ∧ yX10_kind.cls ≠ "java/lang/invoke/VarHandle" ∧ (parseMethodDescriptor yX10_kind.desc).map (fun d => d.parameters.length) = some 0 := by decide +kernel
theorem kX10_daysOf_c5 (l : Launch) (D : va_G) (cs : Nat → ClassId) (b : Nat) (H0 : Heap) (ad : Nat → Nat) (vs : Nat → Option Nat) (f : cW) (x0 : Nat) (x1 : Int32) (x2 : Int32) (x3 : Int32) (Q : Int32 → cW → Prop) (h : wX10_daysOf_c5 b cs ad vs f x0 x1 x2 x3 Q) : CON l D clC (tysC cs) b H0 (XKd b H0 ad vs) yX10_daysOf cX10_daysOf 5 (some .int) 1 23 [.ref x0, .int x1, .int x2, .int x3] f (qI Q) := by
  refine con_of (by decide) (Nat.le_of_ble_eq_true rfl) (fun p e R s m below meth c E1 h0 hin0 => ?_)
  have E : EX p R s m ([.ref x0, .int x1, .int x2, .int x3] : List Value).toArray meth c cX10_daysOf 5 RX10 (some .int) D cs b H0 (XKd b H0 ad vs) [] 1 23 f.2.1 f.2.2 := ⟨E1, h0⟩
  refine ag_sub (lv' := [(0, .ref x0), (1, .int x1), (2, .int x2), (3, .int x3)]) [0, 1, 2, 3] rfl ?_
  refine ag_aload_n E1 dX10_daysOf_0 rfl 0 rfl ?_
  refine ag_iload_n E1 dX10_daysOf_1 rfl 1 rfl ?_
  refine ag_iload_n E1 dX10_daysOf_2 rfl 2 rfl ?_
  refine ag_iload_n E1 dX10_daysOf_3 rfl 3 rfl ?_
  obtain ⟨y_2, y_3, v_4, hP_5, h⟩ := h
  refine ag_callSU E1 (ci := 5) (C := RX10) (T0 := TX10) (n2 := 3) hP_5 rfl (kX8_daysOf_c5 _ _ _ _ _ _ _ _ _ _ _ _ _ h) (lw_app (a := [.methodLink RX10 _ yX8_daysOf, .sameMethod _ _ _ _, .superclass _ _, .instanceMethod yX8_daysOf, .initialized _]) (by intro w hw; simp only [List.mem_cons, List.not_mem_nil, or_false] at hw; rcases hw with e | e | e | e | e <;> (rw [e]; first | exact q1087 | exact q1073 | exact q951 | exact q1071 | exact q108)) (lw_meth q1088)) ⟨by decide, hdX8_daysOf.2.2⟩ (Nat.le_of_ble_eq_true rfl) (Nat.le_of_ble_eq_true rfl) (As := [.int x1, .int x2, .int x3]) rfl (Nat.le_of_ble_eq_true rfl) dX10_daysOf_4 rfl (fun v_ f_1 hv => ?_)
  obtain ⟨r_6, rfl, h⟩ := hv
  refine ag_istore E1 (lv' := [(4, .int r_6), (0, .ref x0), (1, .int x1), (2, .int x2), (3, .int x3)]) dX10_daysOf_7 (Nat.lt_of_lt_of_le (Nat.le_refl _) (Nat.le_of_ble_eq_true rfl)) rfl ?_
  refine ag_iload E1 dX10_daysOf_9 0 rfl ?_
  refine ag_if_ne E1 (tgt := 18) dX10_daysOf_11 (by decide) (fun c_11 => ?_) (fun c_11 => ?_)
  · have h := h.1 c_11
    refine ag_iload E1 dX10_daysOf_18 0 rfl ?_
    refine ag_iconst E1 dX10_daysOf_20 ki_1 ?_
    refine ag_aload_n E1 dX10_daysOf_21 rfl 1 rfl ?_
    obtain ⟨y_7, y_8, v_9, hP_10, h⟩ := h
    refine ag_getL E1 2 (ci := 5) (C := RX10) (T := TX10) (N := 3) rfl in_X10 (by decide) q922 (u_same (E1.1.2.2.2.2 _ q923)) dX10_daysOf_22 hP_10 rfl ?_
    refine ag_iload_n E1 dX10_daysOf_25 rfl 2 rfl ?_
    obtain ⟨a_11, e_12, h⟩ := h
    rw [e_12]
    obtain ⟨n_13, c_14, hP_15, h⟩ := h
    obtain ⟨hin_16, h⟩ := h
    refine ag_bald E1 (t0 := 1) hP_15 rfl hin_16 dX10_daysOf_26 ?_
    refine ag_iload_n E1 dX10_daysOf_27 rfl 4 rfl ?_
    refine ag_iconst E1 dX10_daysOf_28 ki_2 ?_
    refine ag_idiv E1 dX10_daysOf_29 (by decide) ?_
    refine ag_iadd E1 dX10_daysOf_30 ?_
    refine ag_iload_n E1 dX10_daysOf_31 rfl 4 rfl ?_
    obtain ⟨hne, h⟩ := h
    refine ag_irem E1 dX10_daysOf_32 hne ?_
    refine ag_ishl E1 dX10_daysOf_33 ?_
    refine ag_ior E1 dX10_daysOf_34 ?_
    exact gw_iret E rfl ⟨_, rfl, h⟩ dX10_daysOf_35
  · have h := h.2 c_11
    refine ag_iconst E1 dX10_daysOf_14 ki_0 ?_
    refine ag_goto E1 (tgt := 35) dX10_daysOf_15 (by decide) ?_
    exact gw_iret E rfl ⟨_, rfl, h⟩ dX10_daysOf_35
theorem hdX10_daysOf : yX10_daysOf.cls ≠ "java/lang/invoke/MethodHandle" ∧ yX10_daysOf.cls ≠ "java/lang/invoke/VarHandle" ∧ (parseMethodDescriptor yX10_daysOf.desc).map (fun d => d.parameters.length) = some 3 := by decide +kernel
theorem kX10_worth_c5 (l : Launch) (D : va_G) (cs : Nat → ClassId) (b : Nat) (H0 : Heap) (ad : Nat → Nat) (vs : Nat → Option Nat) (f : cW) (x0 : Nat) (x1 : Int32) (x2 : Int32) (Q : Int32 → cW → Prop) (h : wX10_worth_c5 b cs ad vs f x0 x1 x2 Q) : CON l D clC (tysC cs) b H0 (XKd b H0 ad vs) yX10_worth cX10_worth 3 (some .int) 1 22 [.ref x0, .int x1, .int x2] f (qI Q) := by
  refine con_of (by decide) (Nat.le_of_ble_eq_true rfl) (fun p e R s m below meth c E1 h0 hin0 => ?_)
  have E : EX p R s m ([.ref x0, .int x1, .int x2] : List Value).toArray meth c cX10_worth 3 RX10 (some .int) D cs b H0 (XKd b H0 ad vs) [] 1 22 f.2.1 f.2.2 := ⟨E1, h0⟩
  refine ag_sub (lv' := [(0, .ref x0), (1, .int x1), (2, .int x2)]) [0, 1, 2] rfl ?_
  refine ag_aload_n E1 dX10_worth_0 rfl 0 rfl ?_
  refine ag_iload_n E1 dX10_worth_1 rfl 1 rfl ?_
  refine ag_iload_n E1 dX10_worth_2 rfl 2 rfl ?_
  obtain ⟨y_2, y_3, v_4, hP_5, h⟩ := h
  refine ag_callSU E1 (ci := 5) (C := RX10) (T0 := TX10) (n2 := 3) hP_5 rfl (kX8_worth_c5 _ _ _ _ _ _ _ _ _ _ _ _ h) (lw_app (a := [.methodLink RX10 _ yX8_worth, .sameMethod _ _ _ _, .superclass _ _, .instanceMethod yX8_worth, .initialized _]) (by intro w hw; simp only [List.mem_cons, List.not_mem_nil, or_false] at hw; rcases hw with e | e | e | e | e <;> (rw [e]; first | exact q1161 | exact q1144 | exact q951 | exact q1142 | exact q108)) (lw_meth q1162)) ⟨by decide, hdX8_worth.2.2⟩ (Nat.le_of_ble_eq_true rfl) (Nat.le_of_ble_eq_true rfl) (As := [.int x1, .int x2]) rfl (Nat.le_of_ble_eq_true rfl) dX10_worth_3 rfl (fun v_ f_1 hv => ?_)
  obtain ⟨r_6, rfl, h⟩ := hv
  refine ag_iconst E1 dX10_worth_6 ki_2 ?_
  refine ag_idiv E1 dX10_worth_7 (by decide) ?_
  exact gw_iret E rfl ⟨_, rfl, h⟩ dX10_worth_8
theorem hdX10_worth : yX10_worth.cls ≠ "java/lang/invoke/MethodHandle" ∧ yX10_worth.cls ≠ "java/lang/invoke/VarHandle" ∧ (parseMethodDescriptor yX10_worth.desc).map (fun d => d.parameters.length) = some 2 := by decide +kernel
theorem kX11_init_c6 (l : Launch) (D : va_G) (cs : Nat → ClassId) (b : Nat) (H0 : Heap) (ad : Nat → Nat) (vs : Nat → Option Nat) (f : cW) (x0 : Nat) (x1 : Int32) (x2 : Nat) (Q : cW → Prop) (h : wX11_init_c6 b cs ad vs f x0 x1 x2 Q) : CON l D clC (tysC cs) b H0 (XKd b H0 ad vs) yX11_init cX11_init 3 none 2 42 [.ref x0, .int x1, .ref x2] f (qV Q) := by
  refine con_of (by decide) (Nat.le_of_ble_eq_true rfl) (fun p e R s m below meth c E1 h0 hin0 => ?_)
  have E : EX p R s m ([.ref x0, .int x1, .ref x2] : List Value).toArray meth c cX11_init 3 RX11 none D cs b H0 (XKd b H0 ad vs) [] 2 42 f.2.1 f.2.2 := ⟨E1, h0⟩
  have hin : meth.name = "<init>" := hin0 rfl
  refine ag_sub (lv' := [(0, .ref x0), (1, .int x1), (2, .ref x2)]) [0, 1, 2] rfl ?_
  refine ag_aload_n E1 dX11_init_0 rfl 0 rfl ?_
  refine ag_iload_n E1 dX11_init_1 rfl 1 rfl ?_
  refine ag_aload_n E1 dX11_init_2 rfl 2 rfl ?_
  refine ag_callI E1 (kX8_init_c6 _ _ _ _ _ _ _ _ _ _ _ _ h) q913 q108 q957 q912 rfl hdX8_init (Nat.le_of_ble_eq_true rfl) (Nat.le_of_ble_eq_true rfl) (As := [.int x1, .ref x2]) rfl (Nat.le_of_ble_eq_true rfl) dX11_init_3 (fun v_ f_1 hv => ?_) rfl
  obtain ⟨rfl, h⟩ := hv
  exact gw_vret E rfl ⟨rfl, h⟩ dX11_init_6
theorem hdX11_init : yX11_init.cls ≠ "java/lang/invoke/MethodHandle" ∧ yX11_init.cls ≠ "java/lang/invoke/VarHandle" ∧ (parseMethodDescriptor yX11_init.desc).map (fun d => d.parameters.length) = some 2 := by decide +kernel
theorem kX11_kind_c6 (l : Launch) (D : va_G) (cs : Nat → ClassId) (b : Nat) (H0 : Heap) (ad : Nat → Nat) (vs : Nat → Option Nat) (f : cW) (x0 : Nat) (Q : Int32 → cW → Prop) (h : wX11_kind_c6 b cs ad vs f x0 Q) : CON l D clC (tysC cs) b H0 (XKd b H0 ad vs) yX11_kind cX11_kind 1 (some .int) 0 0 [.ref x0] f (qI Q) := by
  refine con_of (by decide) (Nat.le_of_ble_eq_true rfl) (fun p e R s m below meth c E1 h0 hin0 => ?_)
  have E : EX p R s m ([.ref x0] : List Value).toArray meth c cX11_kind 1 RX11 (some .int) D cs b H0 (XKd b H0 ad vs) [] 0 0 f.2.1 f.2.2 := ⟨E1, h0⟩
  refine ag_sub (lv' := [(0, .ref x0)]) [0] rfl ?_
  refine ag_iconst E1 dX11_kind_0 ki_3 ?_
  exact gw_iret E rfl ⟨_, rfl, h⟩ dX11_kind_1
theorem hdX11_kind : yX11_kind.cls ≠ "java/lang/invoke/MethodHandle" ∧ yX11_kind.cls ≠ "java/lang/invoke/VarHandle" ∧ (parseMethodDescriptor yX11_kind.desc).map (fun d => d.parameters.length) = some 0 := by decide +kernel
theorem kX11_daysOf_c6 (l : Launch) (D : va_G) (cs : Nat → ClassId) (b : Nat) (H0 : Heap) (ad : Nat → Nat) (vs : Nat → Option Nat) (f : cW) (x0 : Nat) (x1 : Int32) (x2 : Int32) (x3 : Int32) (Q : Int32 → cW → Prop) (h : wX11_daysOf_c6 b cs ad vs f x0 x1 x2 x3 Q) : CON l D clC (tysC cs) b H0 (XKd b H0 ad vs) yX11_daysOf cX11_daysOf 4 (some .int) 1 23 [.ref x0, .int x1, .int x2, .int x3] f (qI Q) := by
  refine con_of (by decide) (Nat.le_of_ble_eq_true rfl) (fun p e R s m below meth c E1 h0 hin0 => ?_)
  have E : EX p R s m ([.ref x0, .int x1, .int x2, .int x3] : List Value).toArray meth c cX11_daysOf 4 RX11 (some .int) D cs b H0 (XKd b H0 ad vs) [] 1 23 f.2.1 f.2.2 := ⟨E1, h0⟩
  refine ag_sub (lv' := [(0, .ref x0), (1, .int x1), (2, .int x2), (3, .int x3)]) [0, 1, 2, 3] rfl ?_
  refine ag_aload_n E1 dX11_daysOf_0 rfl 0 rfl ?_
  refine ag_iload_n E1 dX11_daysOf_1 rfl 1 rfl ?_
  refine ag_iload_n E1 dX11_daysOf_2 rfl 2 rfl ?_
  refine ag_iload_n E1 dX11_daysOf_3 rfl 3 rfl ?_
  obtain ⟨y_2, y_3, v_4, hP_5, h⟩ := h
  refine ag_callSU E1 (ci := 6) (C := RX11) (T0 := TX11) (n2 := 3) hP_5 rfl (kX8_daysOf_c6 _ _ _ _ _ _ _ _ _ _ _ _ _ h) (lw_app (a := [.methodLink RX11 _ yX8_daysOf, .sameMethod _ _ _ _, .superclass _ _, .instanceMethod yX8_daysOf, .initialized _]) (by intro w hw; simp only [List.mem_cons, List.not_mem_nil, or_false] at hw; rcases hw with e | e | e | e | e <;> (rw [e]; first | exact q1081 | exact q1073 | exact q961 | exact q1071 | exact q108)) (lw_meth q1088)) ⟨by decide, hdX8_daysOf.2.2⟩ (Nat.le_of_ble_eq_true rfl) (Nat.le_of_ble_eq_true rfl) (As := [.int x1, .int x2, .int x3]) rfl (Nat.le_of_ble_eq_true rfl) dX11_daysOf_4 rfl (fun v_ f_1 hv => ?_)
  obtain ⟨r_6, rfl, h⟩ := hv
  refine ag_if_ne E1 (tgt := 14) dX11_daysOf_7 (by decide) (fun c_7 => ?_) (fun c_7 => ?_)
  · have h := h.1 c_7
    refine ag_iconst E1 dX11_daysOf_14 ki_1 ?_
    refine ag_aload_n E1 dX11_daysOf_15 rfl 0 rfl ?_
    obtain ⟨y_7, y_8, v_9, hP_10, h⟩ := h
    refine ag_getL E1 2 (ci := 6) (C := RX11) (T := TX11) (N := 3) rfl in_X11 (by decide) q920 (u_same (E1.1.2.2.2.2 _ q921)) dX11_daysOf_16 hP_10 rfl ?_
    refine ag_iload_n E1 dX11_daysOf_19 rfl 1 rfl ?_
    obtain ⟨a_11, e_12, h⟩ := h
    rw [e_12]
    obtain ⟨n_13, c_14, hP_15, h⟩ := h
    obtain ⟨hin_16, h⟩ := h
    refine ag_bald E1 (t0 := 1) hP_15 rfl hin_16 dX11_daysOf_20 ?_
    refine ag_iload_n E1 dX11_daysOf_21 rfl 2 rfl ?_
    refine ag_iadd E1 dX11_daysOf_22 ?_
    refine ag_iload_n E1 dX11_daysOf_23 rfl 3 rfl ?_
    obtain ⟨hne, h⟩ := h
    refine ag_irem E1 dX11_daysOf_24 hne ?_
    refine ag_ishl E1 dX11_daysOf_25 ?_
    exact gw_iret E rfl ⟨_, rfl, h⟩ dX11_daysOf_26
  · have h := h.2 c_7
    refine ag_iconst E1 dX11_daysOf_10 ki_0 ?_
    refine ag_goto E1 (tgt := 26) dX11_daysOf_11 (by decide) ?_
    exact gw_iret E rfl ⟨_, rfl, h⟩ dX11_daysOf_26
theorem hdX11_daysOf : yX11_daysOf.cls ≠ "java/lang/invoke/MethodHandle" ∧ yX11_daysOf.cls ≠ "java/lang/invoke/VarHandle" ∧ (parseMethodDescriptor yX11_daysOf.desc).map (fun d => d.parameters.length) = some 3 := by decide +kernel
theorem kX11_worth_c6 (l : Launch) (D : va_G) (cs : Nat → ClassId) (b : Nat) (H0 : Heap) (ad : Nat → Nat) (vs : Nat → Option Nat) (f : cW) (x0 : Nat) (x1 : Int32) (x2 : Int32) (Q : Int32 → cW → Prop) (h : wX11_worth_c6 b cs ad vs f x0 x1 x2 Q) : CON l D clC (tysC cs) b H0 (XKd b H0 ad vs) yX11_worth cX11_worth 3 (some .int) 1 22 [.ref x0, .int x1, .int x2] f (qI Q) := by
  refine con_of (by decide) (Nat.le_of_ble_eq_true rfl) (fun p e R s m below meth c E1 h0 hin0 => ?_)
  have E : EX p R s m ([.ref x0, .int x1, .int x2] : List Value).toArray meth c cX11_worth 3 RX11 (some .int) D cs b H0 (XKd b H0 ad vs) [] 1 22 f.2.1 f.2.2 := ⟨E1, h0⟩
  refine ag_sub (lv' := [(0, .ref x0), (1, .int x1), (2, .int x2)]) [0, 1, 2] rfl ?_
  refine ag_aload_n E1 dX11_worth_0 rfl 0 rfl ?_
  refine ag_iload_n E1 dX11_worth_1 rfl 1 rfl ?_
  refine ag_iload_n E1 dX11_worth_2 rfl 2 rfl ?_
  obtain ⟨y_2, y_3, v_4, hP_5, h⟩ := h
  refine ag_callSU E1 (ci := 6) (C := RX11) (T0 := TX11) (n2 := 3) hP_5 rfl (kX8_worth_c6 _ _ _ _ _ _ _ _ _ _ _ _ h) (lw_app (a := [.methodLink RX11 _ yX8_worth, .sameMethod _ _ _ _, .superclass _ _, .instanceMethod yX8_worth, .initialized _]) (by intro w hw; simp only [List.mem_cons, List.not_mem_nil, or_false] at hw; rcases hw with e | e | e | e | e <;> (rw [e]; first | exact q1152 | exact q1144 | exact q961 | exact q1142 | exact q108)) (lw_meth q1162)) ⟨by decide, hdX8_worth.2.2⟩ (Nat.le_of_ble_eq_true rfl) (Nat.le_of_ble_eq_true rfl) (As := [.int x1, .int x2]) rfl (Nat.le_of_ble_eq_true rfl) dX11_worth_3 rfl (fun v_ f_1 hv => ?_)
  obtain ⟨r_6, rfl, h⟩ := hv
  refine ag_iconst E1 dX11_worth_6 ki_2 ?_
  refine ag_isub E1 dX11_worth_7 ?_
  exact gw_iret E rfl ⟨_, rfl, h⟩ dX11_worth_8
theorem hdX11_worth : yX11_worth.cls ≠ "java/lang/invoke/MethodHandle" ∧ yX11_worth.cls ≠ "java/lang/invoke/VarHandle" ∧ (parseMethodDescriptor yX11_worth.desc).map (fun d => d.parameters.length) = some 2 := by decide +kernel
theorem kX11_init_c7 (l : Launch) (D : va_G) (cs : Nat → ClassId) (b : Nat) (H0 : Heap) (ad : Nat → Nat) (vs : Nat → Option Nat) (f : cW) (x0 : Nat) (x1 : Int32) (x2 : Nat) (Q : cW → Prop) (h : wX11_init_c7 b cs ad vs f x0 x1 x2 Q) : CON l D clC (tysC cs) b H0 (XKd b H0 ad vs) yX11_init cX11_init 3 none 2 42 [.ref x0, .int x1, .ref x2] f (qV Q) := by
  refine con_of (by decide) (Nat.le_of_ble_eq_true rfl) (fun p e R s m below meth c E1 h0 hin0 => ?_)
  have E : EX p R s m ([.ref x0, .int x1, .ref x2] : List Value).toArray meth c cX11_init 3 RX11 none D cs b H0 (XKd b H0 ad vs) [] 2 42 f.2.1 f.2.2 := ⟨E1, h0⟩
  have hin : meth.name = "<init>" := hin0 rfl
  refine ag_sub (lv' := [(0, .ref x0), (1, .int x1), (2, .ref x2)]) [0, 1, 2] rfl ?_
  refine ag_aload_n E1 dX11_init_0 rfl 0 rfl ?_
  refine ag_iload_n E1 dX11_init_1 rfl 1 rfl ?_
  refine ag_aload_n E1 dX11_init_2 rfl 2 rfl ?_
  refine ag_callI E1 (kX8_init_c7 _ _ _ _ _ _ _ _ _ _ _ _ h) q913 q108 q957 q912 rfl hdX8_init (Nat.le_of_ble_eq_true rfl) (Nat.le_of_ble_eq_true rfl) (As := [.int x1, .ref x2]) rfl (Nat.le_of_ble_eq_true rfl) dX11_init_3 (fun v_ f_1 hv => ?_) rfl
  obtain ⟨rfl, h⟩ := hv
  exact gw_vret E rfl ⟨rfl, h⟩ dX11_init_6
theorem kX11_kind_c7 (l : Launch) (D : va_G) (cs : Nat → ClassId) (b : Nat) (H0 : Heap) (ad : Nat → Nat) (vs : Nat → Option Nat) (f : cW) (x0 : Nat) (Q : Int32 → cW → Prop) (h : wX11_kind_c7 b cs ad vs f x0 Q) : CON l D clC (tysC cs) b H0 (XKd b H0 ad vs) yX11_kind cX11_kind 1 (some .int) 0 0 [.ref x0] f (qI Q) := by
  refine con_of (by decide) (Nat.le_of_ble_eq_true rfl) (fun p e R s m below meth c E1 h0 hin0 => ?_)
  have E : EX p R s m ([.ref x0] : List Value).toArray meth c cX11_kind 1 RX11 (some .int) D cs b H0 (XKd b H0 ad vs) [] 0 0 f.2.1 f.2.2 := ⟨E1, h0⟩
  refine ag_sub (lv' := [(0, .ref x0)]) [0] rfl ?_
  refine ag_iconst E1 dX11_kind_0 ki_3 ?_
  exact gw_iret E rfl ⟨_, rfl, h⟩ dX11_kind_1
theorem kX11_daysOf_c7 (l : Launch) (D : va_G) (cs : Nat → ClassId) (b : Nat) (H0 : Heap) (ad : Nat → Nat) (vs : Nat → Option Nat) (f : cW) (x0 : Nat) (x1 : Int32) (x2 : Int32) (x3 : Int32) (Q : Int32 → cW → Prop) (h : wX11_daysOf_c7 b cs ad vs f x0 x1 x2 x3 Q) : CON l D clC (tysC cs) b H0 (XKd b H0 ad vs) yX11_daysOf cX11_daysOf 4 (some .int) 1 23 [.ref x0, .int x1, .int x2, .int x3] f (qI Q) := by
  refine con_of (by decide) (Nat.le_of_ble_eq_true rfl) (fun p e R s m below meth c E1 h0 hin0 => ?_)
  have E : EX p R s m ([.ref x0, .int x1, .int x2, .int x3] : List Value).toArray meth c cX11_daysOf 4 RX11 (some .int) D cs b H0 (XKd b H0 ad vs) [] 1 23 f.2.1 f.2.2 := ⟨E1, h0⟩
  refine ag_sub (lv' := [(0, .ref x0), (1, .int x1), (2, .int x2), (3, .int x3)]) [0, 1, 2, 3] rfl ?_
  refine ag_aload_n E1 dX11_daysOf_0 rfl 0 rfl ?_
  refine ag_iload_n E1 dX11_daysOf_1 rfl 1 rfl ?_
  refine ag_iload_n E1 dX11_daysOf_2 rfl 2 rfl ?_
  refine ag_iload_n E1 dX11_daysOf_3 rfl 3 rfl ?_
  obtain ⟨y_2, y_3, v_4, hP_5, h⟩ := h
  refine ag_callSU E1 (ci := 7) (C := RX12) (T0 := TX12) (n2 := 3) hP_5 rfl (kX8_daysOf_c7 _ _ _ _ _ _ _ _ _ _ _ _ _ h) (lw_app (a := [.methodLink RX11 _ yX8_daysOf, .sameMethod _ _ _ _, .superclass _ _, .instanceMethod yX8_daysOf, .initialized _]) (by intro w hw; simp only [List.mem_cons, List.not_mem_nil, or_false] at hw; rcases hw with e | e | e | e | e <;> (rw [e]; first | exact q1081 | exact q1073 | exact q961 | exact q1071 | exact q108)) (lw_meth q1088)) ⟨by decide, hdX8_daysOf.2.2⟩ (Nat.le_of_ble_eq_true rfl) (Nat.le_of_ble_eq_true rfl) (As := [.int x1, .int x2, .int x3]) rfl (Nat.le_of_ble_eq_true rfl) dX11_daysOf_4 rfl (fun v_ f_1 hv => ?_)
  obtain ⟨r_6, rfl, h⟩ := hv
  refine ag_if_ne E1 (tgt := 14) dX11_daysOf_7 (by decide) (fun c_7 => ?_) (fun c_7 => ?_)
  · have h := h.1 c_7
    refine ag_iconst E1 dX11_daysOf_14 ki_1 ?_
    refine ag_aload_n E1 dX11_daysOf_15 rfl 0 rfl ?_
    obtain ⟨y_7, y_8, v_9, hP_10, h⟩ := h
    refine ag_getL E1 2 (ci := 7) (C := RX12) (T := TX12) (N := 3) rfl in_X12 (by decide) q920 (u_same (E1.1.2.2.2.2 _ q921)) dX11_daysOf_16 hP_10 rfl ?_
    refine ag_iload_n E1 dX11_daysOf_19 rfl 1 rfl ?_
    obtain ⟨a_11, e_12, h⟩ := h
    rw [e_12]
    obtain ⟨n_13, c_14, hP_15, h⟩ := h
    obtain ⟨hin_16, h⟩ := h
    refine ag_bald E1 (t0 := 1) hP_15 rfl hin_16 dX11_daysOf_20 ?_
    refine ag_iload_n E1 dX11_daysOf_21 rfl 2 rfl ?_
    refine ag_iadd E1 dX11_daysOf_22 ?_
    refine ag_iload_n E1 dX11_daysOf_23 rfl 3 rfl ?_
    obtain ⟨hne, h⟩ := h
    refine ag_irem E1 dX11_daysOf_24 hne ?_
    refine ag_ishl E1 dX11_daysOf_25 ?_
    exact gw_iret E rfl ⟨_, rfl, h⟩ dX11_daysOf_26
  · have h := h.2 c_7
    refine ag_iconst E1 dX11_daysOf_10 ki_0 ?_
    refine ag_goto E1 (tgt := 26) dX11_daysOf_11 (by decide) ?_
    exact gw_iret E rfl ⟨_, rfl, h⟩ dX11_daysOf_26
theorem kX11_worth_c7 (l : Launch) (D : va_G) (cs : Nat → ClassId) (b : Nat) (H0 : Heap) (ad : Nat → Nat) (vs : Nat → Option Nat) (f : cW) (x0 : Nat) (x1 : Int32) (x2 : Int32) (Q : Int32 → cW → Prop) (h : wX11_worth_c7 b cs ad vs f x0 x1 x2 Q) : CON l D clC (tysC cs) b H0 (XKd b H0 ad vs) yX11_worth cX11_worth 3 (some .int) 1 22 [.ref x0, .int x1, .int x2] f (qI Q) := by
  refine con_of (by decide) (Nat.le_of_ble_eq_true rfl) (fun p e R s m below meth c E1 h0 hin0 => ?_)
  have E : EX p R s m ([.ref x0, .int x1, .int x2] : List Value).toArray meth c cX11_worth 3 RX11 (some .int) D cs b H0 (XKd b H0 ad vs) [] 1 22 f.2.1 f.2.2 := ⟨E1, h0⟩
  refine ag_sub (lv' := [(0, .ref x0), (1, .int x1), (2, .int x2)]) [0, 1, 2] rfl ?_
  refine ag_aload_n E1 dX11_worth_0 rfl 0 rfl ?_
  refine ag_iload_n E1 dX11_worth_1 rfl 1 rfl ?_
  refine ag_iload_n E1 dX11_worth_2 rfl 2 rfl ?_
  obtain ⟨y_2, y_3, v_4, hP_5, h⟩ := h
  refine ag_callSU E1 (ci := 7) (C := RX12) (T0 := TX12) (n2 := 3) hP_5 rfl (kX8_worth_c7 _ _ _ _ _ _ _ _ _ _ _ _ h) (lw_app (a := [.methodLink RX11 _ yX8_worth, .sameMethod _ _ _ _, .superclass _ _, .instanceMethod yX8_worth, .initialized _]) (by intro w hw; simp only [List.mem_cons, List.not_mem_nil, or_false] at hw; rcases hw with e | e | e | e | e <;> (rw [e]; first | exact q1152 | exact q1144 | exact q961 | exact q1142 | exact q108)) (lw_meth q1162)) ⟨by decide, hdX8_worth.2.2⟩ (Nat.le_of_ble_eq_true rfl) (Nat.le_of_ble_eq_true rfl) (As := [.int x1, .int x2]) rfl (Nat.le_of_ble_eq_true rfl) dX11_worth_3 rfl (fun v_ f_1 hv => ?_)
  obtain ⟨r_6, rfl, h⟩ := hv
  refine ag_iconst E1 dX11_worth_6 ki_2 ?_
  refine ag_isub E1 dX11_worth_7 ?_
  exact gw_iret E rfl ⟨_, rfl, h⟩ dX11_worth_8
theorem kX12_init_c7 (l : Launch) (D : va_G) (cs : Nat → ClassId) (b : Nat) (H0 : Heap) (ad : Nat → Nat) (vs : Nat → Option Nat) (f : cW) (x0 : Nat) (x1 : Int32) (x2 : Nat) (Q : cW → Prop) (h : wX12_init_c7 b cs ad vs f x0 x1 x2 Q) : CON l D clC (tysC cs) b H0 (XKd b H0 ad vs) yX12_init cX12_init 3 none 3 64 [.ref x0, .int x1, .ref x2] f (qV Q) := by
  refine con_of (by decide) (Nat.le_of_ble_eq_true rfl) (fun p e R s m below meth c E1 h0 hin0 => ?_)
  have E : EX p R s m ([.ref x0, .int x1, .ref x2] : List Value).toArray meth c cX12_init 3 RX12 none D cs b H0 (XKd b H0 ad vs) [] 3 64 f.2.1 f.2.2 := ⟨E1, h0⟩
  have hin : meth.name = "<init>" := hin0 rfl
  refine ag_sub (lv' := [(0, .ref x0), (1, .int x1), (2, .ref x2)]) [0, 1, 2] rfl ?_
  refine ag_aload_n E1 dX12_init_0 rfl 0 rfl ?_
  refine ag_iload_n E1 dX12_init_1 rfl 1 rfl ?_
  refine ag_aload_n E1 dX12_init_2 rfl 2 rfl ?_
  refine ag_callI E1 (kX11_init_c7 _ _ _ _ _ _ _ _ _ _ _ _ h) q956 q111 q967 q955 rfl hdX11_init (Nat.le_of_ble_eq_true rfl) (Nat.le_of_ble_eq_true rfl) (As := [.int x1, .ref x2]) rfl (Nat.le_of_ble_eq_true rfl) dX12_init_3 (fun v_ f_1 hv => ?_) rfl
  obtain ⟨rfl, h⟩ := hv
  exact gw_vret E rfl ⟨rfl, h⟩ dX12_init_6
theorem hdX12_init : yX12_init.cls ≠ "java/lang/invoke/MethodHandle" ∧ yX12_init.cls ≠ "java/lang/invoke/VarHandle" ∧ (parseMethodDescriptor yX12_init.desc).map (fun d => d.parameters.length) = some 2 := by decide +kernel
theorem kX12_kind_c7 (l : Launch) (D : va_G) (cs : Nat → ClassId) (b : Nat) (H0 : Heap) (ad : Nat → Nat) (vs : Nat → Option Nat) (f : cW) (x0 : Nat) (Q : Int32 → cW → Prop) (h : wX12_kind_c7 b cs ad vs f x0 Q) : CON l D clC (tysC cs) b H0 (XKd b H0 ad vs) yX12_kind cX12_kind 1 (some .int) 1 20 [.ref x0] f (qI Q) := by
  refine con_of (by decide) (Nat.le_of_ble_eq_true rfl) (fun p e R s m below meth c E1 h0 hin0 => ?_)
  have E : EX p R s m ([.ref x0] : List Value).toArray meth c cX12_kind 1 RX12 (some .int) D cs b H0 (XKd b H0 ad vs) [] 1 20 f.2.1 f.2.2 := ⟨E1, h0⟩
  refine ag_sub (lv' := [(0, .ref x0)]) [0] rfl ?_
  refine ag_aload_n E1 dX12_kind_0 rfl 0 rfl ?_
  obtain ⟨y_2, y_3, v_4, hP_5, h⟩ := h
  refine ag_callSU E1 (ci := 7) (C := RX12) (T0 := TX12) (n2 := 3) hP_5 rfl (kX11_kind_c7 _ _ _ _ _ _ _ _ _ _ h) (lw_app (a := [.methodLink RX12 _ yX11_kind, .sameMethod _ _ _ _, .superclass _ _, .instanceMethod yX11_kind, .initialized _]) (by intro w hw; simp only [List.mem_cons, List.not_mem_nil, or_false] at hw; rcases hw with e | e | e | e | e <;> (rw [e]; first | exact q1285 | exact q1945 | exact q971 | exact q1286 | exact q111)) (lw_meth q1287)) ⟨by decide, hdX11_kind.2.2⟩ (Nat.le_of_ble_eq_true rfl) (Nat.le_of_ble_eq_true rfl) (As := []) rfl (Nat.le_of_ble_eq_true rfl) dX12_kind_1 rfl (fun v_ f_1 hv => ?_)
  obtain ⟨r_6, rfl, h⟩ := hv
  refine ag_iconst E1 dX12_kind_4 ki_1 ?_
  refine ag_iadd E1 dX12_kind_5 ?_
  exact gw_iret E rfl ⟨_, rfl, h⟩ dX12_kind_6
theorem hdX12_kind : yX12_kind.cls ≠ "java/lang/invoke/MethodHandle" ∧ yX12_kind.cls ≠ "java/lang/invoke/VarHandle" ∧ (parseMethodDescriptor yX12_kind.desc).map (fun d => d.parameters.length) = some 0 := by decide +kernel
theorem tbX12_daysOf_c7_15 (E : EX p R s m args meth c cX12_daysOf 4 RX12 (some .int) D cs b H0 (XKd b H0 ad vs) [] 2 46 z u) {Q : Int32 → cW → Prop}  {x3 : Int32} {t0 : Int32} {t1 : Int32} {t2 : Nat} {f : cW} (h : wbX12_daysOf_c7_15 b cs ad vs  Q x3 t0 t1 t2 f) : AGW p l e R s m args below meth c D b 4 z u (qI Q) 15 [(3, .int x3)] [.int t0, .int t1, .ref t2] f := by
  have E1 := E.1
  refine ag_iload_n E1 dX12_daysOf_15 rfl 0 rfl ?_
  obtain ⟨y_2, y_3, v_4, hP_5, h⟩ := h
  refine ag_callSU E1 (ci := 7) (C := RX12) (T0 := TX12) (n2 := 3) hP_5 rfl (kX11_daysOf_c7 _ _ _ _ _ _ _ _ _ _ _ _ _ h) (lw_app (a := [.methodLink RX12 _ yX11_daysOf, .sameMethod _ _ _ _, .superclass _ _, .instanceMethod yX11_daysOf, .initialized _]) (by intro w hw; simp only [List.mem_cons, List.not_mem_nil, or_false] at hw; rcases hw with e | e | e | e | e <;> (rw [e]; first | exact q1078 | exact q1943 | exact q971 | exact q1079 | exact q111)) (lw_meth q1080)) ⟨by decide, hdX11_daysOf.2.2⟩ (Nat.le_of_ble_eq_true rfl) (Nat.le_of_ble_eq_true rfl) (As := [.int t1, .int t0, .int x3]) rfl (Nat.le_of_ble_eq_true rfl) dX12_daysOf_16 rfl (fun v_ f_1 hv => ?_)
  obtain ⟨r_6, rfl, h⟩ := hv
  exact gw_iret E rfl ⟨_, rfl, h⟩ dX12_daysOf_19
theorem kX12_daysOf_c7 (l : Launch) (D : va_G) (cs : Nat → ClassId) (b : Nat) (H0 : Heap) (ad : Nat → Nat) (vs : Nat → Option Nat) (f : cW) (x0 : Nat) (x1 : Int32) (x2 : Int32) (x3 : Int32) (Q : Int32 → cW → Prop) (h : wX12_daysOf_c7 b cs ad vs f x0 x1 x2 x3 Q) : CON l D clC (tysC cs) b H0 (XKd b H0 ad vs) yX12_daysOf cX12_daysOf 4 (some .int) 2 46 [.ref x0, .int x1, .int x2, .int x3] f (qI Q) := by
  refine con_of (by decide) (Nat.le_of_ble_eq_true rfl) (fun p e R s m below meth c E1 h0 hin0 => ?_)
  have E : EX p R s m ([.ref x0, .int x1, .int x2, .int x3] : List Value).toArray meth c cX12_daysOf 4 RX12 (some .int) D cs b H0 (XKd b H0 ad vs) [] 2 46 f.2.1 f.2.2 := ⟨E1, h0⟩
  refine ag_sub (lv' := [(0, .ref x0), (1, .int x1), (2, .int x2), (3, .int x3)]) [0, 1, 2, 3] rfl ?_
  refine ag_aload_n E1 dX12_daysOf_0 rfl 0 rfl ?_
  refine ag_iload_n E1 dX12_daysOf_1 rfl 1 rfl ?_
  refine ag_iload_n E1 dX12_daysOf_2 rfl 2 rfl ?_
  refine ag_iconst E1 dX12_daysOf_3 ki_2 ?_
  refine ag_irem E1 dX12_daysOf_4 (by decide) ?_
  refine ag_if_ne E1 (tgt := 12) dX12_daysOf_5 (by decide) (fun c_5 => ?_) (fun c_5 => ?_)
  · have h := h.1 c_5
    refine ag_iload_n E1 dX12_daysOf_12 rfl 2 rfl ?_
    refine ag_iconst E1 dX12_daysOf_13 ki_2 ?_
    refine ag_iadd E1 dX12_daysOf_14 ?_
    refine ag_sub (lv' := [(3, .int x3)]) [3] rfl ?_
    exact tbX12_daysOf_c7_15 E  h
  · have h := h.2 c_5
    refine ag_iload_n E1 dX12_daysOf_8 rfl 2 rfl ?_
    refine ag_goto E1 (tgt := 15) dX12_daysOf_9 (by decide) ?_
    refine ag_sub (lv' := [(3, .int x3)]) [3] rfl ?_
    exact tbX12_daysOf_c7_15 E  h
theorem hdX12_daysOf : yX12_daysOf.cls ≠ "java/lang/invoke/MethodHandle" ∧ yX12_daysOf.cls ≠ "java/lang/invoke/VarHandle" ∧ (parseMethodDescriptor yX12_daysOf.desc).map (fun d => d.parameters.length) = some 3 := by decide +kernel
theorem kX13_init_c8 (l : Launch) (D : va_G) (cs : Nat → ClassId) (b : Nat) (H0 : Heap) (ad : Nat → Nat) (vs : Nat → Option Nat) (f : cW) (x0 : Nat) (x1 : Int32) (x2 : Nat) (Q : cW → Prop) (h : wX13_init_c8 b cs ad vs f x0 x1 x2 Q) : CON l D clC (tysC cs) b H0 (XKd b H0 ad vs) yX13_init cX13_init 3 none 3 64 [.ref x0, .int x1, .ref x2] f (qV Q) := by
  refine con_of (by decide) (Nat.le_of_ble_eq_true rfl) (fun p e R s m below meth c E1 h0 hin0 => ?_)
  have E : EX p R s m ([.ref x0, .int x1, .ref x2] : List Value).toArray meth c cX13_init 3 RX13 none D cs b H0 (XKd b H0 ad vs) [] 3 64 f.2.1 f.2.2 := ⟨E1, h0⟩
  have hin : meth.name = "<init>" := hin0 rfl
  refine ag_sub (lv' := [(0, .ref x0), (1, .int x1), (2, .ref x2)]) [0, 1, 2] rfl ?_
  refine ag_aload_n E1 dX13_init_0 rfl 0 rfl ?_
  refine ag_iload_n E1 dX13_init_1 rfl 1 rfl ?_
  refine ag_aload_n E1 dX13_init_2 rfl 2 rfl ?_
  refine ag_callI E1 (kX9_init_c8 _ _ _ _ _ _ _ _ _ _ _ _ h) q936 q109 q977 q935 rfl hdX9_init (Nat.le_of_ble_eq_true rfl) (Nat.le_of_ble_eq_true rfl) (As := [.int x1, .ref x2]) rfl (Nat.le_of_ble_eq_true rfl) dX13_init_3 (fun v_ f_1 hv => ?_) rfl
  obtain ⟨rfl, h⟩ := hv
  exact gw_vret E rfl ⟨rfl, h⟩ dX13_init_6
theorem hdX13_init : yX13_init.cls ≠ "java/lang/invoke/MethodHandle" ∧ yX13_init.cls ≠ "java/lang/invoke/VarHandle" ∧ (parseMethodDescriptor yX13_init.desc).map (fun d => d.parameters.length) = some 2 := by decide +kernel
theorem kX13_kind_c8 (l : Launch) (D : va_G) (cs : Nat → ClassId) (b : Nat) (H0 : Heap) (ad : Nat → Nat) (vs : Nat → Option Nat) (f : cW) (x0 : Nat) (Q : Int32 → cW → Prop) (h : wX13_kind_c8 b cs ad vs f x0 Q) : CON l D clC (tysC cs) b H0 (XKd b H0 ad vs) yX13_kind cX13_kind 1 (some .int) 1 20 [.ref x0] f (qI Q) := by
  refine con_of (by decide) (Nat.le_of_ble_eq_true rfl) (fun p e R s m below meth c E1 h0 hin0 => ?_)
  have E : EX p R s m ([.ref x0] : List Value).toArray meth c cX13_kind 1 RX13 (some .int) D cs b H0 (XKd b H0 ad vs) [] 1 20 f.2.1 f.2.2 := ⟨E1, h0⟩
  refine ag_sub (lv' := [(0, .ref x0)]) [0] rfl ?_
  refine ag_aload_n E1 dX13_kind_0 rfl 0 rfl ?_
  obtain ⟨y_2, y_3, v_4, hP_5, h⟩ := h
  refine ag_callSU E1 (ci := 8) (C := RX13) (T0 := TX13) (n2 := 3) hP_5 rfl (kX9_kind_c8 _ _ _ _ _ _ _ _ _ _ h) (lw_app (a := [.methodLink RX13 _ yX9_kind, .sameMethod _ _ _ _, .superclass _ _, .instanceMethod yX9_kind, .initialized _]) (by intro w hw; simp only [List.mem_cons, List.not_mem_nil, or_false] at hw; rcases hw with e | e | e | e | e <;> (rw [e]; first | exact q1291 | exact q1946 | exact q981 | exact q1280 | exact q109)) (lw_meth q1281)) ⟨by decide, hdX9_kind.2.2⟩ (Nat.le_of_ble_eq_true rfl) (Nat.le_of_ble_eq_true rfl) (As := []) rfl (Nat.le_of_ble_eq_true rfl) dX13_kind_1 rfl (fun v_ f_1 hv => ?_)
  obtain ⟨r_6, rfl, h⟩ := hv
  refine ag_iconst E1 dX13_kind_4 ki_4 ?_
  refine ag_iadd E1 dX13_kind_5 ?_
  exact gw_iret E rfl ⟨_, rfl, h⟩ dX13_kind_6
theorem hdX13_kind : yX13_kind.cls ≠ "java/lang/invoke/MethodHandle" ∧ yX13_kind.cls ≠ "java/lang/invoke/VarHandle" ∧ (parseMethodDescriptor yX13_kind.desc).map (fun d => d.parameters.length) = some 0 := by decide +kernel
theorem kX13_moves_c8 (l : Launch) (D : va_G) (cs : Nat → ClassId) (b : Nat) (H0 : Heap) (ad : Nat → Nat) (vs : Nat → Option Nat) (f : cW) (x0 : Nat) (Q : Int32 → cW → Prop) (h : wX13_moves_c8 b cs ad vs f x0 Q) : CON l D clC (tysC cs) b H0 (XKd b H0 ad vs) yX13_moves cX13_moves 1 (some .boolean) 0 0 [.ref x0] f (qI Q) := by
  refine con_of (by decide) (Nat.le_of_ble_eq_true rfl) (fun p e R s m below meth c E1 h0 hin0 => ?_)
  have E : EX p R s m ([.ref x0] : List Value).toArray meth c cX13_moves 1 RX13 (some .boolean) D cs b H0 (XKd b H0 ad vs) [] 0 0 f.2.1 f.2.2 := ⟨E1, h0⟩
  refine ag_sub (lv' := [(0, .ref x0)]) [0] rfl ?_
  refine ag_iconst E1 dX13_moves_0 ki_0 ?_
  exact gw_zret E rfl (Or.inl rfl) ⟨_, rfl, h⟩ dX13_moves_1
theorem hdX13_moves : yX13_moves.cls ≠ "java/lang/invoke/MethodHandle" ∧ yX13_moves.cls ≠ "java/lang/invoke/VarHandle" ∧ (parseMethodDescriptor yX13_moves.desc).map (fun d => d.parameters.length) = some 0 := by decide +kernel
theorem kX13_worth_c8 (l : Launch) (D : va_G) (cs : Nat → ClassId) (b : Nat) (H0 : Heap) (ad : Nat → Nat) (vs : Nat → Option Nat) (f : cW) (x0 : Nat) (x1 : Int32) (x2 : Int32) (Q : Int32 → cW → Prop) (h : wX13_worth_c8 b cs ad vs f x0 x1 x2 Q) : CON l D clC (tysC cs) b H0 (XKd b H0 ad vs) yX13_worth cX13_worth 3 (some .int) 2 44 [.ref x0, .int x1, .int x2] f (qI Q) := by
  refine con_of (by decide) (Nat.le_of_ble_eq_true rfl) (fun p e R s m below meth c E1 h0 hin0 => ?_)
  have E : EX p R s m ([.ref x0, .int x1, .int x2] : List Value).toArray meth c cX13_worth 3 RX13 (some .int) D cs b H0 (XKd b H0 ad vs) [] 2 44 f.2.1 f.2.2 := ⟨E1, h0⟩
  refine ag_sub (lv' := [(0, .ref x0), (1, .int x1), (2, .int x2)]) [0, 1, 2] rfl ?_
  refine ag_aload_n E1 dX13_worth_0 rfl 0 rfl ?_
  refine ag_iload_n E1 dX13_worth_1 rfl 1 rfl ?_
  refine ag_iload_n E1 dX13_worth_2 rfl 2 rfl ?_
  obtain ⟨y_2, y_3, v_4, hP_5, h⟩ := h
  refine ag_callSU E1 (ci := 8) (C := RX13) (T0 := TX13) (n2 := 3) hP_5 rfl (kX9_worth_c8 _ _ _ _ _ _ _ _ _ _ _ _ h) (lw_app (a := [.methodLink RX13 _ yX9_worth, .sameMethod _ _ _ _, .superclass _ _, .instanceMethod yX9_worth, .initialized _]) (by intro w hw; simp only [List.mem_cons, List.not_mem_nil, or_false] at hw; rcases hw with e | e | e | e | e <;> (rw [e]; first | exact q1156 | exact q1944 | exact q981 | exact q1146 | exact q109)) (lw_meth q1147)) ⟨by decide, hdX9_worth.2.2⟩ (Nat.le_of_ble_eq_true rfl) (Nat.le_of_ble_eq_true rfl) (As := [.int x1, .int x2]) rfl (Nat.le_of_ble_eq_true rfl) dX13_worth_3 rfl (fun v_ f_1 hv => ?_)
  obtain ⟨r_6, rfl, h⟩ := hv
  refine ag_iconst E1 dX13_worth_6 ki_1 ?_
  refine ag_iadd E1 dX13_worth_7 ?_
  exact gw_iret E rfl ⟨_, rfl, h⟩ dX13_worth_8
theorem hdX13_worth : yX13_worth.cls ≠ "java/lang/invoke/MethodHandle" ∧ yX13_worth.cls ≠ "java/lang/invoke/VarHandle" ∧ (parseMethodDescriptor yX13_worth.desc).map (fun d => d.parameters.length) = some 2 := by decide +kernel
theorem kX0_made (l : Launch) (D : va_G) (cs : Nat → ClassId) (b : Nat) (H0 : Heap) (ad : Nat → Nat) (vs : Nat → Option Nat) (f : cW) (x0 : Int32) (x1 : Int32) (x2 : Nat) (Q : Nat → cW → Prop) (h : wX0_made b cs ad vs f x0 x1 x2 Q) : CON l D clC (tysC cs) b H0 (XKd b H0 ad vs) yX0_made cX0_made 3 (some (.object "MarketDays$Giving")) 4 86 [.int x0, .int x1, .ref x2] f (qR Q) := by
  refine con_of (by decide) (Nat.le_of_ble_eq_true rfl) (fun p e R s m below meth c E1 h0 hin0 => ?_)
  have E : EX p R s m ([.int x0, .int x1, .ref x2] : List Value).toArray meth c cX0_made 3 RX0 (some (.object "MarketDays$Giving")) D cs b H0 (XKd b H0 ad vs) [] 4 86 f.2.1 f.2.2 := ⟨E1, h0⟩
  refine ag_sub (lv' := [(0, .int x0), (1, .int x1), (2, .ref x2)]) [0, 1, 2] rfl ?_
  refine ag_iload_n E1 dX0_made_0 rfl 0 rfl ?_
  rcases Classical.em (x0 = (0 : Int32)) with c_1_0 | c_1_0
  · have h := h.1 c_1_0
    refine ag_tableIn E1 (tgt := 36) (off := 35) dX0_made_1 (by rw [c_1_0]; decide) (by rw [c_1_0]; decide) (by rw [c_1_0]; decide) (by decide) ?_
    obtain ⟨hb_3, h⟩ := h
    refine ag_new E1 (ci := 3) (C := RX8) (T := TX8) (N := 3) (fs := [.int (0 : Int32), .int (0 : Int32), .null]) tyX8 tyX8_ok in_X8 q909 q910 q108 rfl rfl hb_3 dX0_made_36 (fun a_1 f_2 e_4 e_5 => ?_)
    have h := h a_1 f_2 e_4 e_5
    have hP_6 : f_2.1 a_1 = some (.inr (3, vp_V [.int (0 : Int32), .int (0 : Int32), .null])) := by rw [e_5, e_4]; exact wNew_s
    refine ag_dup E1 dX0_made_39 rfl ?_
    refine ag_iload_n E1 dX0_made_40 rfl 1 rfl ?_
    refine ag_aload_n E1 dX0_made_41 rfl 2 rfl ?_
    refine ag_callI E1 (kX8_init_c3 _ _ _ _ _ _ _ _ _ _ _ _ h) q913 q108 q911 q912 rfl hdX8_init (Nat.le_of_ble_eq_true rfl) (Nat.le_of_ble_eq_true rfl) (As := [.int x1, .ref x2]) rfl (Nat.le_of_ble_eq_true rfl) dX0_made_42 (fun v_ f_7 hv => ?_) rfl
    obtain ⟨rfl, h⟩ := hv
    exact gw_aret E rfl (Or.inl ⟨_, rfl⟩) (Or.inr ⟨_, rfl⟩) ⟨_, rfl, h⟩ dX0_made_45
  · have h := h.2 c_1_0
    have n_0 := lv_neT c_1_0 (show (0 : Int32).toInt = 0 by decide)
    rcases Classical.em (x0 = (1 : Int32)) with c_1_1 | c_1_1
    · have h := h.1 c_1_1
      refine ag_tableIn E1 (tgt := 46) (off := 45) dX0_made_1 (by rw [c_1_1]; decide) (by rw [c_1_1]; decide) (by rw [c_1_1]; decide) (by decide) ?_
      obtain ⟨hb_10, h⟩ := h
      refine ag_new E1 (ci := 4) (C := RX9) (T := TX9) (N := 3) (fs := [.int (0 : Int32), .int (0 : Int32), .null]) tyX9 tyX9_ok in_X9 q932 q933 q109 rfl rfl hb_10 dX0_made_46 (fun a_8 f_9 e_11 e_12 => ?_)
      have h := h a_8 f_9 e_11 e_12
      have hP_13 : f_9.1 a_8 = some (.inr (4, vp_V [.int (0 : Int32), .int (0 : Int32), .null])) := by rw [e_12, e_11]; exact wNew_s
      refine ag_dup E1 dX0_made_49 rfl ?_
      refine ag_iload_n E1 dX0_made_50 rfl 1 rfl ?_
      refine ag_aload_n E1 dX0_made_51 rfl 2 rfl ?_
      refine ag_callI E1 (kX9_init_c4 _ _ _ _ _ _ _ _ _ _ _ _ h) q936 q109 q934 q935 rfl hdX9_init (Nat.le_of_ble_eq_true rfl) (Nat.le_of_ble_eq_true rfl) (As := [.int x1, .ref x2]) rfl (Nat.le_of_ble_eq_true rfl) dX0_made_52 (fun v_ f_14 hv => ?_) rfl
      obtain ⟨rfl, h⟩ := hv
      exact gw_aret E rfl (Or.inl ⟨_, rfl⟩) (Or.inr ⟨_, rfl⟩) ⟨_, rfl, h⟩ dX0_made_55
    · have h := h.2 c_1_1
      have n_1 := lv_neT c_1_1 (show (1 : Int32).toInt = 1 by decide)
      rcases Classical.em (x0 = (2 : Int32)) with c_1_2 | c_1_2
      · have h := h.1 c_1_2
        refine ag_tableIn E1 (tgt := 56) (off := 55) dX0_made_1 (by rw [c_1_2]; decide) (by rw [c_1_2]; decide) (by rw [c_1_2]; decide) (by decide) ?_
        obtain ⟨hb_17, h⟩ := h
        refine ag_new E1 (ci := 5) (C := RX10) (T := TX10) (N := 3) (fs := [.int (0 : Int32), .int (0 : Int32), .null]) tyX10 tyX10_ok in_X10 q942 q943 q110 rfl rfl hb_17 dX0_made_56 (fun a_15 f_16 e_18 e_19 => ?_)
        have h := h a_15 f_16 e_18 e_19
        have hP_20 : f_16.1 a_15 = some (.inr (5, vp_V [.int (0 : Int32), .int (0 : Int32), .null])) := by rw [e_19, e_18]; exact wNew_s
        refine ag_dup E1 dX0_made_59 rfl ?_
        refine ag_iload_n E1 dX0_made_60 rfl 1 rfl ?_
        refine ag_aload_n E1 dX0_made_61 rfl 2 rfl ?_
        refine ag_callI E1 (kX10_init_c5 _ _ _ _ _ _ _ _ _ _ _ _ h) q946 q110 q944 q945 rfl hdX10_init (Nat.le_of_ble_eq_true rfl) (Nat.le_of_ble_eq_true rfl) (As := [.int x1, .ref x2]) rfl (Nat.le_of_ble_eq_true rfl) dX0_made_62 (fun v_ f_21 hv => ?_) rfl
        obtain ⟨rfl, h⟩ := hv
        exact gw_aret E rfl (Or.inl ⟨_, rfl⟩) (Or.inr ⟨_, rfl⟩) ⟨_, rfl, h⟩ dX0_made_65
      · have h := h.2 c_1_2
        have n_2 := lv_neT c_1_2 (show (2 : Int32).toInt = 2 by decide)
        rcases Classical.em (x0 = (3 : Int32)) with c_1_3 | c_1_3
        · have h := h.1 c_1_3
          refine ag_tableIn E1 (tgt := 66) (off := 65) dX0_made_1 (by rw [c_1_3]; decide) (by rw [c_1_3]; decide) (by rw [c_1_3]; decide) (by decide) ?_
          obtain ⟨hb_24, h⟩ := h
          refine ag_new E1 (ci := 6) (C := RX11) (T := TX11) (N := 3) (fs := [.int (0 : Int32), .int (0 : Int32), .null]) tyX11 tyX11_ok in_X11 q952 q953 q111 rfl rfl hb_24 dX0_made_66 (fun a_22 f_23 e_25 e_26 => ?_)
          have h := h a_22 f_23 e_25 e_26
          have hP_27 : f_23.1 a_22 = some (.inr (6, vp_V [.int (0 : Int32), .int (0 : Int32), .null])) := by rw [e_26, e_25]; exact wNew_s
          refine ag_dup E1 dX0_made_69 rfl ?_
          refine ag_iload_n E1 dX0_made_70 rfl 1 rfl ?_
          refine ag_aload_n E1 dX0_made_71 rfl 2 rfl ?_
          refine ag_callI E1 (kX11_init_c6 _ _ _ _ _ _ _ _ _ _ _ _ h) q956 q111 q954 q955 rfl hdX11_init (Nat.le_of_ble_eq_true rfl) (Nat.le_of_ble_eq_true rfl) (As := [.int x1, .ref x2]) rfl (Nat.le_of_ble_eq_true rfl) dX0_made_72 (fun v_ f_28 hv => ?_) rfl
          obtain ⟨rfl, h⟩ := hv
          exact gw_aret E rfl (Or.inl ⟨_, rfl⟩) (Or.inr ⟨_, rfl⟩) ⟨_, rfl, h⟩ dX0_made_75
        · have h := h.2 c_1_3
          have n_3 := lv_neT c_1_3 (show (3 : Int32).toInt = 3 by decide)
          rcases Classical.em (x0 = (4 : Int32)) with c_1_4 | c_1_4
          · have h := h.1 c_1_4
            refine ag_tableIn E1 (tgt := 76) (off := 75) dX0_made_1 (by rw [c_1_4]; decide) (by rw [c_1_4]; decide) (by rw [c_1_4]; decide) (by decide) ?_
            obtain ⟨hb_31, h⟩ := h
            refine ag_new E1 (ci := 7) (C := RX12) (T := TX12) (N := 3) (fs := [.int (0 : Int32), .int (0 : Int32), .null]) tyX12 tyX12_ok in_X12 q962 q963 q112 rfl rfl hb_31 dX0_made_76 (fun a_29 f_30 e_32 e_33 => ?_)
            have h := h a_29 f_30 e_32 e_33
            have hP_34 : f_30.1 a_29 = some (.inr (7, vp_V [.int (0 : Int32), .int (0 : Int32), .null])) := by rw [e_33, e_32]; exact wNew_s
            refine ag_dup E1 dX0_made_79 rfl ?_
            refine ag_iload_n E1 dX0_made_80 rfl 1 rfl ?_
            refine ag_aload_n E1 dX0_made_81 rfl 2 rfl ?_
            refine ag_callI E1 (kX12_init_c7 _ _ _ _ _ _ _ _ _ _ _ _ h) q966 q112 q964 q965 rfl hdX12_init (Nat.le_of_ble_eq_true rfl) (Nat.le_of_ble_eq_true rfl) (As := [.int x1, .ref x2]) rfl (Nat.le_of_ble_eq_true rfl) dX0_made_82 (fun v_ f_35 hv => ?_) rfl
            obtain ⟨rfl, h⟩ := hv
            exact gw_aret E rfl (Or.inl ⟨_, rfl⟩) (Or.inr ⟨_, rfl⟩) ⟨_, rfl, h⟩ dX0_made_85
          · have h := h.2 c_1_4
            have n_4 := lv_neT c_1_4 (show (4 : Int32).toInt = 4 by decide)
            refine ag_tableOut E1 (tgt := 86) dX0_made_1 (by omega) (by decide) ?_
            obtain ⟨hb_38, h⟩ := h
            refine ag_new E1 (ci := 8) (C := RX13) (T := TX13) (N := 3) (fs := [.int (0 : Int32), .int (0 : Int32), .null]) tyX13 tyX13_ok in_X13 q972 q973 q113 rfl rfl hb_38 dX0_made_86 (fun a_36 f_37 e_39 e_40 => ?_)
            have h := h a_36 f_37 e_39 e_40
            have hP_41 : f_37.1 a_36 = some (.inr (8, vp_V [.int (0 : Int32), .int (0 : Int32), .null])) := by rw [e_40, e_39]; exact wNew_s
            refine ag_dup E1 dX0_made_89 rfl ?_
            refine ag_iload_n E1 dX0_made_90 rfl 1 rfl ?_
            refine ag_aload_n E1 dX0_made_91 rfl 2 rfl ?_
            refine ag_callI E1 (kX13_init_c8 _ _ _ _ _ _ _ _ _ _ _ _ h) q976 q113 q974 q975 rfl hdX13_init (Nat.le_of_ble_eq_true rfl) (Nat.le_of_ble_eq_true rfl) (As := [.int x1, .ref x2]) rfl (Nat.le_of_ble_eq_true rfl) dX0_made_92 (fun v_ f_42 hv => ?_) rfl
            obtain ⟨rfl, h⟩ := hv
            exact gw_aret E rfl (Or.inl ⟨_, rfl⟩) (Or.inr ⟨_, rfl⟩) ⟨_, rfl, h⟩ dX0_made_95
theorem hdX0_made : yX0_made.cls ≠ "java/lang/invoke/MethodHandle" ∧ yX0_made.cls ≠ "java/lang/invoke/VarHandle" ∧ (parseMethodDescriptor yX0_made.desc).map (fun d => d.parameters.length) = some 3 := by decide +kernel
theorem kX0_isUnder (l : Launch) (D : va_G) (cs : Nat → ClassId) (b : Nat) (H0 : Heap) (ad : Nat → Nat) (vs : Nat → Option Nat) (f : cW) (x0 : Nat) (x1 : Int32) (Q : Int32 → cW → Prop) (h : wX0_isUnder b cs ad vs f x0 x1 Q) : CON l D clC (tysC cs) b H0 (XKd b H0 ad vs) yX0_isUnder cX0_isUnder 2 (some .boolean) 0 0 [.ref x0, .int x1] f (qI Q) := by
  refine con_of (by decide) (Nat.le_of_ble_eq_true rfl) (fun p e R s m below meth c E1 h0 hin0 => ?_)
  have E : EX p R s m ([.ref x0, .int x1] : List Value).toArray meth c cX0_isUnder 2 RX0 (some .boolean) D cs b H0 (XKd b H0 ad vs) [] 0 0 f.2.1 f.2.2 := ⟨E1, h0⟩
  refine ag_sub (lv' := [(0, .ref x0), (1, .int x1)]) [0, 1] rfl ?_
  refine ag_iload_n E1 dX0_isUnder_0 rfl 1 rfl ?_
  rcases Classical.em (x1 = (0 : Int32)) with c_1_0 | c_1_0
  · have h := h.1 c_1_0
    refine ag_tableIn E1 (tgt := 36) (off := 35) dX0_isUnder_1 (by rw [c_1_0]; decide) (by rw [c_1_0]; decide) (by rw [c_1_0]; decide) (by decide) ?_
    refine ag_iconst E1 dX0_isUnder_36 ki_1 ?_
    exact gw_zret E rfl (Or.inr rfl) ⟨_, rfl, h⟩ dX0_isUnder_37
  · have h := h.2 c_1_0
    have n_0 := lv_neT c_1_0 (show (0 : Int32).toInt = 0 by decide)
    rcases Classical.em (x1 = (1 : Int32)) with c_1_1 | c_1_1
    · have h := h.1 c_1_1
      refine ag_tableIn E1 (tgt := 38) (off := 37) dX0_isUnder_1 (by rw [c_1_1]; decide) (by rw [c_1_1]; decide) (by rw [c_1_1]; decide) (by decide) ?_
      refine ag_aload_n E1 dX0_isUnder_38 rfl 0 rfl ?_
      obtain ⟨ci_1, cV_2, hv_3, ho_4, h⟩ := h
      refine ag_isU4 E1 hv_3 ho_4 q932 dX0_isUnder_39 ?_
      exact gw_zret E rfl h.1 ⟨_, rfl, h.2⟩ dX0_isUnder_42
    · have h := h.2 c_1_1
      have n_1 := lv_neT c_1_1 (show (1 : Int32).toInt = 1 by decide)
      rcases Classical.em (x1 = (2 : Int32)) with c_1_2 | c_1_2
      · have h := h.1 c_1_2
        refine ag_tableIn E1 (tgt := 43) (off := 42) dX0_isUnder_1 (by rw [c_1_2]; decide) (by rw [c_1_2]; decide) (by rw [c_1_2]; decide) (by decide) ?_
        refine ag_aload_n E1 dX0_isUnder_43 rfl 0 rfl ?_
        obtain ⟨ci_5, cV_6, hv_7, ho_8, h⟩ := h
        refine ag_isU5 E1 hv_7 ho_8 q942 dX0_isUnder_44 ?_
        exact gw_zret E rfl h.1 ⟨_, rfl, h.2⟩ dX0_isUnder_47
      · have h := h.2 c_1_2
        have n_2 := lv_neT c_1_2 (show (2 : Int32).toInt = 2 by decide)
        rcases Classical.em (x1 = (3 : Int32)) with c_1_3 | c_1_3
        · have h := h.1 c_1_3
          refine ag_tableIn E1 (tgt := 48) (off := 47) dX0_isUnder_1 (by rw [c_1_3]; decide) (by rw [c_1_3]; decide) (by rw [c_1_3]; decide) (by decide) ?_
          refine ag_aload_n E1 dX0_isUnder_48 rfl 0 rfl ?_
          obtain ⟨ci_9, cV_10, hv_11, ho_12, h⟩ := h
          refine ag_isU6 E1 hv_11 ho_12 q952 dX0_isUnder_49 ?_
          exact gw_zret E rfl h.1 ⟨_, rfl, h.2⟩ dX0_isUnder_52
        · have h := h.2 c_1_3
          have n_3 := lv_neT c_1_3 (show (3 : Int32).toInt = 3 by decide)
          rcases Classical.em (x1 = (4 : Int32)) with c_1_4 | c_1_4
          · have h := h.1 c_1_4
            refine ag_tableIn E1 (tgt := 53) (off := 52) dX0_isUnder_1 (by rw [c_1_4]; decide) (by rw [c_1_4]; decide) (by rw [c_1_4]; decide) (by decide) ?_
            refine ag_aload_n E1 dX0_isUnder_53 rfl 0 rfl ?_
            obtain ⟨ci_13, cV_14, hv_15, ho_16, h⟩ := h
            refine ag_isU7 E1 hv_15 ho_16 q962 dX0_isUnder_54 ?_
            exact gw_zret E rfl h.1 ⟨_, rfl, h.2⟩ dX0_isUnder_57
          · have h := h.2 c_1_4
            have n_4 := lv_neT c_1_4 (show (4 : Int32).toInt = 4 by decide)
            refine ag_tableOut E1 (tgt := 58) dX0_isUnder_1 (by omega) (by decide) ?_
            refine ag_aload_n E1 dX0_isUnder_58 rfl 0 rfl ?_
            obtain ⟨ci_17, cV_18, hv_19, ho_20, h⟩ := h
            refine ag_isU8 E1 hv_19 ho_20 q972 dX0_isUnder_59 ?_
            exact gw_zret E rfl h.1 ⟨_, rfl, h.2⟩ dX0_isUnder_62
theorem hdX0_isUnder : yX0_isUnder.cls ≠ "java/lang/invoke/MethodHandle" ∧ yX0_isUnder.cls ≠ "java/lang/invoke/VarHandle" ∧ (parseMethodDescriptor yX0_isUnder.desc).map (fun d => d.parameters.length) = some 2 := by decide +kernel
theorem kJ7_init_c18 (l : Launch) (D : va_G) (cs : Nat → ClassId) (b : Nat) (H0 : Heap) (ad : Nat → Nat) (vs : Nat → Option Nat) (f : cW) (x0 : Nat) (x1 : Int32) (Q : cW → Prop) (h : wJ7_init_c18 b cs ad vs f x0 x1 Q) : CON l D clC (tysC cs) b H0 (XKd b H0 ad vs) yJ7_init cJ7_init 2 none 2 40 [.ref x0, .int x1] f (qV Q) := by
  refine con_of (by decide) (Nat.le_of_ble_eq_true rfl) (fun p e R s m below meth c E1 h0 hin0 => ?_)
  have E : EX p R s m ([.ref x0, .int x1] : List Value).toArray meth c cJ7_init 2 RJ7 none D cs b H0 (XKd b H0 ad vs) [] 2 40 f.2.1 f.2.2 := ⟨E1, h0⟩
  have hin : meth.name = "<init>" := hin0 rfl
  refine ag_sub (lv' := [(0, .ref x0), (1, .int x1)]) [0, 1] rfl ?_
  refine ag_aload_n E1 dJ7_init_0 rfl 0 rfl ?_
  refine ag_objInit E1 q290 q126 q127 (Nat.le_of_ble_eq_true rfl) (Nat.le_of_ble_eq_true rfl) (Nat.le_of_ble_eq_true rfl) dJ7_init_1 ?_
  refine ag_gets E1 xk_compact q291 (fun _ h => h) dJ7_init_4 ?_
  refine ag_if_eq E1 (tgt := 25) dJ7_init_7 (by decide) (fun c_7 => ?_) (fun c_7 => ?_)
  · have h := h.1 c_7
    exact h.elim
  · have h := h.2 c_7
    refine ag_aload_n E1 dJ7_init_10 rfl 0 rfl ?_
    refine ag_iload_n E1 dJ7_init_11 rfl 1 rfl ?_
    obtain ⟨hb_3, hb_4, hb_5, h⟩ := h
    refine ag_newarr_byte E1 (t0 := 1) q177 rfl hb_3 rfl hb_4 hb_5 dJ7_init_12 (fun a_1 f_2 e_6 e_7 => ?_)
    have h := h a_1 f_2 e_6 e_7
    have hP_8 : f_2.1 a_1 = some (.inl (cs 1, (Int32.toNatClampNeg x1), .inl (fun _ => 0))) := by rw [e_7, e_6]; exact wNew_s
    obtain ⟨v_9, y_10, y_11, y_12, hP_13, h⟩ := h
    refine ag_putL E1 0 (ci := 18) (C := RJ8) (T := TJ8) (N := 4) (ty := (.array .byte)) tyJ8 tyJ8_ok nmJ8 rfl in_J8 (by decide) q299 (fun _ h => h) rfl (by decide +kernel) rfl rfl dJ7_init_14 hP_13 (Nat.lt_of_lt_of_le (Nat.le_refl _) (Nat.le_of_ble_eq_true rfl)) rfl (fun f_14 e_15 => ?_)
    have h := h f_14 e_15
    have hP_16 : f_14.1 x0 = some (.inr (18, vp_V [.ref a_1, .int y_10, .int y_11, .int y_12])) := by rw [e_15]; exact updP_s
    refine ag_aload_n E1 dJ7_init_17 rfl 0 rfl ?_
    refine ag_iconst E1 dJ7_init_18 ki_0 ?_
    refine ag_putL E1 1 (ci := 18) (C := RJ8) (T := TJ8) (N := 4) (ty := .byte) tyJ8 tyJ8_ok nmJ8 rfl in_J8 (by decide) q300 (fun _ h => h) rfl (by decide +kernel) (by decide) (by decide) dJ7_init_19 hP_16 (Nat.lt_of_lt_of_le (Nat.le_refl _) (Nat.le_of_ble_eq_true rfl)) rfl (fun f_17 e_18 => ?_)
    have h := h f_17 e_18
    have hP_19 : f_17.1 x0 = some (.inr (18, vp_V [.ref a_1, .int (0 : Int32), .int y_11, .int y_12])) := by rw [e_18]; exact updP_s
    refine ag_goto E1 (tgt := 38) dJ7_init_22 (by decide) ?_
    exact gw_vret E rfl ⟨rfl, h⟩ dJ7_init_38
theorem hdJ7_init : yJ7_init.cls ≠ "java/lang/invoke/MethodHandle" ∧ yJ7_init.cls ≠ "java/lang/invoke/VarHandle" ∧ (parseMethodDescriptor yJ7_init.desc).map (fun d => d.parameters.length) = some 1 := by decide +kernel
theorem kJ8_init (l : Launch) (D : va_G) (cs : Nat → ClassId) (b : Nat) (H0 : Heap) (ad : Nat → Nat) (vs : Nat → Option Nat) (f : cW) (x0 : Nat) (Q : cW → Prop) (h : wJ8_init b cs ad vs f x0 Q) : CON l D clC (tysC cs) b H0 (XKd b H0 ad vs) yJ8_init cJ8_init 1 none 3 61 [.ref x0] f (qV Q) := by
  refine con_of (by decide) (Nat.le_of_ble_eq_true rfl) (fun p e R s m below meth c E1 h0 hin0 => ?_)
  have E : EX p R s m ([.ref x0] : List Value).toArray meth c cJ8_init 1 RJ8 none D cs b H0 (XKd b H0 ad vs) [] 3 61 f.2.1 f.2.2 := ⟨E1, h0⟩
  have hin : meth.name = "<init>" := hin0 rfl
  refine ag_sub (lv' := [(0, .ref x0)]) [0] rfl ?_
  refine ag_aload_n E1 dJ8_init_0 rfl 0 rfl ?_
  refine ag_bipush E1 dJ8_init_1 kb_16 ?_
  refine ag_callI E1 (kJ7_init_c18 _ _ _ _ _ _ _ _ _ _ _ h) q289 q93 q287 q288 rfl hdJ7_init (Nat.le_of_ble_eq_true rfl) (Nat.le_of_ble_eq_true rfl) (As := [.int (16 : Int32)]) rfl (Nat.le_of_ble_eq_true rfl) dJ8_init_3 (fun v_ f_1 hv => ?_) rfl
  obtain ⟨rfl, h⟩ := hv
  exact gw_vret E rfl ⟨rfl, h⟩ dJ8_init_6
theorem hdJ8_init : yJ8_init.cls ≠ "java/lang/invoke/MethodHandle" ∧ yJ8_init.cls ≠ "java/lang/invoke/VarHandle" ∧ (parseMethodDescriptor yJ8_init.desc).map (fun d => d.parameters.length) = some 0 := by decide +kernel
theorem kJ7_length_c18 (l : Launch) (D : va_G) (cs : Nat → ClassId) (b : Nat) (H0 : Heap) (ad : Nat → Nat) (vs : Nat → Option Nat) (f : cW) (x0 : Nat) (Q : Int32 → cW → Prop) (h : wJ7_length_c18 b cs ad vs f x0 Q) : CON l D clC (tysC cs) b H0 (XKd b H0 ad vs) yJ7_length cJ7_length 1 (some .int) 0 0 [.ref x0] f (qI Q) := by
  refine con_of (by decide) (Nat.le_of_ble_eq_true rfl) (fun p e R s m below meth c E1 h0 hin0 => ?_)
  have E : EX p R s m ([.ref x0] : List Value).toArray meth c cJ7_length 1 RJ7 (some .int) D cs b H0 (XKd b H0 ad vs) [] 0 0 f.2.1 f.2.2 := ⟨E1, h0⟩
  refine ag_sub (lv' := [(0, .ref x0)]) [0] rfl ?_
  refine ag_aload_n E1 dJ7_length_0 rfl 0 rfl ?_
  obtain ⟨v_1, y_2, y_3, y_4, hP_5, h⟩ := h
  refine ag_getL E1 3 (ci := 18) (C := RJ8) (T := TJ8) (N := 4) rfl in_J8 (by decide) q302 (fun _ h => h) dJ7_length_1 hP_5 rfl ?_
  exact gw_iret E rfl ⟨_, rfl, h⟩ dJ7_length_4
theorem hdJ7_length : yJ7_length.cls ≠ "java/lang/invoke/MethodHandle" ∧ yJ7_length.cls ≠ "java/lang/invoke/VarHandle" ∧ (parseMethodDescriptor yJ7_length.desc).map (fun d => d.parameters.length) = some 0 := by decide +kernel
theorem kJ8_length (l : Launch) (D : va_G) (cs : Nat → ClassId) (b : Nat) (H0 : Heap) (ad : Nat → Nat) (vs : Nat → Option Nat) (f : cW) (x0 : Nat) (Q : Int32 → cW → Prop) (h : wJ8_length b cs ad vs f x0 Q) : CON l D clC (tysC cs) b H0 (XKd b H0 ad vs) yJ8_length cJ8_length 1 (some .int) 1 20 [.ref x0] f (qI Q) := by
  refine con_of (by decide) (Nat.le_of_ble_eq_true rfl) (fun p e R s m below meth c E1 h0 hin0 => ?_)
  have E : EX p R s m ([.ref x0] : List Value).toArray meth c cJ8_length 1 RJ8 (some .int) D cs b H0 (XKd b H0 ad vs) [] 1 20 f.2.1 f.2.2 := ⟨E1, h0⟩
  refine ag_sub (lv' := [(0, .ref x0)]) [0] rfl ?_
  refine ag_aload_n E1 dJ8_length_0 rfl 0 rfl ?_
  obtain ⟨v_2, y_3, y_4, y_5, hP_6, h⟩ := h
  refine ag_callSU E1 (ci := 18) (C := RJ8) (T0 := TJ8) (n2 := 4) hP_6 rfl (kJ7_length_c18 _ _ _ _ _ _ _ _ _ _ h) (lw_app (a := [.methodLink RJ8 _ yJ7_length, .sameMethod _ _ _ _, .superclass _ _, .instanceMethod yJ7_length, .initialized _]) (by intro w hw; simp only [List.mem_cons, List.not_mem_nil, or_false] at hw; rcases hw with e | e | e | e | e <;> (rw [e]; first | exact q316 | exact q1936 | exact q311 | exact q317 | exact q93)) (lw_meth q318)) ⟨by decide, hdJ7_length.2.2⟩ (Nat.le_of_ble_eq_true rfl) (Nat.le_of_ble_eq_true rfl) (As := []) rfl (Nat.le_of_ble_eq_true rfl) dJ8_length_1 rfl (fun v_ f_1 hv => ?_)
  obtain ⟨r_7, rfl, h⟩ := hv
  exact gw_iret E rfl ⟨_, rfl, h⟩ dJ8_length_4
theorem hdJ8_length : yJ8_length.cls ≠ "java/lang/invoke/MethodHandle" ∧ yJ8_length.cls ≠ "java/lang/invoke/VarHandle" ∧ (parseMethodDescriptor yJ8_length.desc).map (fun d => d.parameters.length) = some 0 := by decide +kernel
theorem kJ7_isLatin1_c18 (l : Launch) (D : va_G) (cs : Nat → ClassId) (b : Nat) (H0 : Heap) (ad : Nat → Nat) (vs : Nat → Option Nat) (f : cW) (x0 : Nat) (Q : Int32 → cW → Prop) (h : wJ7_isLatin1_c18 b cs ad vs f x0 Q) : CON l D clC (tysC cs) b H0 (XKd b H0 ad vs) yJ7_isLatin1 cJ7_isLatin1 1 (some .boolean) 0 0 [.ref x0] f (qI Q) := by
  refine con_of (by decide) (Nat.le_of_ble_eq_true rfl) (fun p e R s m below meth c E1 h0 hin0 => ?_)
  have E : EX p R s m ([.ref x0] : List Value).toArray meth c cJ7_isLatin1 1 RJ7 (some .boolean) D cs b H0 (XKd b H0 ad vs) [] 0 0 f.2.1 f.2.2 := ⟨E1, h0⟩
  refine ag_sub (lv' := [(0, .ref x0)]) [0] rfl ?_
  refine ag_gets E1 xk_compact q291 (fun _ h => h) dJ7_isLatin1_0 ?_
  refine ag_if_eq E1 (tgt := 17) dJ7_isLatin1_3 (by decide) (fun c_3 => ?_) (fun c_3 => ?_)
  · have h := h.1 c_3
    refine ag_iconst E1 dJ7_isLatin1_17 ki_0 ?_
    exact gw_zret E rfl (Or.inl rfl) ⟨_, rfl, h⟩ dJ7_isLatin1_18
  · have h := h.2 c_3
    refine ag_aload_n E1 dJ7_isLatin1_6 rfl 0 rfl ?_
    obtain ⟨v_1, y_2, y_3, y_4, hP_5, h⟩ := h
    refine ag_getL E1 1 (ci := 18) (C := RJ8) (T := TJ8) (N := 4) rfl in_J8 (by decide) q300 (fun _ h => h) dJ7_isLatin1_7 hP_5 rfl ?_
    refine ag_if_ne E1 (tgt := 17) dJ7_isLatin1_10 (by decide) (fun c_10 => ?_) (fun c_10 => ?_)
    · have h := h.1 c_10
      refine ag_iconst E1 dJ7_isLatin1_17 ki_0 ?_
      exact gw_zret E rfl (Or.inl rfl) ⟨_, rfl, h⟩ dJ7_isLatin1_18
    · have h := h.2 c_10
      refine ag_iconst E1 dJ7_isLatin1_13 ki_1 ?_
      refine ag_goto E1 (tgt := 18) dJ7_isLatin1_14 (by decide) ?_
      exact gw_zret E rfl (Or.inr rfl) ⟨_, rfl, h⟩ dJ7_isLatin1_18
theorem hdJ7_isLatin1 : yJ7_isLatin1.cls ≠ "java/lang/invoke/MethodHandle" ∧ yJ7_isLatin1.cls ≠ "java/lang/invoke/VarHandle" ∧ (parseMethodDescriptor yJ7_isLatin1.desc).map (fun d => d.parameters.length) = some 0 := by decide +kernel
theorem kJ7_ensureCapacityInternal_c18 (l : Launch) (D : va_G) (cs : Nat → ClassId) (b : Nat) (H0 : Heap) (ad : Nat → Nat) (vs : Nat → Option Nat) (f : cW) (x0 : Nat) (x1 : Int32) (Q : cW → Prop) (h : wJ7_ensureCapacityInternal_c18 b cs ad vs f x0 x1 Q) : CON l D clC (tysC cs) b H0 (XKd b H0 ad vs) yJ7_ensureCapacityInternal cJ7_ensureCapacityInternal 3 none 3 70 [.ref x0, .int x1] f (qV Q) := by
  refine con_of (by decide) (Nat.le_of_ble_eq_true rfl) (fun p e R s m below meth c E1 h0 hin0 => ?_)
  have E : EX p R s m ([.ref x0, .int x1] : List Value).toArray meth c cJ7_ensureCapacityInternal 3 RJ7 none D cs b H0 (XKd b H0 ad vs) [] 3 70 f.2.1 f.2.2 := ⟨E1, h0⟩
  refine ag_sub (lv' := [(0, .ref x0), (1, .int x1)]) [0, 1] rfl ?_
  refine ag_aload_n E1 dJ7_ensureCapacityInternal_0 rfl 0 rfl ?_
  obtain ⟨v_1, y_2, y_3, y_4, hP_5, h⟩ := h
  refine ag_getL E1 0 (ci := 18) (C := RJ8) (T := TJ8) (N := 4) rfl in_J8 (by decide) q299 (fun _ h => h) dJ7_ensureCapacityInternal_1 hP_5 rfl ?_
  obtain ⟨a_6, e_7, h⟩ := h
  rw [e_7]
  obtain ⟨n_8, c_9, hP_10, h⟩ := h
  refine ag_alen E1 (t0 := 1) hP_10 rfl rfl dJ7_ensureCapacityInternal_4 ?_
  refine ag_aload_n E1 dJ7_ensureCapacityInternal_5 rfl 0 rfl ?_
  refine ag_getL E1 1 (ci := 18) (C := RJ8) (T := TJ8) (N := 4) rfl in_J8 (by decide) q300 (fun _ h => h) dJ7_ensureCapacityInternal_6 hP_5 rfl ?_
  refine ag_ishr E1 dJ7_ensureCapacityInternal_9 ?_
  refine ag_topi (fun x2_11 e_x2_11 => ?_)
  have h := h x2_11 e_x2_11
  refine ag_istore_n E1 (lv' := [(2, .int x2_11), (0, .ref x0), (1, .int x1)]) dJ7_ensureCapacityInternal_10 rfl (Nat.lt_of_lt_of_le (Nat.le_refl _) (Nat.le_of_ble_eq_true rfl)) rfl ?_
  refine ag_iload_n E1 dJ7_ensureCapacityInternal_11 rfl 2 rfl ?_
  refine ag_iload_n E1 dJ7_ensureCapacityInternal_12 rfl 0 rfl ?_
  refine ag_isub E1 dJ7_ensureCapacityInternal_13 ?_
  refine ag_if_le E1 (tgt := 38) dJ7_ensureCapacityInternal_14 (by decide) (fun c_14 => ?_) (fun c_14 => ?_)
  · have h := h.1 c_14
    exact gw_vret E rfl ⟨rfl, h⟩ dJ7_ensureCapacityInternal_38
  · have h := h.2 c_14
    exact h.elim
theorem hdJ7_ensureCapacityInternal : yJ7_ensureCapacityInternal.cls ≠ "java/lang/invoke/MethodHandle" ∧ yJ7_ensureCapacityInternal.cls ≠ "java/lang/invoke/VarHandle" ∧ (parseMethodDescriptor yJ7_ensureCapacityInternal.desc).map (fun d => d.parameters.length) = some 1 := by decide +kernel
theorem kJ4_canEncode (l : Launch) (D : va_G) (cs : Nat → ClassId) (b : Nat) (H0 : Heap) (ad : Nat → Nat) (vs : Nat → Option Nat) (f : cW) (x0 : Int32) (Q : Int32 → cW → Prop) (h : wJ4_canEncode b cs ad vs f x0 Q) : CON l D clC (tysC cs) b H0 (XKd b H0 ad vs) yJ4_canEncode cJ4_canEncode 1 (some .boolean) 0 0 [.int x0] f (qI Q) := by
  refine con_of (by decide) (Nat.le_of_ble_eq_true rfl) (fun p e R s m below meth c E1 h0 hin0 => ?_)
  have E : EX p R s m ([.int x0] : List Value).toArray meth c cJ4_canEncode 1 RJ4 (some .boolean) D cs b H0 (XKd b H0 ad vs) [] 0 0 f.2.1 f.2.2 := ⟨E1, h0⟩
  refine ag_sub (lv' := [(0, .int x0)]) [0] rfl ?_
  refine ag_iload_n E1 dJ4_canEncode_0 rfl 0 rfl ?_
  refine ag_sipush E1 dJ4_canEncode_1 ks_255 ?_
  refine ag_icmp_gt E1 (tgt := 11) dJ4_canEncode_4 (by decide) (fun c_4 => ?_) (fun c_4 => ?_)
  · have h := h.1 c_4
    refine ag_iconst E1 dJ4_canEncode_11 ki_0 ?_
    exact gw_zret E rfl (Or.inl rfl) ⟨_, rfl, h⟩ dJ4_canEncode_12
  · have h := h.2 c_4
    refine ag_iconst E1 dJ4_canEncode_7 ki_1 ?_
    refine ag_goto E1 (tgt := 12) dJ4_canEncode_8 (by decide) ?_
    exact gw_zret E rfl (Or.inr rfl) ⟨_, rfl, h⟩ dJ4_canEncode_12
theorem hdJ4_canEncode : yJ4_canEncode.cls ≠ "java/lang/invoke/MethodHandle" ∧ yJ4_canEncode.cls ≠ "java/lang/invoke/VarHandle" ∧ (parseMethodDescriptor yJ4_canEncode.desc).map (fun d => d.parameters.length) = some 1 := by decide +kernel
theorem tbJ7_append_c18_45 (E : EX p R s m args meth c cJ7_append 2 RJ7 (some (.object "java/lang/AbstractStringBuilder")) D cs b H0 (XKd b H0 ad vs) [] 6 137 z u) {Q : Nat → cW → Prop}  {x0 : Nat} {x1 : Int32} {f : cW} (h : wbJ7_append_c18_45 b cs ad vs  Q x0 x1 f) : AGW p l e R s m args below meth c D b 2 z u (qR Q) 45 [(0, .ref x0), (1, .int x1)] [] f := by
  have E1 := E.1
  exact h.elim
theorem kJ7_append_c18 (l : Launch) (D : va_G) (cs : Nat → ClassId) (b : Nat) (H0 : Heap) (ad : Nat → Nat) (vs : Nat → Option Nat) (f : cW) (x0 : Nat) (x1 : Int32) (Q : Nat → cW → Prop) (h : wJ7_append_c18 b cs ad vs f x0 x1 Q) : CON l D clC (tysC cs) b H0 (XKd b H0 ad vs) yJ7_append cJ7_append 2 (some (.object "java/lang/AbstractStringBuilder")) 6 137 [.ref x0, .int x1] f (qR Q) := by
  refine con_of (by decide) (Nat.le_of_ble_eq_true rfl) (fun p e R s m below meth c E1 h0 hin0 => ?_)
  have E : EX p R s m ([.ref x0, .int x1] : List Value).toArray meth c cJ7_append 2 RJ7 (some (.object "java/lang/AbstractStringBuilder")) D cs b H0 (XKd b H0 ad vs) [] 6 137 f.2.1 f.2.2 := ⟨E1, h0⟩
  refine ag_sub (lv' := [(0, .ref x0), (1, .int x1)]) [0, 1] rfl ?_
  refine ag_aload_n E1 dJ7_append_0 rfl 0 rfl ?_
  refine ag_aload_n E1 dJ7_append_1 rfl 0 rfl ?_
  obtain ⟨v_1, y_2, y_3, y_4, hP_5, h⟩ := h
  refine ag_getL E1 3 (ci := 18) (C := RJ8) (T := TJ8) (N := 4) rfl in_J8 (by decide) q302 (fun _ h => h) dJ7_append_2 hP_5 rfl ?_
  refine ag_iconst E1 dJ7_append_5 ki_1 ?_
  refine ag_iadd E1 dJ7_append_6 ?_
  refine ag_callPU E1 (ci := 18) (C := RJ8) (T0 := TJ8) (n2 := 4) hP_5 rfl (kJ7_ensureCapacityInternal_c18 _ _ _ _ _ _ _ _ _ _ _ h) q329 q326 q1938 xk_ens q328 q93 hdJ7_ensureCapacityInternal (Nat.le_of_ble_eq_true rfl) (Nat.le_of_ble_eq_true rfl) (As := [.int (y_4 + (1 : Int32))]) rfl (Nat.le_of_ble_eq_true rfl) dJ7_append_7 rfl (fun v_ f_6 hv => ?_)
  obtain ⟨rfl, h⟩ := hv
  refine ag_aload_n E1 dJ7_append_10 rfl 0 rfl ?_
  obtain ⟨v_8, y_9, y_10, y_11, hP_12, h⟩ := h
  refine ag_callU E1 (ci := 18) (C := RJ8) (T0 := TJ8) (n2 := 4) hP_12 rfl (kJ7_isLatin1_c18 _ _ _ _ _ _ _ _ _ _ h) (lw_app (by intro w hw; simp only [List.mem_cons, List.not_mem_nil, or_false] at hw; rcases hw with e | e | e | e | e <;> (rw [e]; first | exact q361 | exact q363 | exact q364 | exact q362 | exact q93)) (lw_meth q365)) rfl hdJ7_isLatin1 (Nat.le_of_ble_eq_true rfl) (Nat.le_of_ble_eq_true rfl) (As := []) rfl (Nat.le_of_ble_eq_true rfl) dJ7_append_11 rfl (fun v_ f_7 hv => ?_)
  obtain ⟨r_13, rfl, h⟩ := hv
  refine ag_if_eq E1 (tgt := 45) dJ7_append_14 (by decide) (fun c_14 => ?_) (fun c_14 => ?_)
  · have h := h.1 c_14
    exact tbJ7_append_c18_45 E  h
  · have h := h.2 c_14
    refine ag_iload_n E1 dJ7_append_17 rfl 1 rfl ?_
    refine ag_callS E1 (kJ4_canEncode _ _ _ _ _ _ _ _ _ _ h) (lw_S q366 q367 q89 q368) hdJ4_canEncode (Nat.le_of_ble_eq_true rfl) (Nat.le_of_ble_eq_true rfl) (As := [.int x1]) rfl (Nat.le_of_ble_eq_true rfl) dJ7_append_18 (fun v_ f_14 hv => ?_) rfl
    obtain ⟨r_15, rfl, h⟩ := hv
    refine ag_if_eq E1 (tgt := 45) dJ7_append_21 (by decide) (fun c_21 => ?_) (fun c_21 => ?_)
    · have h := h.1 c_21
      exact tbJ7_append_c18_45 E  h
    · have h := h.2 c_21
      refine ag_aload_n E1 dJ7_append_24 rfl 0 rfl ?_
      obtain ⟨v_16, y_17, y_18, y_19, hP_20, h⟩ := h
      refine ag_getL E1 0 (ci := 18) (C := RJ8) (T := TJ8) (N := 4) rfl in_J8 (by decide) q299 (fun _ h => h) dJ7_append_25 hP_20 rfl ?_
      refine ag_aload_n E1 dJ7_append_28 rfl 0 rfl ?_
      refine ag_dup E1 dJ7_append_29 rfl ?_
      refine ag_getL E1 3 (ci := 18) (C := RJ8) (T := TJ8) (N := 4) rfl in_J8 (by decide) q302 (fun _ h => h) dJ7_append_30 hP_20 rfl ?_
      refine ag_dup_x1 E1 dJ7_append_33 rfl rfl ?_
      refine ag_iconst E1 dJ7_append_34 ki_1 ?_
      refine ag_iadd E1 dJ7_append_35 ?_
      refine ag_putL E1 3 (ci := 18) (C := RJ8) (T := TJ8) (N := 4) (ty := .int) tyJ8 tyJ8_ok nmJ8 rfl in_J8 (by decide) q302 (fun _ h => h) rfl (by decide +kernel) rfl rfl dJ7_append_36 hP_20 (Nat.lt_of_lt_of_le (Nat.le_refl _) (Nat.le_of_ble_eq_true rfl)) rfl (fun f_21 e_22 => ?_)
      have h := h f_21 e_22
      have hP_23 : f_21.1 x0 = some (.inr (18, vp_V [v_16, .int y_17, .int y_18, .int (y_19 + (1 : Int32))])) := by rw [e_22]; exact updP_s
      refine ag_iload_n E1 dJ7_append_39 rfl 1 rfl ?_
      refine ag_i2b E1 dJ7_append_40 ?_
      obtain ⟨a_24, e_25, h⟩ := h
      rw [e_25]
      obtain ⟨n_26, c_27, hP_28, h⟩ := h
      obtain ⟨hin_29, h⟩ := h
      refine ag_bast E1 (t0 := 1) hP_28 rfl hin_29 dJ7_append_41 ?_
      refine ag_named (fun f_30 e_31 => ?_)
      have h := h f_30 e_31
      refine ag_goto E1 (tgt := 75) dJ7_append_42 (by decide) ?_
      refine ag_aload_n E1 dJ7_append_75 rfl 0 rfl ?_
      exact gw_aret E rfl (Or.inl ⟨_, rfl⟩) (Or.inr ⟨_, rfl⟩) ⟨_, rfl, h⟩ dJ7_append_76
theorem hdJ7_append : yJ7_append.cls ≠ "java/lang/invoke/MethodHandle" ∧ yJ7_append.cls ≠ "java/lang/invoke/VarHandle" ∧ (parseMethodDescriptor yJ7_append.desc).map (fun d => d.parameters.length) = some 1 := by decide +kernel
theorem kJ8_append (l : Launch) (D : va_G) (cs : Nat → ClassId) (b : Nat) (H0 : Heap) (ad : Nat → Nat) (vs : Nat → Option Nat) (f : cW) (x0 : Nat) (x1 : Int32) (Q : Nat → cW → Prop) (h : wJ8_append b cs ad vs f x0 x1 Q) : CON l D clC (tysC cs) b H0 (XKd b H0 ad vs) yJ8_append cJ8_append 2 (some (.object "java/lang/StringBuilder")) 7 158 [.ref x0, .int x1] f (qR Q) := by
  refine con_of (by decide) (Nat.le_of_ble_eq_true rfl) (fun p e R s m below meth c E1 h0 hin0 => ?_)
  have E : EX p R s m ([.ref x0, .int x1] : List Value).toArray meth c cJ8_append 2 RJ8 (some (.object "java/lang/StringBuilder")) D cs b H0 (XKd b H0 ad vs) [] 7 158 f.2.1 f.2.2 := ⟨E1, h0⟩
  refine ag_sub (lv' := [(0, .ref x0), (1, .int x1)]) [0, 1] rfl ?_
  refine ag_aload_n E1 dJ8_append_0 rfl 0 rfl ?_
  refine ag_iload_n E1 dJ8_append_1 rfl 1 rfl ?_
  obtain ⟨v_2, y_3, y_4, y_5, hP_6, h⟩ := h
  refine ag_callSU E1 (ci := 18) (C := RJ8) (T0 := TJ8) (n2 := 4) hP_6 rfl (kJ7_append_c18 _ _ _ _ _ _ _ _ _ _ _ h) (lw_app (a := [.methodLink RJ8 _ yJ7_append, .sameMethod _ _ _ _, .superclass _ _, .instanceMethod yJ7_append, .initialized _]) (by intro w hw; simp only [List.mem_cons, List.not_mem_nil, or_false] at hw; rcases hw with e | e | e | e | e <;> (rw [e]; first | exact q323 | exact q1937 | exact q311 | exact q324 | exact q93)) (lw_meth q325)) ⟨by decide, hdJ7_append.2.2⟩ (Nat.le_of_ble_eq_true rfl) (Nat.le_of_ble_eq_true rfl) (As := [.int x1]) rfl (Nat.le_of_ble_eq_true rfl) dJ8_append_2 rfl (fun v_ f_1 hv => ?_)
  obtain ⟨r_7, rfl, h⟩ := hv
  refine ag_pop E1 dJ8_append_5 rfl ?_
  refine ag_aload_n E1 dJ8_append_6 rfl 0 rfl ?_
  exact gw_aret E rfl (Or.inl ⟨_, rfl⟩) (Or.inr ⟨_, rfl⟩) ⟨_, rfl, h⟩ dJ8_append_7
theorem hdJ8_append : yJ8_append.cls ≠ "java/lang/invoke/MethodHandle" ∧ yJ8_append.cls ≠ "java/lang/invoke/VarHandle" ∧ (parseMethodDescriptor yJ8_append.desc).map (fun d => d.parameters.length) = some 1 := by decide +kernel
theorem kJ7_getValue_c18 (l : Launch) (D : va_G) (cs : Nat → ClassId) (b : Nat) (H0 : Heap) (ad : Nat → Nat) (vs : Nat → Option Nat) (f : cW) (x0 : Nat) (Q : Nat → cW → Prop) (h : wJ7_getValue_c18 b cs ad vs f x0 Q) : CON l D clC (tysC cs) b H0 (XKd b H0 ad vs) yJ7_getValue cJ7_getValue 1 (some (.array .byte)) 0 0 [.ref x0] f (qR Q) := by
  refine con_of (by decide) (Nat.le_of_ble_eq_true rfl) (fun p e R s m below meth c E1 h0 hin0 => ?_)
  have E : EX p R s m ([.ref x0] : List Value).toArray meth c cJ7_getValue 1 RJ7 (some (.array .byte)) D cs b H0 (XKd b H0 ad vs) [] 0 0 f.2.1 f.2.2 := ⟨E1, h0⟩
  refine ag_sub (lv' := [(0, .ref x0)]) [0] rfl ?_
  refine ag_aload_n E1 dJ7_getValue_0 rfl 0 rfl ?_
  obtain ⟨v_1, y_2, y_3, y_4, hP_5, h⟩ := h
  refine ag_getL E1 0 (ci := 18) (C := RJ8) (T := TJ8) (N := 4) rfl in_J8 (by decide) q299 (fun _ h => h) dJ7_getValue_1 hP_5 rfl ?_
  obtain ⟨a_6, e_7, h⟩ := h
  rw [e_7]
  exact gw_aret E rfl (Or.inr ⟨_, rfl⟩) (Or.inr ⟨_, rfl⟩) ⟨_, rfl, h⟩ dJ7_getValue_4
theorem hdJ7_getValue : yJ7_getValue.cls ≠ "java/lang/invoke/MethodHandle" ∧ yJ7_getValue.cls ≠ "java/lang/invoke/VarHandle" ∧ (parseMethodDescriptor yJ7_getValue.desc).map (fun d => d.parameters.length) = some 0 := by decide +kernel
theorem kJ11_checkLength (l : Launch) (D : va_G) (cs : Nat → ClassId) (b : Nat) (H0 : Heap) (ad : Nat → Nat) (vs : Nat → Option Nat) (f : cW) (x0 : Int32) (x1 : Int32) (Q : cW → Prop) (h : wJ11_checkLength b cs ad vs f x0 x1 Q) : CON l D clC (tysC cs) b H0 (XKd b H0 ad vs) yJ11_checkLength cJ11_checkLength 2 none 0 0 [.int x0, .int x1] f (qV Q) := by
  refine con_of (by decide) (Nat.le_of_ble_eq_true rfl) (fun p e R s m below meth c E1 h0 hin0 => ?_)
  have E : EX p R s m ([.int x0, .int x1] : List Value).toArray meth c cJ11_checkLength 2 RJ11 none D cs b H0 (XKd b H0 ad vs) [] 0 0 f.2.1 f.2.2 := ⟨E1, h0⟩
  refine ag_sub (lv' := [(0, .int x0), (1, .int x1)]) [0, 1] rfl ?_
  refine ag_iload_n E1 dJ11_checkLength_0 rfl 1 rfl ?_
  refine ag_iload_n E1 dJ11_checkLength_1 rfl 0 rfl ?_
  refine ag_icmp_ge E1 (tgt := 37) dJ11_checkLength_2 (by decide) (fun c_2 => ?_) (fun c_2 => ?_)
  · have h := h.1 c_2
    exact gw_vret E rfl ⟨rfl, h⟩ dJ11_checkLength_37
  · have h := h.2 c_2
    exact h.elim
theorem hdJ11_checkLength : yJ11_checkLength.cls ≠ "java/lang/invoke/MethodHandle" ∧ yJ11_checkLength.cls ≠ "java/lang/invoke/VarHandle" ∧ (parseMethodDescriptor yJ11_checkLength.desc).map (fun d => d.parameters.length) = some 2 := by decide +kernel
theorem kJ11_copyOfRangeByte (l : Launch) (D : va_G) (cs : Nat → ClassId) (b : Nat) (H0 : Heap) (ad : Nat → Nat) (vs : Nat → Option Nat) (f : cW) (x0 : Nat) (x1 : Int32) (x2 : Int32) (Q : Nat → cW → Prop) (h : wJ11_copyOfRangeByte b cs ad vs f x0 x1 x2 Q) : CON l D clC (tysC cs) b H0 (XKd b H0 ad vs) yJ11_copyOfRangeByte cJ11_copyOfRangeByte 5 (some (.array .byte)) 1 40 [.ref x0, .int x1, .int x2] f (qR Q) := by
  refine con_of (by decide) (Nat.le_of_ble_eq_true rfl) (fun p e R s m below meth c E1 h0 hin0 => ?_)
  have E : EX p R s m ([.ref x0, .int x1, .int x2] : List Value).toArray meth c cJ11_copyOfRangeByte 5 RJ11 (some (.array .byte)) D cs b H0 (XKd b H0 ad vs) [] 1 40 f.2.1 f.2.2 := ⟨E1, h0⟩
  refine ag_sub (lv' := [(0, .ref x0), (1, .int x1), (2, .int x2)]) [0, 1, 2] rfl ?_
  refine ag_iload_n E1 dJ11_copyOfRangeByte_0 rfl 1 rfl ?_
  refine ag_iload_n E1 dJ11_copyOfRangeByte_1 rfl 2 rfl ?_
  refine ag_callS E1 (kJ11_checkLength _ _ _ _ _ _ _ _ _ _ _ h) (lw_S q420 q421 q97 q422) hdJ11_checkLength (Nat.le_of_ble_eq_true rfl) (Nat.le_of_ble_eq_true rfl) (As := [.int x1, .int x2]) rfl (Nat.le_of_ble_eq_true rfl) dJ11_copyOfRangeByte_2 (fun v_ f_1 hv => ?_) rfl
  obtain ⟨rfl, h⟩ := hv
  refine ag_iload_n E1 dJ11_copyOfRangeByte_5 rfl 2 rfl ?_
  refine ag_iload_n E1 dJ11_copyOfRangeByte_6 rfl 1 rfl ?_
  refine ag_isub E1 dJ11_copyOfRangeByte_7 ?_
  refine ag_topi (fun x3_2 e_x3_2 => ?_)
  have h := h x3_2 e_x3_2
  refine ag_istore_n E1 (lv' := [(3, .int x3_2), (0, .ref x0), (1, .int x1), (2, .int x2)]) dJ11_copyOfRangeByte_8 rfl (Nat.lt_of_lt_of_le (Nat.le_refl _) (Nat.le_of_ble_eq_true rfl)) rfl ?_
  refine ag_iload_n E1 dJ11_copyOfRangeByte_9 rfl 0 rfl ?_
  obtain ⟨hb_5, hb_6, hb_7, h⟩ := h
  refine ag_newarr_byte E1 (t0 := 1) q177 rfl hb_5 rfl hb_6 hb_7 dJ11_copyOfRangeByte_10 (fun a_3 f_4 e_8 e_9 => ?_)
  have h := h a_3 f_4 e_8 e_9
  have hP_10 : f_4.1 a_3 = some (.inl (cs 1, (Int32.toNatClampNeg x3_2), .inl (fun _ => 0))) := by rw [e_9, e_8]; exact wNew_s
  refine ag_astore E1 (lv' := [(4, .ref a_3), (3, .int x3_2), (0, .ref x0), (1, .int x1), (2, .int x2)]) dJ11_copyOfRangeByte_12 (Nat.lt_of_lt_of_le (Nat.le_refl _) (Nat.le_of_ble_eq_true rfl)) rfl ?_
  refine ag_aload_n E1 dJ11_copyOfRangeByte_14 rfl 2 rfl ?_
  refine ag_iload_n E1 dJ11_copyOfRangeByte_15 rfl 3 rfl ?_
  refine ag_aload E1 dJ11_copyOfRangeByte_16 0 rfl ?_
  refine ag_iconst E1 dJ11_copyOfRangeByte_18 ki_0 ?_
  refine ag_aload_n E1 dJ11_copyOfRangeByte_19 rfl 2 rfl ?_
  obtain ⟨n_11, c_12, hP_13, h⟩ := h
  refine ag_alen E1 (t0 := 1) hP_13 rfl rfl dJ11_copyOfRangeByte_20 ?_
  refine ag_iload_n E1 dJ11_copyOfRangeByte_21 rfl 3 rfl ?_
  refine ag_isub E1 dJ11_copyOfRangeByte_22 ?_
  refine ag_iload_n E1 dJ11_copyOfRangeByte_23 rfl 1 rfl ?_
  refine ag_mmin E1 q355 q356 q96 q357 (Nat.le_of_ble_eq_true rfl) (Nat.le_of_ble_eq_true rfl) (Nat.le_of_ble_eq_true rfl) dJ11_copyOfRangeByte_24 ?_
  obtain ⟨hc_14, hc_15, hc_16, hc_17, hc_18, hx_19, h⟩ := h
  refine ag_copyi E1 (t0 := 1) q358 q360 q359 q98 hP_13 hP_10 rfl rfl hc_14 hc_15 hc_16 hc_17 hc_18 hx_19 (Nat.le_of_ble_eq_true rfl) (Nat.le_of_ble_eq_true rfl) (Nat.le_of_ble_eq_true rfl) dJ11_copyOfRangeByte_27 (fun f_20 e_21 => ?_)
  have h := h f_20 e_21
  refine ag_aload E1 dJ11_copyOfRangeByte_30 0 rfl ?_
  exact gw_aret E rfl (Or.inr ⟨_, rfl⟩) (Or.inr ⟨_, rfl⟩) ⟨_, rfl, h⟩ dJ11_copyOfRangeByte_32
theorem hdJ11_copyOfRangeByte : yJ11_copyOfRangeByte.cls ≠ "java/lang/invoke/MethodHandle" ∧ yJ11_copyOfRangeByte.cls ≠ "java/lang/invoke/VarHandle" ∧ (parseMethodDescriptor yJ11_copyOfRangeByte.desc).map (fun d => d.parameters.length) = some 3 := by decide +kernel
theorem tbJ11_copyOfRange_10 (E : EX p R s m args meth c cJ11_copyOfRange 3 RJ11 (some (.array .byte)) D cs b H0 (XKd b H0 ad vs) [] 2 64 z u) {Q : Nat → cW → Prop}  {x0 : Nat} {x1 : Int32} {x2 : Int32} {f : cW} (h : wbJ11_copyOfRange_10 b cs ad vs  Q x0 x1 x2 f) : AGW p l e R s m args below meth c D b 3 z u (qR Q) 10 [(0, .ref x0), (1, .int x1), (2, .int x2)] [] f := by
  have E1 := E.1
  refine ag_aload_n E1 dJ11_copyOfRange_10 rfl 0 rfl ?_
  refine ag_iload_n E1 dJ11_copyOfRange_11 rfl 1 rfl ?_
  refine ag_iload_n E1 dJ11_copyOfRange_12 rfl 2 rfl ?_
  refine ag_callS E1 (kJ11_copyOfRangeByte _ _ _ _ _ _ _ _ _ _ _ _ h) (lw_S q417 q418 q97 q419) hdJ11_copyOfRangeByte (Nat.le_of_ble_eq_true rfl) (Nat.le_of_ble_eq_true rfl) (As := [.ref x0, .int x1, .int x2]) rfl (Nat.le_of_ble_eq_true rfl) dJ11_copyOfRange_13 (fun v_ f_1 hv => ?_) rfl
  obtain ⟨r_2, rfl, h⟩ := hv
  exact gw_aret E rfl (Or.inr ⟨_, rfl⟩) (Or.inr ⟨_, rfl⟩) ⟨_, rfl, h⟩ dJ11_copyOfRange_16
theorem kJ11_copyOfRange (l : Launch) (D : va_G) (cs : Nat → ClassId) (b : Nat) (H0 : Heap) (ad : Nat → Nat) (vs : Nat → Option Nat) (f : cW) (x0 : Nat) (x1 : Int32) (x2 : Int32) (Q : Nat → cW → Prop) (h : wJ11_copyOfRange b cs ad vs f x0 x1 x2 Q) : CON l D clC (tysC cs) b H0 (XKd b H0 ad vs) yJ11_copyOfRange cJ11_copyOfRange 3 (some (.array .byte)) 2 64 [.ref x0, .int x1, .int x2] f (qR Q) := by
  refine con_of (by decide) (Nat.le_of_ble_eq_true rfl) (fun p e R s m below meth c E1 h0 hin0 => ?_)
  have E : EX p R s m ([.ref x0, .int x1, .int x2] : List Value).toArray meth c cJ11_copyOfRange 3 RJ11 (some (.array .byte)) D cs b H0 (XKd b H0 ad vs) [] 2 64 f.2.1 f.2.2 := ⟨E1, h0⟩
  refine ag_sub (lv' := [(0, .ref x0), (1, .int x1), (2, .int x2)]) [0, 1, 2] rfl ?_
  refine ag_iload_n E1 dJ11_copyOfRange_0 rfl 1 rfl ?_
  refine ag_if_ne E1 (tgt := 10) dJ11_copyOfRange_1 (by decide) (fun c_1 => ?_) (fun c_1 => ?_)
  · have h := h.1 c_1
    exact tbJ11_copyOfRange_10 E  h
  · have h := h.2 c_1
    refine ag_iload_n E1 dJ11_copyOfRange_4 rfl 2 rfl ?_
    refine ag_aload_n E1 dJ11_copyOfRange_5 rfl 0 rfl ?_
    obtain ⟨n_3, c_4, hP_5, h⟩ := h
    refine ag_alen E1 (t0 := 1) hP_5 rfl rfl dJ11_copyOfRange_6 ?_
    refine ag_icmp_eq E1 (tgt := 17) dJ11_copyOfRange_7 (by decide) (fun c_7 => ?_) (fun c_7 => ?_)
    · have h := h.1 c_7
      exact h.elim
    · have h := h.2 c_7
      exact tbJ11_copyOfRange_10 E  h
theorem hdJ11_copyOfRange : yJ11_copyOfRange.cls ≠ "java/lang/invoke/MethodHandle" ∧ yJ11_copyOfRange.cls ≠ "java/lang/invoke/VarHandle" ∧ (parseMethodDescriptor yJ11_copyOfRange.desc).map (fun d => d.parameters.length) = some 3 := by decide +kernel
theorem kJ3_init_2 (l : Launch) (D : va_G) (cs : Nat → ClassId) (b : Nat) (H0 : Heap) (ad : Nat → Nat) (vs : Nat → Option Nat) (f : cW) (x0 : Nat) (x1 : Nat) (Q : cW → Prop) (h : wJ3_init_2 b cs ad vs f x0 x1 Q) : CON l D clC (tysC cs) b H0 (XKd b H0 ad vs) yJ3_init_2 cJ3_init_2 5 none 5 118 [.ref x0, .ref x1, .null] f (qV Q) := by
  refine con_of (by decide) (Nat.le_of_ble_eq_true rfl) (fun p e R s m below meth c E1 h0 hin0 => ?_)
  have E : EX p R s m ([.ref x0, .ref x1, .null] : List Value).toArray meth c cJ3_init_2 5 RJ3 none D cs b H0 (XKd b H0 ad vs) [] 5 118 f.2.1 f.2.2 := ⟨E1, h0⟩
  have hin : meth.name = "<init>" := hin0 rfl
  refine ag_sub (lv' := [(0, .ref x0), (1, .ref x1), (2, .null)]) [0, 1, 2] rfl ?_
  refine ag_aload_n E1 dJ3_init_2_0 rfl 0 rfl ?_
  refine ag_objInit E1 q406 q126 q127 (Nat.le_of_ble_eq_true rfl) (Nat.le_of_ble_eq_true rfl) (Nat.le_of_ble_eq_true rfl) dJ3_init_2_1 ?_
  refine ag_aload_n E1 dJ3_init_2_4 rfl 1 rfl ?_
  obtain ⟨v_2, y_3, y_4, y_5, hP_6, h⟩ := h
  refine ag_callU E1 (ci := 18) (C := RJ8) (T0 := TJ8) (n2 := 4) hP_6 rfl (kJ7_getValue_c18 _ _ _ _ _ _ _ _ _ _ h) (lw_app (by intro w hw; simp only [List.mem_cons, List.not_mem_nil, or_false] at hw; rcases hw with e | e | e | e | e <;> (rw [e]; first | exact q407 | exact q409 | exact q410 | exact q408 | exact q93)) (lw_meth q411)) rfl hdJ7_getValue (Nat.le_of_ble_eq_true rfl) (Nat.le_of_ble_eq_true rfl) (As := []) rfl (Nat.le_of_ble_eq_true rfl) dJ3_init_2_5 rfl (fun v_ f_1 hv => ?_)
  obtain ⟨r_7, rfl, h⟩ := hv
  refine ag_astore_n E1 (lv' := [(3, .ref r_7), (0, .ref x0), (1, .ref x1), (2, .null)]) dJ3_init_2_8 rfl (Nat.lt_of_lt_of_le (Nat.le_refl _) (Nat.le_of_ble_eq_true rfl)) rfl ?_
  refine ag_aload_n E1 dJ3_init_2_9 rfl 2 rfl ?_
  obtain ⟨v_9, y_10, y_11, y_12, hP_13, h⟩ := h
  refine ag_callO E1 (ci := 18) (C := RJ8) (T0 := TJ8) (n2 := 4) hP_13 rfl (kJ8_length _ _ _ _ _ _ _ _ _ _ h) (lw_app (by intro w hw; simp only [List.mem_cons, List.not_mem_nil, or_false] at hw; rcases hw with e | e | e | e | e | e <;> (rw [e]; first | exact q412 | exact q1936 | exact q317 | exact q1941 | exact q313 | exact q94)) (lw_meth q315)) q318 hdJ7_length (Nat.le_of_ble_eq_true rfl) (Nat.le_of_ble_eq_true rfl) (As := []) rfl (Nat.le_of_ble_eq_true rfl) dJ3_init_2_10 rfl (fun v_ f_8 hv => ?_)
  obtain ⟨r_14, rfl, h⟩ := hv
  refine ag_istore E1 (lv' := [(4, .int r_14), (3, .ref r_7), (0, .ref x0), (1, .ref x1), (2, .null)]) dJ3_init_2_13 (Nat.lt_of_lt_of_le (Nat.le_refl _) (Nat.le_of_ble_eq_true rfl)) rfl ?_
  refine ag_aload_n E1 dJ3_init_2_15 rfl 3 rfl ?_
  obtain ⟨v_16, y_17, y_18, y_19, hP_20, h⟩ := h
  refine ag_callU E1 (ci := 18) (C := RJ8) (T0 := TJ8) (n2 := 4) hP_20 rfl (kJ7_isLatin1_c18 _ _ _ _ _ _ _ _ _ _ h) (lw_app (by intro w hw; simp only [List.mem_cons, List.not_mem_nil, or_false] at hw; rcases hw with e | e | e | e | e <;> (rw [e]; first | exact q413 | exact q363 | exact q364 | exact q362 | exact q93)) (lw_meth q365)) rfl hdJ7_isLatin1 (Nat.le_of_ble_eq_true rfl) (Nat.le_of_ble_eq_true rfl) (As := []) rfl (Nat.le_of_ble_eq_true rfl) dJ3_init_2_16 rfl (fun v_ f_15 hv => ?_)
  obtain ⟨r_21, rfl, h⟩ := hv
  refine ag_if_eq E1 (tgt := 41) dJ3_init_2_19 (by decide) (fun c_19 => ?_) (fun c_19 => ?_)
  · have h := h.1 c_19
    exact h.elim
  · have h := h.2 c_19
    refine ag_aload_n E1 dJ3_init_2_22 rfl 2 rfl ?_
    refine ag_iconst E1 dJ3_init_2_23 ki_0 ?_
    obtain ⟨v_22, y_23, y_24, y_25, hP_26, h⟩ := h
    refine ag_putFL E1 1 (ci := 17) (C := RJ3) (T := TJ3) (N := 4) (ty := .byte) tyJ3 tyJ3_ok nmJ3 rfl in_J3 (by decide) q434 (fun _ h => h) rfl hin rfl (by decide +kernel) (by decide) (by decide) dJ3_init_2_24 hP_26 (Nat.lt_of_lt_of_le (Nat.le_refl _) (Nat.le_of_ble_eq_true rfl)) rfl (fun f_27 e_28 => ?_)
    have h := h f_27 e_28
    have hP_29 : f_27.1 x0 = some (.inr (17, vp_V [v_22, .int (0 : Int32), .int y_24, .int y_25])) := by rw [e_28]; exact updP_s
    refine ag_aload_n E1 dJ3_init_2_27 rfl 2 rfl ?_
    refine ag_aload_n E1 dJ3_init_2_28 rfl 1 rfl ?_
    refine ag_iconst E1 dJ3_init_2_29 ki_0 ?_
    refine ag_iload E1 dJ3_init_2_30 0 rfl ?_
    refine ag_callS E1 (kJ11_copyOfRange _ _ _ _ _ _ _ _ _ _ _ _ h) (lw_S q414 q415 q97 q416) hdJ11_copyOfRange (Nat.le_of_ble_eq_true rfl) (Nat.le_of_ble_eq_true rfl) (As := [.ref r_7, .int (0 : Int32), .int r_14]) rfl (Nat.le_of_ble_eq_true rfl) dJ3_init_2_32 (fun v_ f_30 hv => ?_) rfl
    obtain ⟨r_31, rfl, h⟩ := hv
    obtain ⟨v_32, y_33, y_34, y_35, hP_36, h⟩ := h
    refine ag_putFL E1 0 (ci := 17) (C := RJ3) (T := TJ3) (N := 4) (ty := (.array .byte)) tyJ3 tyJ3_ok nmJ3 rfl in_J3 (by decide) q433 (fun _ h => h) rfl hin rfl (by decide +kernel) rfl rfl dJ3_init_2_35 hP_36 (Nat.lt_of_lt_of_le (Nat.le_refl _) (Nat.le_of_ble_eq_true rfl)) rfl (fun f_37 e_38 => ?_)
    have h := h f_37 e_38
    have hP_39 : f_37.1 x0 = some (.inr (17, vp_V [.ref r_31, .int y_33, .int y_34, .int y_35])) := by rw [e_38]; exact updP_s
    refine ag_goto E1 (tgt := 97) dJ3_init_2_38 (by decide) ?_
    exact gw_vret E rfl ⟨rfl, h⟩ dJ3_init_2_97
theorem hdJ3_init_2 : yJ3_init_2.cls ≠ "java/lang/invoke/MethodHandle" ∧ yJ3_init_2.cls ≠ "java/lang/invoke/VarHandle" ∧ (parseMethodDescriptor yJ3_init_2.desc).map (fun d => d.parameters.length) = some 2 := by decide +kernel
theorem kJ3_init (l : Launch) (D : va_G) (cs : Nat → ClassId) (b : Nat) (H0 : Heap) (ad : Nat → Nat) (vs : Nat → Option Nat) (f : cW) (x0 : Nat) (x1 : Nat) (Q : cW → Prop) (h : wJ3_init b cs ad vs f x0 x1 Q) : CON l D clC (tysC cs) b H0 (XKd b H0 ad vs) yJ3_init cJ3_init 2 none 6 142 [.ref x0, .ref x1] f (qV Q) := by
  refine con_of (by decide) (Nat.le_of_ble_eq_true rfl) (fun p e R s m below meth c E1 h0 hin0 => ?_)
  have E : EX p R s m ([.ref x0, .ref x1] : List Value).toArray meth c cJ3_init 2 RJ3 none D cs b H0 (XKd b H0 ad vs) [] 6 142 f.2.1 f.2.2 := ⟨E1, h0⟩
  have hin : meth.name = "<init>" := hin0 rfl
  refine ag_sub (lv' := [(0, .ref x0), (1, .ref x1)]) [0, 1] rfl ?_
  refine ag_aload_n E1 dJ3_init_0 rfl 0 rfl ?_
  refine ag_aload_n E1 dJ3_init_1 rfl 1 rfl ?_
  refine ag_null E1 dJ3_init_2 ?_
  refine ag_callI E1 (kJ3_init_2 _ _ _ _ _ _ _ _ _ _ _ h) q405 q88 q403 q404 rfl hdJ3_init_2 (Nat.le_of_ble_eq_true rfl) (Nat.le_of_ble_eq_true rfl) (As := [.ref x1, .null]) rfl (Nat.le_of_ble_eq_true rfl) dJ3_init_3 (fun v_ f_1 hv => ?_) rfl
  obtain ⟨rfl, h⟩ := hv
  exact gw_vret E rfl ⟨rfl, h⟩ dJ3_init_6
theorem hdJ3_init : yJ3_init.cls ≠ "java/lang/invoke/MethodHandle" ∧ yJ3_init.cls ≠ "java/lang/invoke/VarHandle" ∧ (parseMethodDescriptor yJ3_init.desc).map (fun d => d.parameters.length) = some 1 := by decide +kernel
theorem kJ8_toString (l : Launch) (D : va_G) (cs : Nat → ClassId) (b : Nat) (H0 : Heap) (ad : Nat → Nat) (vs : Nat → Option Nat) (f : cW) (x0 : Nat) (Q : Nat → cW → Prop) (h : wJ8_toString b cs ad vs f x0 Q) : CON l D clC (tysC cs) b H0 (XKd b H0 ad vs) yJ8_toString cJ8_toString 1 (some (.object "java/lang/String")) 7 163 [.ref x0] f (qR Q) := by
  refine con_of (by decide) (Nat.le_of_ble_eq_true rfl) (fun p e R s m below meth c E1 h0 hin0 => ?_)
  have E : EX p R s m ([.ref x0] : List Value).toArray meth c cJ8_toString 1 RJ8 (some (.object "java/lang/String")) D cs b H0 (XKd b H0 ad vs) [] 7 163 f.2.1 f.2.2 := ⟨E1, h0⟩
  refine ag_sub (lv' := [(0, .ref x0)]) [0] rfl ?_
  obtain ⟨hb_3, h⟩ := h
  refine ag_new E1 (ci := 17) (C := RJ3) (T := TJ3) (N := 4) (fs := [.null, .int (0 : Int32), .int (0 : Int32), .int (0 : Int32)]) tyJ3 tyJ3_ok in_J3 q398 q399 q88 rfl rfl hb_3 dJ8_toString_0 (fun a_1 f_2 e_4 e_5 => ?_)
  have h := h a_1 f_2 e_4 e_5
  have hP_6 : f_2.1 a_1 = some (.inr (17, vp_V [.null, .int (0 : Int32), .int (0 : Int32), .int (0 : Int32)])) := by rw [e_5, e_4]; exact wNew_s
  refine ag_dup E1 dJ8_toString_3 rfl ?_
  refine ag_aload_n E1 dJ8_toString_4 rfl 0 rfl ?_
  refine ag_callI E1 (kJ3_init _ _ _ _ _ _ _ _ _ _ _ h) q402 q88 q400 q401 rfl hdJ3_init (Nat.le_of_ble_eq_true rfl) (Nat.le_of_ble_eq_true rfl) (As := [.ref x0]) rfl (Nat.le_of_ble_eq_true rfl) dJ8_toString_5 (fun v_ f_7 hv => ?_) rfl
  obtain ⟨rfl, h⟩ := hv
  exact gw_aret E rfl (Or.inl ⟨_, rfl⟩) (Or.inr ⟨_, rfl⟩) ⟨_, rfl, h⟩ dJ8_toString_8
theorem hdJ8_toString : yJ8_toString.cls ≠ "java/lang/invoke/MethodHandle" ∧ yJ8_toString.cls ≠ "java/lang/invoke/VarHandle" ∧ (parseMethodDescriptor yJ8_toString.desc).map (fun d => d.parameters.length) = some 0 := by decide +kernel
theorem kJ3_coder_s (l : Launch) (D : va_G) (cs : Nat → ClassId) (b : Nat) (H0 : Heap) (ad : Nat → Nat) (vs : Nat → Option Nat) (f : cW) (x0 : Nat) (Q : Int32 → cW → Prop) (h : wJ3_coder_s b cs ad vs f x0 Q) : CON l D clC (tysC cs) b H0 (XKd b H0 ad vs) yJ3_coder cJ3_coder 1 (some .byte) 0 0 [.ref (ad x0)] f (qI Q) := by
  refine con_of (by decide) (Nat.le_of_ble_eq_true rfl) (fun p e R s m below meth c E1 h0 hin0 => ?_)
  have E : EX p R s m ([.ref (ad x0)] : List Value).toArray meth c cJ3_coder 1 RJ3 (some .byte) D cs b H0 (XKd b H0 ad vs) [] 0 0 f.2.1 f.2.2 := ⟨E1, h0⟩
  refine ag_sub (lv' := [(0, .ref (ad x0))]) [0] rfl ?_
  refine ag_gets E1 xk_compact q190 (fun _ h => h) dJ3_coder_0 ?_
  refine ag_if_eq E1 (tgt := 13) dJ3_coder_3 (by decide) (fun c_3 => ?_) (fun c_3 => ?_)
  · have h := h.1 c_3
    refine ag_iconst E1 dJ3_coder_13 ki_1 ?_
    exact gw_nret E rfl (by decide) ⟨_, rfl, h⟩ dJ3_coder_14
  · have h := h.2 c_3
    refine ag_aload_n E1 dJ3_coder_6 rfl 0 rfl ?_
    obtain ⟨ht_2, h⟩ := h
    refine ag_rof E1 (fun hx => (xk_s x0 ht_2 hx).2.1) q434 (fun _ h => h) dJ3_coder_7 ?_
    refine ag_goto E1 (tgt := 14) dJ3_coder_10 (by decide) ?_
    exact gw_nret E rfl (by decide) ⟨_, rfl, h⟩ dJ3_coder_14
theorem hdJ3_coder : yJ3_coder.cls ≠ "java/lang/invoke/MethodHandle" ∧ yJ3_coder.cls ≠ "java/lang/invoke/VarHandle" ∧ (parseMethodDescriptor yJ3_coder.desc).map (fun d => d.parameters.length) = some 0 := by decide +kernel
theorem kJ3_isLatin1_s (l : Launch) (D : va_G) (cs : Nat → ClassId) (b : Nat) (H0 : Heap) (ad : Nat → Nat) (vs : Nat → Option Nat) (f : cW) (x0 : Nat) (Q : Int32 → cW → Prop) (h : wJ3_isLatin1_s b cs ad vs f x0 Q) : CON l D clC (tysC cs) b H0 (XKd b H0 ad vs) yJ3_isLatin1 cJ3_isLatin1 1 (some .boolean) 0 0 [.ref (ad x0)] f (qI Q) := by
  refine con_of (by decide) (Nat.le_of_ble_eq_true rfl) (fun p e R s m below meth c E1 h0 hin0 => ?_)
  have E : EX p R s m ([.ref (ad x0)] : List Value).toArray meth c cJ3_isLatin1 1 RJ3 (some .boolean) D cs b H0 (XKd b H0 ad vs) [] 0 0 f.2.1 f.2.2 := ⟨E1, h0⟩
  refine ag_sub (lv' := [(0, .ref (ad x0))]) [0] rfl ?_
  refine ag_gets E1 xk_compact q190 (fun _ h => h) dJ3_isLatin1_0 ?_
  refine ag_if_eq E1 (tgt := 17) dJ3_isLatin1_3 (by decide) (fun c_3 => ?_) (fun c_3 => ?_)
  · have h := h.1 c_3
    refine ag_iconst E1 dJ3_isLatin1_17 ki_0 ?_
    exact gw_zret E rfl (Or.inl rfl) ⟨_, rfl, h⟩ dJ3_isLatin1_18
  · have h := h.2 c_3
    refine ag_aload_n E1 dJ3_isLatin1_6 rfl 0 rfl ?_
    obtain ⟨ht_1, h⟩ := h
    refine ag_rof E1 (fun hx => (xk_s x0 ht_1 hx).2.1) q434 (fun _ h => h) dJ3_isLatin1_7 ?_
    refine ag_if_ne E1 (tgt := 17) dJ3_isLatin1_10 (by decide) (fun c_10 => ?_) (fun c_10 => ?_)
    · have h := h.1 c_10
      refine ag_iconst E1 dJ3_isLatin1_17 ki_0 ?_
      exact gw_zret E rfl (Or.inl rfl) ⟨_, rfl, h⟩ dJ3_isLatin1_18
    · have h := h.2 c_10
      refine ag_iconst E1 dJ3_isLatin1_13 ki_1 ?_
      refine ag_goto E1 (tgt := 18) dJ3_isLatin1_14 (by decide) ?_
      exact gw_zret E rfl (Or.inr rfl) ⟨_, rfl, h⟩ dJ3_isLatin1_18
theorem hdJ3_isLatin1 : yJ3_isLatin1.cls ≠ "java/lang/invoke/MethodHandle" ∧ yJ3_isLatin1.cls ≠ "java/lang/invoke/VarHandle" ∧ (parseMethodDescriptor yJ3_isLatin1.desc).map (fun d => d.parameters.length) = some 0 := by decide +kernel
theorem kJ3_length_s (l : Launch) (D : va_G) (cs : Nat → ClassId) (b : Nat) (H0 : Heap) (ad : Nat → Nat) (vs : Nat → Option Nat) (f : cW) (x0 : Nat) (Q : Int32 → cW → Prop) (h : wJ3_length_s b cs ad vs f x0 Q) : CON l D clC (tysC cs) b H0 (XKd b H0 ad vs) yJ3_length cJ3_length 1 (some .int) 1 20 [.ref (ad x0)] f (qI Q) := by
  refine con_of (by decide) (Nat.le_of_ble_eq_true rfl) (fun p e R s m below meth c E1 h0 hin0 => ?_)
  have E : EX p R s m ([.ref (ad x0)] : List Value).toArray meth c cJ3_length 1 RJ3 (some .int) D cs b H0 (XKd b H0 ad vs) [] 1 20 f.2.1 f.2.2 := ⟨E1, h0⟩
  refine ag_sub (lv' := [(0, .ref (ad x0))]) [0] rfl ?_
  refine ag_aload_n E1 dJ3_length_0 rfl 0 rfl ?_
  obtain ⟨ht_1, h⟩ := h
  refine ag_rof E1 (fun hx => (xk_s x0 ht_1 hx).2.2.1) q433 (fun _ h => h) dJ3_length_1 ?_
  obtain ⟨ht_2, h⟩ := h
  refine ag_tlen E1 (fun hx => (xk_s x0 ht_2 hx).2.2.2) rfl dJ3_length_4 ?_
  refine ag_aload_n E1 dJ3_length_5 rfl 0 rfl ?_
  obtain ⟨ht_4, h⟩ := h
  refine ag_callVR E1 (fun hx => (xk_s x0 ht_4 hx).1) (kJ3_coder_s _ _ _ _ _ _ _ _ _ _ h) (lw_V q186 q187 q188 q88 q189) ⟨rfl, hdJ3_coder⟩ (Nat.le_of_ble_eq_true rfl) (Nat.le_of_ble_eq_true rfl) (As := []) rfl (Nat.le_of_ble_eq_true rfl) dJ3_length_6 rfl (fun v_ f_3 hv => ?_)
  obtain ⟨r_5, rfl, h⟩ := hv
  refine ag_ishr E1 dJ3_length_9 ?_
  exact gw_iret E rfl ⟨_, rfl, h⟩ dJ3_length_10
theorem hdJ3_length : yJ3_length.cls ≠ "java/lang/invoke/MethodHandle" ∧ yJ3_length.cls ≠ "java/lang/invoke/VarHandle" ∧ (parseMethodDescriptor yJ3_length.desc).map (fun d => d.parameters.length) = some 0 := by decide +kernel
theorem kJ3_checkIndex (l : Launch) (D : va_G) (cs : Nat → ClassId) (b : Nat) (H0 : Heap) (ad : Nat → Nat) (vs : Nat → Option Nat) (f : cW) (x0 : Int32) (x1 : Int32) (Q : cW → Prop) (h : wJ3_checkIndex b cs ad vs f x0 x1 Q) : CON l D clC (tysC cs) b H0 (XKd b H0 ad vs) yJ3_checkIndex cJ3_checkIndex 2 none 1 22 [.int x0, .int x1] f (qV Q) := by
  refine con_of (by decide) (Nat.le_of_ble_eq_true rfl) (fun p e R s m below meth c E1 h0 hin0 => ?_)
  have E : EX p R s m ([.int x0, .int x1] : List Value).toArray meth c cJ3_checkIndex 2 RJ3 none D cs b H0 (XKd b H0 ad vs) [] 1 22 f.2.1 f.2.2 := ⟨E1, h0⟩
  refine ag_sub (lv' := [(0, .int x0), (1, .int x1)]) [0, 1] rfl ?_
  refine ag_iload_n E1 dJ3_checkIndex_0 rfl 0 rfl ?_
  refine ag_iload_n E1 dJ3_checkIndex_1 rfl 1 rfl ?_
  refine ag_gets E1 xk_sio q206 (fun _ h => h) dJ3_checkIndex_2 ?_
  refine ag_callS E1 (kJ5_checkIndex _ _ _ _ _ _ _ _ _ _ _ _ h) (lw_S q208 q209 q90 q210) hdJ5_checkIndex (Nat.le_of_ble_eq_true rfl) (Nat.le_of_ble_eq_true rfl) (As := [.int x0, .int x1, (va_rf (vs 2))]) rfl (Nat.le_of_ble_eq_true rfl) dJ3_checkIndex_5 (fun v_ f_1 hv => ?_) rfl
  obtain ⟨r_2, rfl, h⟩ := hv
  refine ag_pop E1 dJ3_checkIndex_8 rfl ?_
  exact gw_vret E rfl ⟨rfl, h⟩ dJ3_checkIndex_9
theorem hdJ3_checkIndex : yJ3_checkIndex.cls ≠ "java/lang/invoke/MethodHandle" ∧ yJ3_checkIndex.cls ≠ "java/lang/invoke/VarHandle" ∧ (parseMethodDescriptor yJ3_checkIndex.desc).map (fun d => d.parameters.length) = some 2 := by decide +kernel
theorem kJ4_charAt_s (l : Launch) (D : va_G) (cs : Nat → ClassId) (b : Nat) (H0 : Heap) (ad : Nat → Nat) (vs : Nat → Option Nat) (f : cW) (x0 : Nat) (x1 : Int32) (Q : Int32 → cW → Prop) (h : wJ4_charAt_s b cs ad vs f x0 x1 Q) : CON l D clC (tysC cs) b H0 (XKd b H0 ad vs) yJ4_charAt cJ4_charAt 2 (some .char) 2 43 [.ref (ad (20 + x0)), .int x1] f (qI Q) := by
  refine con_of (by decide) (Nat.le_of_ble_eq_true rfl) (fun p e R s m below meth c E1 h0 hin0 => ?_)
  have E : EX p R s m ([.ref (ad (20 + x0)), .int x1] : List Value).toArray meth c cJ4_charAt 2 RJ4 (some .char) D cs b H0 (XKd b H0 ad vs) [] 2 43 f.2.1 f.2.2 := ⟨E1, h0⟩
  refine ag_sub (lv' := [(0, .ref (ad (20 + x0))), (1, .int x1)]) [0, 1] rfl ?_
  refine ag_iload_n E1 dJ4_charAt_0 rfl 1 rfl ?_
  refine ag_aload_n E1 dJ4_charAt_1 rfl 0 rfl ?_
  obtain ⟨ht_1, h⟩ := h
  refine ag_tlen E1 (fun hx => (xk_s x0 ht_1 hx).2.2.2) rfl dJ4_charAt_2 ?_
  refine ag_callS E1 (kJ3_checkIndex _ _ _ _ _ _ _ _ _ _ _ h) (lw_S q203 q204 q88 q205) hdJ3_checkIndex (Nat.le_of_ble_eq_true rfl) (Nat.le_of_ble_eq_true rfl) (As := [.int x1, .int (Int32.ofNat (sLen.getD x0 0))]) rfl (Nat.le_of_ble_eq_true rfl) dJ4_charAt_3 (fun v_ f_2 hv => ?_) rfl
  obtain ⟨rfl, h⟩ := hv
  refine ag_aload_n E1 dJ4_charAt_6 rfl 0 rfl ?_
  refine ag_iload_n E1 dJ4_charAt_7 rfl 1 rfl ?_
  obtain ⟨ht_3, h⟩ := h
  obtain ⟨hin_4, h⟩ := h
  refine ag_tb E1 (fun hx => (xk_s x0 ht_3 hx).2.2.2) hin_4 rfl dJ4_charAt_8 ?_
  refine ag_sipush E1 dJ4_charAt_9 ks_255 ?_
  refine ag_iand E1 dJ4_charAt_12 ?_
  refine ag_i2c E1 dJ4_charAt_13 ?_
  exact gw_nret E rfl h.1 ⟨_, rfl, h.2⟩ dJ4_charAt_14
theorem hdJ4_charAt : yJ4_charAt.cls ≠ "java/lang/invoke/MethodHandle" ∧ yJ4_charAt.cls ≠ "java/lang/invoke/VarHandle" ∧ (parseMethodDescriptor yJ4_charAt.desc).map (fun d => d.parameters.length) = some 2 := by decide +kernel
theorem kJ3_charAt_s (l : Launch) (D : va_G) (cs : Nat → ClassId) (b : Nat) (H0 : Heap) (ad : Nat → Nat) (vs : Nat → Option Nat) (f : cW) (x0 : Nat) (x1 : Int32) (Q : Int32 → cW → Prop) (h : wJ3_charAt_s b cs ad vs f x0 x1 Q) : CON l D clC (tysC cs) b H0 (XKd b H0 ad vs) yJ3_charAt cJ3_charAt 2 (some .char) 4 85 [.ref (ad x0), .int x1] f (qI Q) := by
  refine con_of (by decide) (Nat.le_of_ble_eq_true rfl) (fun p e R s m below meth c E1 h0 hin0 => ?_)
  have E : EX p R s m ([.ref (ad x0), .int x1] : List Value).toArray meth c cJ3_charAt 2 RJ3 (some .char) D cs b H0 (XKd b H0 ad vs) [] 4 85 f.2.1 f.2.2 := ⟨E1, h0⟩
  refine ag_sub (lv' := [(0, .ref (ad x0)), (1, .int x1)]) [0, 1] rfl ?_
  refine ag_aload_n E1 dJ3_charAt_0 rfl 0 rfl ?_
  obtain ⟨ht_2, h⟩ := h
  refine ag_callVR E1 (fun hx => (xk_s x0 ht_2 hx).1) (kJ3_isLatin1_s _ _ _ _ _ _ _ _ _ _ h) (lw_V q196 q197 q198 q88 q199) ⟨rfl, hdJ3_isLatin1⟩ (Nat.le_of_ble_eq_true rfl) (Nat.le_of_ble_eq_true rfl) (As := []) rfl (Nat.le_of_ble_eq_true rfl) dJ3_charAt_1 rfl (fun v_ f_1 hv => ?_)
  obtain ⟨r_3, rfl, h⟩ := hv
  refine ag_if_eq E1 (tgt := 16) dJ3_charAt_4 (by decide) (fun c_4 => ?_) (fun c_4 => ?_)
  · have h := h.1 c_4
    exact h.elim
  · have h := h.2 c_4
    refine ag_aload_n E1 dJ3_charAt_7 rfl 0 rfl ?_
    obtain ⟨ht_4, h⟩ := h
    refine ag_rof E1 (fun hx => (xk_s x0 ht_4 hx).2.2.1) q433 (fun _ h => h) dJ3_charAt_8 ?_
    refine ag_iload_n E1 dJ3_charAt_11 rfl 1 rfl ?_
    refine ag_callS E1 (kJ4_charAt_s _ _ _ _ _ _ _ _ _ _ _ h) (lw_S q200 q201 q89 q202) hdJ4_charAt (Nat.le_of_ble_eq_true rfl) (Nat.le_of_ble_eq_true rfl) (As := [.ref (ad (20 + x0)), .int x1]) rfl (Nat.le_of_ble_eq_true rfl) dJ3_charAt_12 (fun v_ f_5 hv => ?_) rfl
    obtain ⟨r_6, rfl, h⟩ := hv
    exact gw_nret E rfl h.1 ⟨_, rfl, h.2⟩ dJ3_charAt_15
theorem hdJ3_charAt : yJ3_charAt.cls ≠ "java/lang/invoke/MethodHandle" ∧ yJ3_charAt.cls ≠ "java/lang/invoke/VarHandle" ∧ (parseMethodDescriptor yJ3_charAt.desc).map (fun d => d.parameters.length) = some 1 := by decide +kernel
theorem kJ4_canEncode_2 (l : Launch) (D : va_G) (cs : Nat → ClassId) (b : Nat) (H0 : Heap) (ad : Nat → Nat) (vs : Nat → Option Nat) (f : cW) (x0 : Int32) (Q : Int32 → cW → Prop) (h : wJ4_canEncode_2 b cs ad vs f x0 Q) : CON l D clC (tysC cs) b H0 (XKd b H0 ad vs) yJ4_canEncode_2 cJ4_canEncode_2 1 (some .boolean) 0 0 [.int x0] f (qI Q) := by
  refine con_of (by decide) (Nat.le_of_ble_eq_true rfl) (fun p e R s m below meth c E1 h0 hin0 => ?_)
  have E : EX p R s m ([.int x0] : List Value).toArray meth c cJ4_canEncode_2 1 RJ4 (some .boolean) D cs b H0 (XKd b H0 ad vs) [] 0 0 f.2.1 f.2.2 := ⟨E1, h0⟩
  refine ag_sub (lv' := [(0, .int x0)]) [0] rfl ?_
  refine ag_iload_n E1 dJ4_canEncode_2_0 rfl 0 rfl ?_
  refine ag_if_lt E1 (tgt := 15) dJ4_canEncode_2_1 (by decide) (fun c_1 => ?_) (fun c_1 => ?_)
  · have h := h.1 c_1
    refine ag_iconst E1 dJ4_canEncode_2_15 ki_0 ?_
    exact gw_zret E rfl (Or.inl rfl) ⟨_, rfl, h⟩ dJ4_canEncode_2_16
  · have h := h.2 c_1
    refine ag_iload_n E1 dJ4_canEncode_2_4 rfl 0 rfl ?_
    refine ag_sipush E1 dJ4_canEncode_2_5 ks_255 ?_
    refine ag_icmp_gt E1 (tgt := 15) dJ4_canEncode_2_8 (by decide) (fun c_8 => ?_) (fun c_8 => ?_)
    · have h := h.1 c_8
      refine ag_iconst E1 dJ4_canEncode_2_15 ki_0 ?_
      exact gw_zret E rfl (Or.inl rfl) ⟨_, rfl, h⟩ dJ4_canEncode_2_16
    · have h := h.2 c_8
      refine ag_iconst E1 dJ4_canEncode_2_11 ki_1 ?_
      refine ag_goto E1 (tgt := 16) dJ4_canEncode_2_12 (by decide) ?_
      exact gw_zret E rfl (Or.inr rfl) ⟨_, rfl, h⟩ dJ4_canEncode_2_16
theorem hdJ4_canEncode_2 : yJ4_canEncode_2.cls ≠ "java/lang/invoke/MethodHandle" ∧ yJ4_canEncode_2.cls ≠ "java/lang/invoke/VarHandle" ∧ (parseMethodDescriptor yJ4_canEncode_2.desc).map (fun d => d.parameters.length) = some 1 := by decide +kernel
theorem tbJ4_indexOfChar_s_7 (E : EX p R s m args meth c cJ4_indexOfChar 6 RJ4 (some .int) D cs b H0 (XKd b H0 ad vs) [] 0 0 z u) {Q : Int32 → cW → Prop} {K7 : Nat → Int32 → Int32 → Int32 → cW → Prop} (hK7 : ∀ (x0 : Nat) (x3 : Int32) (x4 : Int32) (x5 : Int32) (f : cW), K7 x0 x3 x4 x5 f → AGW p l e R s m args below meth c D b 6 z u (qI Q) 7 [(0, .ref (ad (20 + x0))), (3, .int x3), (4, .int x4), (5, .int x5)] [] f) {x0 : Nat} {x3 : Int32} {x4 : Int32} {x5 : Int32} {f : cW} (h : wbJ4_indexOfChar_s_7 b cs ad vs K7 Q x0 x3 x4 x5 f) : AGW p l e R s m args below meth c D b 6 z u (qI Q) 7 [(0, .ref (ad (20 + x0))), (3, .int x3), (4, .int x4), (5, .int x5)] [] f := by
  have E1 := E.1
  refine ag_iload E1 dJ4_indexOfChar_7 3 rfl ?_
  refine ag_iload_n E1 dJ4_indexOfChar_9 rfl 1 rfl ?_
  refine ag_icmp_ge E1 (tgt := 31) dJ4_indexOfChar_10 (by decide) (fun c_10 => ?_) (fun c_10 => ?_)
  · have h := h.1 c_10
    refine ag_iconst E1 dJ4_indexOfChar_31 ki_m1 ?_
    exact gw_iret E rfl ⟨_, rfl, h⟩ dJ4_indexOfChar_32
  · have h := h.2 c_10
    refine ag_aload_n E1 dJ4_indexOfChar_13 rfl 0 rfl ?_
    refine ag_iload E1 dJ4_indexOfChar_14 3 rfl ?_
    obtain ⟨ht_2, h⟩ := h
    obtain ⟨hin_3, h⟩ := h
    refine ag_tb E1 (fun hx => (xk_s x0 ht_2 hx).2.2.2) hin_3 rfl dJ4_indexOfChar_16 ?_
    refine ag_iload E1 dJ4_indexOfChar_17 2 rfl ?_
    refine ag_icmp_ne E1 (tgt := 25) dJ4_indexOfChar_19 (by decide) (fun c_19 => ?_) (fun c_19 => ?_)
    · have h := h.1 c_19
      refine ag_iincN E1 (lv' := fun x5_4 => [(5, .int x5_4), (0, .ref (ad (20 + x0))), (3, .int x3), (4, .int x4)]) dJ4_indexOfChar_25 3 rfl ki_1 (Nat.lt_of_lt_of_le (Nat.le_refl _) (Nat.le_of_ble_eq_true rfl)) (fun _ => rfl) (fun x5_4 e_x5_4 => ?_)
      have h := h x5_4 e_x5_4
      refine ag_goto E1 (tgt := 7) dJ4_indexOfChar_28 (by decide) ?_
      refine ag_sub (lv' := [(0, .ref (ad (20 + x0))), (3, .int x3), (4, .int x4), (5, .int x5_4)]) [1, 2, 3, 0] rfl ?_
      exact hK7 _ _ _ _ _ h
    · have h := h.2 c_19
      refine ag_iload E1 dJ4_indexOfChar_22 3 rfl ?_
      exact gw_iret E rfl ⟨_, rfl, h⟩ dJ4_indexOfChar_24
theorem tlJ4_indexOfChar_s_7 (E : EX p R s m args meth c cJ4_indexOfChar 6 RJ4 (some .int) D cs b H0 (XKd b H0 ad vs) [] 0 0 z u) {Q : Int32 → cW → Prop}  : ∀ (n : Nat) (x0 : Nat) (x3 : Int32) (x4 : Int32) (x5 : Int32) (f : cW), wlJ4_indexOfChar_s_7 b cs ad vs  Q n x0 x3 x4 x5 f → AGW p l e R s m args below meth c D b 6 z u (qI Q) 7 [(0, .ref (ad (20 + x0))), (3, .int x3), (4, .int x4), (5, .int x5)] [] f := by
  intro n
  induction n with
  | zero => intro _ _ _ _ _ h; exact h.elim
  | succ n ih => intro x0 x3 x4 x5 f h; exact tbJ4_indexOfChar_s_7 E ih h
theorem kJ4_indexOfChar_s (l : Launch) (D : va_G) (cs : Nat → ClassId) (b : Nat) (H0 : Heap) (ad : Nat → Nat) (vs : Nat → Option Nat) (f : cW) (x0 : Nat) (x1 : Int32) (x2 : Int32) (x3 : Int32) (Q : Int32 → cW → Prop) (h : wJ4_indexOfChar_s b cs ad vs f x0 x1 x2 x3 Q) : CON l D clC (tysC cs) b H0 (XKd b H0 ad vs) yJ4_indexOfChar cJ4_indexOfChar 6 (some .int) 0 0 [.ref (ad (20 + x0)), .int x1, .int x2, .int x3] f (qI Q) := by
  refine con_of (by decide) (Nat.le_of_ble_eq_true rfl) (fun p e R s m below meth c E1 h0 hin0 => ?_)
  have E : EX p R s m ([.ref (ad (20 + x0)), .int x1, .int x2, .int x3] : List Value).toArray meth c cJ4_indexOfChar 6 RJ4 (some .int) D cs b H0 (XKd b H0 ad vs) [] 0 0 f.2.1 f.2.2 := ⟨E1, h0⟩
  refine ag_sub (lv' := [(0, .ref (ad (20 + x0))), (1, .int x1), (2, .int x2), (3, .int x3)]) [0, 1, 2, 3] rfl ?_
  refine ag_iload_n E1 dJ4_indexOfChar_0 rfl 1 rfl ?_
  refine ag_i2b E1 dJ4_indexOfChar_1 ?_
  refine ag_topi (fun x4_1 e_x4_1 => ?_)
  have h := h x4_1 e_x4_1
  refine ag_istore E1 (lv' := [(4, .int x4_1), (0, .ref (ad (20 + x0))), (1, .int x1), (2, .int x2), (3, .int x3)]) dJ4_indexOfChar_2 (Nat.lt_of_lt_of_le (Nat.le_refl _) (Nat.le_of_ble_eq_true rfl)) rfl ?_
  refine ag_iload_n E1 dJ4_indexOfChar_4 rfl 3 rfl ?_
  refine ag_istore E1 (lv' := [(5, .int x2), (4, .int x4_1), (0, .ref (ad (20 + x0))), (1, .int x1), (2, .int x2), (3, .int x3)]) dJ4_indexOfChar_5 (Nat.lt_of_lt_of_le (Nat.le_refl _) (Nat.le_of_ble_eq_true rfl)) rfl ?_
  refine ag_sub (lv' := [(0, .ref (ad (20 + x0))), (3, .int x3), (4, .int x4_1), (5, .int x2)]) [2, 5, 1, 0] rfl ?_
  obtain ⟨n, h⟩ := h
  exact tlJ4_indexOfChar_s_7 E  n _ _ _ _ _ h
theorem hdJ4_indexOfChar : yJ4_indexOfChar.cls ≠ "java/lang/invoke/MethodHandle" ∧ yJ4_indexOfChar.cls ≠ "java/lang/invoke/VarHandle" ∧ (parseMethodDescriptor yJ4_indexOfChar.desc).map (fun d => d.parameters.length) = some 4 := by decide +kernel
theorem kJ4_indexOf_s (l : Launch) (D : va_G) (cs : Nat → ClassId) (b : Nat) (H0 : Heap) (ad : Nat → Nat) (vs : Nat → Option Nat) (f : cW) (x0 : Nat) (x1 : Int32) (x2 : Int32) (x3 : Int32) (Q : Int32 → cW → Prop) (h : wJ4_indexOf_s b cs ad vs f x0 x1 x2 x3 Q) : CON l D clC (tysC cs) b H0 (XKd b H0 ad vs) yJ4_indexOf cJ4_indexOf 4 (some .int) 1 25 [.ref (ad (20 + x0)), .int x1, .int x2, .int x3] f (qI Q) := by
  refine con_of (by decide) (Nat.le_of_ble_eq_true rfl) (fun p e R s m below meth c E1 h0 hin0 => ?_)
  have E : EX p R s m ([.ref (ad (20 + x0)), .int x1, .int x2, .int x3] : List Value).toArray meth c cJ4_indexOf 4 RJ4 (some .int) D cs b H0 (XKd b H0 ad vs) [] 1 25 f.2.1 f.2.2 := ⟨E1, h0⟩
  refine ag_sub (lv' := [(0, .ref (ad (20 + x0))), (1, .int x1), (2, .int x2), (3, .int x3)]) [0, 1, 2, 3] rfl ?_
  refine ag_iload_n E1 dJ4_indexOf_0 rfl 1 rfl ?_
  refine ag_callS E1 (kJ4_canEncode_2 _ _ _ _ _ _ _ _ _ _ h) (lw_S q532 q533 q89 q534) hdJ4_canEncode_2 (Nat.le_of_ble_eq_true rfl) (Nat.le_of_ble_eq_true rfl) (As := [.int x1]) rfl (Nat.le_of_ble_eq_true rfl) dJ4_indexOf_1 (fun v_ f_1 hv => ?_) rfl
  obtain ⟨r_2, rfl, h⟩ := hv
  refine ag_if_ne E1 (tgt := 9) dJ4_indexOf_4 (by decide) (fun c_4 => ?_) (fun c_4 => ?_)
  · have h := h.1 c_4
    refine ag_iload_n E1 dJ4_indexOf_9 rfl 2 rfl ?_
    refine ag_iconst E1 dJ4_indexOf_10 ki_0 ?_
    refine ag_mmax E1 q535 q338 q96 q339 (Nat.le_of_ble_eq_true rfl) (Nat.le_of_ble_eq_true rfl) (Nat.le_of_ble_eq_true rfl) dJ4_indexOf_11 ?_
    refine ag_topi (fun x2_3 e_x2_3 => ?_)
    have h := h x2_3 e_x2_3
    refine ag_istore_n E1 (lv' := [(2, .int x2_3), (0, .ref (ad (20 + x0))), (1, .int x1), (3, .int x3)]) dJ4_indexOf_14 rfl (Nat.lt_of_lt_of_le (Nat.le_refl _) (Nat.le_of_ble_eq_true rfl)) rfl ?_
    refine ag_iload_n E1 dJ4_indexOf_15 rfl 3 rfl ?_
    refine ag_aload_n E1 dJ4_indexOf_16 rfl 1 rfl ?_
    obtain ⟨ht_4, h⟩ := h
    refine ag_tlen E1 (fun hx => (xk_s x0 ht_4 hx).2.2.2) rfl dJ4_indexOf_17 ?_
    refine ag_mmin E1 q536 q356 q96 q357 (Nat.le_of_ble_eq_true rfl) (Nat.le_of_ble_eq_true rfl) (Nat.le_of_ble_eq_true rfl) dJ4_indexOf_18 ?_
    refine ag_topi (fun x3_5 e_x3_5 => ?_)
    have h := h x3_5 e_x3_5
    refine ag_istore_n E1 (lv' := [(3, .int x3_5), (2, .int x2_3), (0, .ref (ad (20 + x0))), (1, .int x1)]) dJ4_indexOf_21 rfl (Nat.lt_of_lt_of_le (Nat.le_refl _) (Nat.le_of_ble_eq_true rfl)) rfl ?_
    refine ag_iload_n E1 dJ4_indexOf_22 rfl 1 rfl ?_
    refine ag_iload_n E1 dJ4_indexOf_23 rfl 0 rfl ?_
    refine ag_icmp_lt E1 (tgt := 29) dJ4_indexOf_24 (by decide) (fun c_24 => ?_) (fun c_24 => ?_)
    · have h := h.1 c_24
      refine ag_aload_n E1 dJ4_indexOf_29 rfl 2 rfl ?_
      refine ag_iload_n E1 dJ4_indexOf_30 rfl 3 rfl ?_
      refine ag_iload_n E1 dJ4_indexOf_31 rfl 1 rfl ?_
      refine ag_iload_n E1 dJ4_indexOf_32 rfl 0 rfl ?_
      refine ag_callS E1 (kJ4_indexOfChar_s _ _ _ _ _ _ _ _ _ _ _ _ _ h) (lw_S q537 q538 q89 q539) hdJ4_indexOfChar (Nat.le_of_ble_eq_true rfl) (Nat.le_of_ble_eq_true rfl) (As := [.ref (ad (20 + x0)), .int x1, .int x2_3, .int x3_5]) rfl (Nat.le_of_ble_eq_true rfl) dJ4_indexOf_33 (fun v_ f_6 hv => ?_) rfl
      obtain ⟨r_7, rfl, h⟩ := hv
      exact gw_iret E rfl ⟨_, rfl, h⟩ dJ4_indexOf_36
    · have h := h.2 c_24
      refine ag_iconst E1 dJ4_indexOf_27 ki_m1 ?_
      exact gw_iret E rfl ⟨_, rfl, h⟩ dJ4_indexOf_28
  · have h := h.2 c_4
    refine ag_iconst E1 dJ4_indexOf_7 ki_m1 ?_
    exact gw_iret E rfl ⟨_, rfl, h⟩ dJ4_indexOf_8
theorem hdJ4_indexOf : yJ4_indexOf.cls ≠ "java/lang/invoke/MethodHandle" ∧ yJ4_indexOf.cls ≠ "java/lang/invoke/VarHandle" ∧ (parseMethodDescriptor yJ4_indexOf.desc).map (fun d => d.parameters.length) = some 4 := by decide +kernel
theorem kJ3_indexOf_2_s (l : Launch) (D : va_G) (cs : Nat → ClassId) (b : Nat) (H0 : Heap) (ad : Nat → Nat) (vs : Nat → Option Nat) (f : cW) (x0 : Nat) (x1 : Int32) (x2 : Int32) (Q : Int32 → cW → Prop) (h : wJ3_indexOf_2_s b cs ad vs f x0 x1 x2 Q) : CON l D clC (tysC cs) b H0 (XKd b H0 ad vs) yJ3_indexOf_2 cJ3_indexOf_2 3 (some .int) 5 116 [.ref (ad x0), .int x1, .int x2] f (qI Q) := by
  refine con_of (by decide) (Nat.le_of_ble_eq_true rfl) (fun p e R s m below meth c E1 h0 hin0 => ?_)
  have E : EX p R s m ([.ref (ad x0), .int x1, .int x2] : List Value).toArray meth c cJ3_indexOf_2 3 RJ3 (some .int) D cs b H0 (XKd b H0 ad vs) [] 5 116 f.2.1 f.2.2 := ⟨E1, h0⟩
  refine ag_sub (lv' := [(0, .ref (ad x0)), (1, .int x1), (2, .int x2)]) [0, 1, 2] rfl ?_
  refine ag_aload_n E1 dJ3_indexOf_2_0 rfl 0 rfl ?_
  obtain ⟨ht_2, h⟩ := h
  refine ag_callVR E1 (fun hx => (xk_s x0 ht_2 hx).1) (kJ3_isLatin1_s _ _ _ _ _ _ _ _ _ _ h) (lw_V q196 q197 q198 q88 q199) ⟨rfl, hdJ3_isLatin1⟩ (Nat.le_of_ble_eq_true rfl) (Nat.le_of_ble_eq_true rfl) (As := []) rfl (Nat.le_of_ble_eq_true rfl) dJ3_indexOf_2_1 rfl (fun v_ f_1 hv => ?_)
  obtain ⟨r_3, rfl, h⟩ := hv
  refine ag_if_eq E1 (tgt := 23) dJ3_indexOf_2_4 (by decide) (fun c_4 => ?_) (fun c_4 => ?_)
  · have h := h.1 c_4
    exact h.elim
  · have h := h.2 c_4
    refine ag_aload_n E1 dJ3_indexOf_2_7 rfl 0 rfl ?_
    obtain ⟨ht_4, h⟩ := h
    refine ag_rof E1 (fun hx => (xk_s x0 ht_4 hx).2.2.1) q433 (fun _ h => h) dJ3_indexOf_2_8 ?_
    refine ag_iload_n E1 dJ3_indexOf_2_11 rfl 1 rfl ?_
    refine ag_iload_n E1 dJ3_indexOf_2_12 rfl 2 rfl ?_
    refine ag_aload_n E1 dJ3_indexOf_2_13 rfl 0 rfl ?_
    obtain ⟨ht_6, h⟩ := h
    refine ag_callVR E1 (fun hx => (xk_s x0 ht_6 hx).1) (kJ3_length_s _ _ _ _ _ _ _ _ _ _ h) (lw_V q528 q183 q184 q88 q185) ⟨rfl, hdJ3_length⟩ (Nat.le_of_ble_eq_true rfl) (Nat.le_of_ble_eq_true rfl) (As := []) rfl (Nat.le_of_ble_eq_true rfl) dJ3_indexOf_2_14 rfl (fun v_ f_5 hv => ?_)
    obtain ⟨r_7, rfl, h⟩ := hv
    refine ag_callS E1 (kJ4_indexOf_s _ _ _ _ _ _ _ _ _ _ _ _ _ h) (lw_S q529 q530 q89 q531) hdJ4_indexOf (Nat.le_of_ble_eq_true rfl) (Nat.le_of_ble_eq_true rfl) (As := [.ref (ad (20 + x0)), .int x1, .int x2, .int r_7]) rfl (Nat.le_of_ble_eq_true rfl) dJ3_indexOf_2_17 (fun v_ f_8 hv => ?_) rfl
    obtain ⟨r_9, rfl, h⟩ := hv
    refine ag_goto E1 (tgt := 36) dJ3_indexOf_2_20 (by decide) ?_
    exact gw_iret E rfl ⟨_, rfl, h⟩ dJ3_indexOf_2_36
theorem hdJ3_indexOf_2 : yJ3_indexOf_2.cls ≠ "java/lang/invoke/MethodHandle" ∧ yJ3_indexOf_2.cls ≠ "java/lang/invoke/VarHandle" ∧ (parseMethodDescriptor yJ3_indexOf_2.desc).map (fun d => d.parameters.length) = some 2 := by decide +kernel
theorem kJ3_indexOf_s (l : Launch) (D : va_G) (cs : Nat → ClassId) (b : Nat) (H0 : Heap) (ad : Nat → Nat) (vs : Nat → Option Nat) (f : cW) (x0 : Nat) (x1 : Int32) (Q : Int32 → cW → Prop) (h : wJ3_indexOf_s b cs ad vs f x0 x1 Q) : CON l D clC (tysC cs) b H0 (XKd b H0 ad vs) yJ3_indexOf cJ3_indexOf 2 (some .int) 6 138 [.ref (ad x0), .int x1] f (qI Q) := by
  refine con_of (by decide) (Nat.le_of_ble_eq_true rfl) (fun p e R s m below meth c E1 h0 hin0 => ?_)
  have E : EX p R s m ([.ref (ad x0), .int x1] : List Value).toArray meth c cJ3_indexOf 2 RJ3 (some .int) D cs b H0 (XKd b H0 ad vs) [] 6 138 f.2.1 f.2.2 := ⟨E1, h0⟩
  refine ag_sub (lv' := [(0, .ref (ad x0)), (1, .int x1)]) [0, 1] rfl ?_
  refine ag_aload_n E1 dJ3_indexOf_0 rfl 0 rfl ?_
  refine ag_iload_n E1 dJ3_indexOf_1 rfl 1 rfl ?_
  refine ag_iconst E1 dJ3_indexOf_2 ki_0 ?_
  obtain ⟨ht_2, h⟩ := h
  refine ag_callVR E1 (fun hx => (xk_s x0 ht_2 hx).1) (kJ3_indexOf_2_s _ _ _ _ _ _ _ _ _ _ _ _ h) (lw_V q524 q525 q526 q88 q527) ⟨rfl, hdJ3_indexOf_2⟩ (Nat.le_of_ble_eq_true rfl) (Nat.le_of_ble_eq_true rfl) (As := [.int x1, .int (0 : Int32)]) rfl (Nat.le_of_ble_eq_true rfl) dJ3_indexOf_3 rfl (fun v_ f_1 hv => ?_)
  obtain ⟨r_3, rfl, h⟩ := hv
  exact gw_iret E rfl ⟨_, rfl, h⟩ dJ3_indexOf_6
theorem hdJ3_indexOf : yJ3_indexOf.cls ≠ "java/lang/invoke/MethodHandle" ∧ yJ3_indexOf.cls ≠ "java/lang/invoke/VarHandle" ∧ (parseMethodDescriptor yJ3_indexOf.desc).map (fun d => d.parameters.length) = some 1 := by decide +kernel
theorem tbJ4_equals_s_9 (E : EX p R s m args meth c cJ4_equals 3 RJ4 (some .boolean) D cs b H0 (XKd b H0 ad vs) [] 0 0 z u) {Q : Int32 → cW → Prop} {K9 : Nat → Nat → Int32 → cW → Prop} (hK9 : ∀ (x0 : Nat) (x1 : Nat) (x2 : Int32) (f : cW), K9 x0 x1 x2 f → AGW p l e R s m args below meth c D b 3 z u (qI Q) 9 [(0, .ref (ad (20 + x0))), (1, .ref x1), (2, .int x2)] [] f) {x0 : Nat} {x1 : Nat} {x2 : Int32} {f : cW} (h : wbJ4_equals_s_9 b cs ad vs K9 Q x0 x1 x2 f) : AGW p l e R s m args below meth c D b 3 z u (qI Q) 9 [(0, .ref (ad (20 + x0))), (1, .ref x1), (2, .int x2)] [] f := by
  have E1 := E.1
  refine ag_iload_n E1 dJ4_equals_9 rfl 2 rfl ?_
  refine ag_aload_n E1 dJ4_equals_10 rfl 0 rfl ?_
  obtain ⟨ht_5, h⟩ := h
  refine ag_tlen E1 (fun hx => (xk_s x0 ht_5 hx).2.2.2) rfl dJ4_equals_11 ?_
  refine ag_icmp_ge E1 (tgt := 32) dJ4_equals_12 (by decide) (fun c_12 => ?_) (fun c_12 => ?_)
  · have h := h.1 c_12
    refine ag_iconst E1 dJ4_equals_32 ki_1 ?_
    exact gw_zret E rfl (Or.inr rfl) ⟨_, rfl, h⟩ dJ4_equals_33
  · have h := h.2 c_12
    refine ag_aload_n E1 dJ4_equals_15 rfl 0 rfl ?_
    refine ag_iload_n E1 dJ4_equals_16 rfl 2 rfl ?_
    obtain ⟨ht_6, h⟩ := h
    obtain ⟨hin_7, h⟩ := h
    refine ag_tb E1 (fun hx => (xk_s x0 ht_6 hx).2.2.2) hin_7 rfl dJ4_equals_17 ?_
    refine ag_aload_n E1 dJ4_equals_18 rfl 1 rfl ?_
    refine ag_iload_n E1 dJ4_equals_19 rfl 2 rfl ?_
    obtain ⟨n_8, c_9, hP_10, h⟩ := h
    obtain ⟨hin_11, h⟩ := h
    refine ag_bald E1 (t0 := 1) hP_10 rfl hin_11 dJ4_equals_20 ?_
    refine ag_icmp_eq E1 (tgt := 26) dJ4_equals_21 (by decide) (fun c_21 => ?_) (fun c_21 => ?_)
    · have h := h.1 c_21
      refine ag_iincN E1 (lv' := fun x2_12 => [(2, .int x2_12), (0, .ref (ad (20 + x0))), (1, .ref x1)]) dJ4_equals_26 2 rfl ki_1 (Nat.lt_of_lt_of_le (Nat.le_refl _) (Nat.le_of_ble_eq_true rfl)) (fun _ => rfl) (fun x2_12 e_x2_12 => ?_)
      have h := h x2_12 e_x2_12
      refine ag_goto E1 (tgt := 9) dJ4_equals_29 (by decide) ?_
      refine ag_sub (lv' := [(0, .ref (ad (20 + x0))), (1, .ref x1), (2, .int x2_12)]) [1, 2, 0] rfl ?_
      exact hK9 _ _ _ _ h
    · have h := h.2 c_21
      refine ag_iconst E1 dJ4_equals_24 ki_0 ?_
      exact gw_zret E rfl (Or.inl rfl) ⟨_, rfl, h⟩ dJ4_equals_25
theorem tlJ4_equals_s_9 (E : EX p R s m args meth c cJ4_equals 3 RJ4 (some .boolean) D cs b H0 (XKd b H0 ad vs) [] 0 0 z u) {Q : Int32 → cW → Prop}  : ∀ (n : Nat) (x0 : Nat) (x1 : Nat) (x2 : Int32) (f : cW), wlJ4_equals_s_9 b cs ad vs  Q n x0 x1 x2 f → AGW p l e R s m args below meth c D b 3 z u (qI Q) 9 [(0, .ref (ad (20 + x0))), (1, .ref x1), (2, .int x2)] [] f := by
  intro n
  induction n with
  | zero => intro _ _ _ _ h; exact h.elim
  | succ n ih => intro x0 x1 x2 f h; exact tbJ4_equals_s_9 E ih h
theorem kJ4_equals_s (l : Launch) (D : va_G) (cs : Nat → ClassId) (b : Nat) (H0 : Heap) (ad : Nat → Nat) (vs : Nat → Option Nat) (f : cW) (x0 : Nat) (x1 : Nat) (Q : Int32 → cW → Prop) (h : wJ4_equals_s b cs ad vs f x0 x1 Q) : CON l D clC (tysC cs) b H0 (XKd b H0 ad vs) yJ4_equals cJ4_equals 3 (some .boolean) 0 0 [.ref (ad (20 + x0)), .ref x1] f (qI Q) := by
  refine con_of (by decide) (Nat.le_of_ble_eq_true rfl) (fun p e R s m below meth c E1 h0 hin0 => ?_)
  have E : EX p R s m ([.ref (ad (20 + x0)), .ref x1] : List Value).toArray meth c cJ4_equals 3 RJ4 (some .boolean) D cs b H0 (XKd b H0 ad vs) [] 0 0 f.2.1 f.2.2 := ⟨E1, h0⟩
  refine ag_sub (lv' := [(0, .ref (ad (20 + x0))), (1, .ref x1)]) [0, 1] rfl ?_
  refine ag_aload_n E1 dJ4_equals_0 rfl 0 rfl ?_
  obtain ⟨ht_1, h⟩ := h
  refine ag_tlen E1 (fun hx => (xk_s x0 ht_1 hx).2.2.2) rfl dJ4_equals_1 ?_
  refine ag_aload_n E1 dJ4_equals_2 rfl 1 rfl ?_
  obtain ⟨n_2, c_3, hP_4, h⟩ := h
  refine ag_alen E1 (t0 := 1) hP_4 rfl rfl dJ4_equals_3 ?_
  refine ag_icmp_ne E1 (tgt := 34) dJ4_equals_4 (by decide) (fun c_4 => ?_) (fun c_4 => ?_)
  · have h := h.1 c_4
    refine ag_iconst E1 dJ4_equals_34 ki_0 ?_
    exact gw_zret E rfl (Or.inl rfl) ⟨_, rfl, h⟩ dJ4_equals_35
  · have h := h.2 c_4
    refine ag_iconst E1 dJ4_equals_7 ki_0 ?_
    refine ag_istore_n E1 (lv' := [(2, .int (0 : Int32)), (0, .ref (ad (20 + x0))), (1, .ref x1)]) dJ4_equals_8 rfl (Nat.lt_of_lt_of_le (Nat.le_refl _) (Nat.le_of_ble_eq_true rfl)) rfl ?_
    refine ag_sub (lv' := [(0, .ref (ad (20 + x0))), (1, .ref x1), (2, .int (0 : Int32))]) [1, 2, 0] rfl ?_
    obtain ⟨n, h⟩ := h
    exact tlJ4_equals_s_9 E  n _ _ _ _ h
theorem hdJ4_equals : yJ4_equals.cls ≠ "java/lang/invoke/MethodHandle" ∧ yJ4_equals.cls ≠ "java/lang/invoke/VarHandle" ∧ (parseMethodDescriptor yJ4_equals.desc).map (fun d => d.parameters.length) = some 2 := by decide +kernel
theorem kJ3_equals_n (l : Launch) (D : va_G) (cs : Nat → ClassId) (b : Nat) (H0 : Heap) (ad : Nat → Nat) (vs : Nat → Option Nat) (f : cW) (x0 : Nat) (Q : Int32 → cW → Prop) (h : wJ3_equals_n b cs ad vs f x0 Q) : CON l D clC (tysC cs) b H0 (XKd b H0 ad vs) yJ3_equals cJ3_equals 3 (some .boolean) 1 22 [.ref (ad x0), .null] f (qI Q) := by
  refine con_of (by decide) (Nat.le_of_ble_eq_true rfl) (fun p e R s m below meth c E1 h0 hin0 => ?_)
  have E : EX p R s m ([.ref (ad x0), .null] : List Value).toArray meth c cJ3_equals 3 RJ3 (some .boolean) D cs b H0 (XKd b H0 ad vs) [] 1 22 f.2.1 f.2.2 := ⟨E1, h0⟩
  refine ag_sub (lv' := [(0, .ref (ad x0)), (1, .null)]) [0, 1] rfl ?_
  refine ag_aload_n E1 dJ3_equals_0 rfl 0 rfl ?_
  refine ag_aload_nN E1 dJ3_equals_1 rfl 1 rfl ?_
  refine ag_acmp_ne E1 (rx := some ((ad x0))) (ry := none) (tgt := 7) dJ3_equals_2 (by decide) (fun c_2 => ?_) (fun c_2 => ?_)
  · have h := h.1 c_2
    refine ag_aload_nN E1 dJ3_equals_7 rfl 1 rfl ?_
    refine ag_instN E1 dJ3_equals_8 ?_
    refine ag_if_eq E1 (tgt := 54) dJ3_equals_11 (by decide) (fun c_11 => ?_) (fun c_11 => ?_)
    · have h := h.1 c_11
      refine ag_iconst E1 dJ3_equals_54 ki_0 ?_
      exact gw_zret E rfl (Or.inl rfl) ⟨_, rfl, h⟩ dJ3_equals_55
    · have h := h.2 c_11
      exact h.elim
  · have h := h.2 c_2
    refine ag_iconst E1 dJ3_equals_5 ki_1 ?_
    exact gw_zret E rfl (Or.inr rfl) ⟨_, rfl, h⟩ dJ3_equals_6
theorem hdJ3_equals : yJ3_equals.cls ≠ "java/lang/invoke/MethodHandle" ∧ yJ3_equals.cls ≠ "java/lang/invoke/VarHandle" ∧ (parseMethodDescriptor yJ3_equals.desc).map (fun d => d.parameters.length) = some 1 := by decide +kernel
theorem tbJ3_equals_s_36 (E : EX p R s m args meth c cJ3_equals 3 RJ3 (some .boolean) D cs b H0 (XKd b H0 ad vs) [] 1 22 z u) {Q : Int32 → cW → Prop}  {x0 : Nat} {x2 : Nat} {f : cW} (h : wbJ3_equals_s_36 b cs ad vs  Q x0 x2 f) : AGW p l e R s m args below meth c D b 3 z u (qI Q) 36 [(0, .ref (ad x0)), (2, .ref x2)] [] f := by
  have E1 := E.1
  refine ag_aload_n E1 dJ3_equals_36 rfl 0 rfl ?_
  obtain ⟨ht_7, h⟩ := h
  refine ag_rof E1 (fun hx => (xk_s x0 ht_7 hx).2.2.1) q433 (fun _ h => h) dJ3_equals_37 ?_
  refine ag_aload_n E1 dJ3_equals_40 rfl 1 rfl ?_
  obtain ⟨v_8, y_9, y_10, y_11, hP_12, h⟩ := h
  refine ag_getL E1 0 (ci := 17) (C := RJ3) (T := TJ3) (N := 4) rfl in_J3 (by decide) q433 (fun _ h => h) dJ3_equals_41 hP_12 rfl ?_
  obtain ⟨a_13, e_14, h⟩ := h
  rw [e_14]
  refine ag_callS E1 (kJ4_equals_s _ _ _ _ _ _ _ _ _ _ _ h) (lw_S q584 q585 q89 q586) hdJ4_equals (Nat.le_of_ble_eq_true rfl) (Nat.le_of_ble_eq_true rfl) (As := [.ref (ad (20 + x0)), .ref a_13]) rfl (Nat.le_of_ble_eq_true rfl) dJ3_equals_44 (fun v_ f_15 hv => ?_) rfl
  obtain ⟨r_16, rfl, h⟩ := hv
  refine ag_if_eq E1 (tgt := 54) dJ3_equals_47 (by decide) (fun c_47 => ?_) (fun c_47 => ?_)
  · have h := h.1 c_47
    refine ag_iconst E1 dJ3_equals_54 ki_0 ?_
    exact gw_zret E rfl (Or.inl rfl) ⟨_, rfl, h⟩ dJ3_equals_55
  · have h := h.2 c_47
    refine ag_iconst E1 dJ3_equals_50 ki_1 ?_
    refine ag_goto E1 (tgt := 55) dJ3_equals_51 (by decide) ?_
    exact gw_zret E rfl (Or.inr rfl) ⟨_, rfl, h⟩ dJ3_equals_55
theorem kJ3_equals_s (l : Launch) (D : va_G) (cs : Nat → ClassId) (b : Nat) (H0 : Heap) (ad : Nat → Nat) (vs : Nat → Option Nat) (f : cW) (x0 : Nat) (x1 : Nat) (Q : Int32 → cW → Prop) (h : wJ3_equals_s b cs ad vs f x0 x1 Q) : CON l D clC (tysC cs) b H0 (XKd b H0 ad vs) yJ3_equals cJ3_equals 3 (some .boolean) 1 22 [.ref (ad x0), .ref x1] f (qI Q) := by
  refine con_of (by decide) (Nat.le_of_ble_eq_true rfl) (fun p e R s m below meth c E1 h0 hin0 => ?_)
  have E : EX p R s m ([.ref (ad x0), .ref x1] : List Value).toArray meth c cJ3_equals 3 RJ3 (some .boolean) D cs b H0 (XKd b H0 ad vs) [] 1 22 f.2.1 f.2.2 := ⟨E1, h0⟩
  refine ag_sub (lv' := [(0, .ref (ad x0)), (1, .ref x1)]) [0, 1] rfl ?_
  refine ag_aload_n E1 dJ3_equals_0 rfl 0 rfl ?_
  refine ag_aload_n E1 dJ3_equals_1 rfl 1 rfl ?_
  obtain ⟨v_1, y_2, y_3, y_4, hP_5, h⟩ := h
  obtain ⟨ht_6, h⟩ := h
  refine ag_acmp_neR E1 (tgt := 7) hP_5 (fun hx => (xk_s x0 ht_6 hx).1) dJ3_equals_2 (by decide) ?_
  refine ag_aload_n E1 dJ3_equals_7 rfl 1 rfl ?_
  refine ag_instS E1 (ci := 17) (C := RJ3) (T0 := TJ3) (n2 := 4) hP_5 rfl q583 dJ3_equals_8 ?_
  refine ag_if_eq E1 (tgt := 54) dJ3_equals_11 (by decide) (fun c_11 => ?_) (fun c_11 => ?_)
  · have h := h.1 c_11
    refine ag_iconst E1 dJ3_equals_54 ki_0 ?_
    exact gw_zret E rfl (Or.inl rfl) ⟨_, rfl, h⟩ dJ3_equals_55
  · have h := h.2 c_11
    refine ag_aload_n E1 dJ3_equals_14 rfl 1 rfl ?_
    refine ag_castS E1 (ci := 17) (C := RJ3) (T0 := TJ3) (n2 := 4) hP_5 rfl q583 dJ3_equals_15 ?_
    refine ag_astore_n E1 (lv' := [(2, .ref x1), (0, .ref (ad x0)), (1, .ref x1)]) dJ3_equals_18 rfl (Nat.lt_of_lt_of_le (Nat.le_refl _) (Nat.le_of_ble_eq_true rfl)) rfl ?_
    refine ag_gets E1 xk_compact q190 (fun _ h => h) dJ3_equals_19 ?_
    refine ag_if_eq E1 (tgt := 36) dJ3_equals_22 (by decide) (fun c_22 => ?_) (fun c_22 => ?_)
    · have h := h.1 c_22
      refine ag_sub (lv' := [(0, .ref (ad x0)), (2, .ref x1)]) [1, 0] rfl ?_
      exact tbJ3_equals_s_36 E  h
    · have h := h.2 c_22
      refine ag_aload_n E1 dJ3_equals_25 rfl 1 rfl ?_
      obtain ⟨ht_17, h⟩ := h
      refine ag_rof E1 (fun hx => (xk_s x0 ht_17 hx).2.1) q434 (fun _ h => h) dJ3_equals_26 ?_
      refine ag_aload_n E1 dJ3_equals_29 rfl 0 rfl ?_
      refine ag_getL E1 1 (ci := 17) (C := RJ3) (T := TJ3) (N := 4) rfl in_J3 (by decide) q434 (fun _ h => h) dJ3_equals_30 hP_5 rfl ?_
      refine ag_icmp_ne E1 (tgt := 54) dJ3_equals_33 (by decide) (fun c_33 => ?_) (fun c_33 => ?_)
      · have h := h.1 c_33
        refine ag_iconst E1 dJ3_equals_54 ki_0 ?_
        exact gw_zret E rfl (Or.inl rfl) ⟨_, rfl, h⟩ dJ3_equals_55
      · have h := h.2 c_33
        refine ag_sub (lv' := [(0, .ref (ad x0)), (2, .ref x1)]) [1, 0] rfl ?_
        exact tbJ3_equals_s_36 E  h
theorem tbJ18_valueOf_23 (E : EX p R s m args meth c cJ18_valueOf 1 RJ18 (some (.object "java/lang/Integer")) D cs b H0 (XKd b H0 ad vs) [] 3 61 z u) {Q : Nat → cW → Prop}  {x0 : Int32} {f : cW} (h : wbJ18_valueOf_23 b cs ad vs  Q x0 f) : AGW p l e R s m args below meth c D b 1 z u (qR Q) 23 [(0, .int x0)] [] f := by
  have E1 := E.1
  exact h.elim
theorem kJ18_valueOf (l : Launch) (D : va_G) (cs : Nat → ClassId) (b : Nat) (H0 : Heap) (ad : Nat → Nat) (vs : Nat → Option Nat) (f : cW) (x0 : Int32) (Q : Nat → cW → Prop) (h : wJ18_valueOf b cs ad vs f x0 Q) : CON l D clC (tysC cs) b H0 (XKd b H0 ad vs) yJ18_valueOf cJ18_valueOf 1 (some (.object "java/lang/Integer")) 3 61 [.int x0] f (qR Q) := by
  refine con_of (by decide) (Nat.le_of_ble_eq_true rfl) (fun p e R s m below meth c E1 h0 hin0 => ?_)
  have E : EX p R s m ([.int x0] : List Value).toArray meth c cJ18_valueOf 1 RJ18 (some (.object "java/lang/Integer")) D cs b H0 (XKd b H0 ad vs) [] 3 61 f.2.1 f.2.2 := ⟨E1, h0⟩
  refine ag_sub (lv' := [(0, .int x0)]) [0] rfl ?_
  refine ag_iload_n E1 dJ18_valueOf_0 rfl 0 rfl ?_
  refine ag_bipush E1 dJ18_valueOf_1 kb_m128 ?_
  refine ag_icmp_lt E1 (tgt := 23) dJ18_valueOf_3 (by decide) (fun c_3 => ?_) (fun c_3 => ?_)
  · have h := h.1 c_3
    exact tbJ18_valueOf_23 E  h
  · have h := h.2 c_3
    refine ag_iload_n E1 dJ18_valueOf_6 rfl 0 rfl ?_
    refine ag_gets E1 xk_high q1381 (fun _ h => h) dJ18_valueOf_7 ?_
    refine ag_icmp_gt E1 (tgt := 23) dJ18_valueOf_10 (by decide) (fun c_10 => ?_) (fun c_10 => ?_)
    · have h := h.1 c_10
      exact tbJ18_valueOf_23 E  h
    · have h := h.2 c_10
      refine ag_gets E1 xk_cache q1383 (fun _ h => h) dJ18_valueOf_13 ?_
      refine ag_iload_n E1 dJ18_valueOf_16 rfl 0 rfl ?_
      refine ag_sipush E1 dJ18_valueOf_17 ks_128 ?_
      refine ag_iadd E1 dJ18_valueOf_20 ?_
      obtain ⟨hin_1, h⟩ := h
      refine ag_tq E1 (v := .ref (ad (1000 + (Int32.toNatClampNeg (x0 + (128 : Int32)))))) xk_cacheT hin_1 rfl dJ18_valueOf_21 ?_
      exact gw_aret E rfl (Or.inl ⟨_, rfl⟩) (Or.inr ⟨_, rfl⟩) ⟨_, rfl, h⟩ dJ18_valueOf_22
theorem hdJ18_valueOf : yJ18_valueOf.cls ≠ "java/lang/invoke/MethodHandle" ∧ yJ18_valueOf.cls ≠ "java/lang/invoke/VarHandle" ∧ (parseMethodDescriptor yJ18_valueOf.desc).map (fun d => d.parameters.length) = some 1 := by decide +kernel
theorem kJ18_intValue_s (l : Launch) (D : va_G) (cs : Nat → ClassId) (b : Nat) (H0 : Heap) (ad : Nat → Nat) (vs : Nat → Option Nat) (f : cW) (x0 : Nat) (Q : Int32 → cW → Prop) (h : wJ18_intValue_s b cs ad vs f x0 Q) : CON l D clC (tysC cs) b H0 (XKd b H0 ad vs) yJ18_intValue cJ18_intValue 1 (some .int) 0 0 [.ref (ad (1000 + x0))] f (qI Q) := by
  refine con_of (by decide) (Nat.le_of_ble_eq_true rfl) (fun p e R s m below meth c E1 h0 hin0 => ?_)
  have E : EX p R s m ([.ref (ad (1000 + x0))] : List Value).toArray meth c cJ18_intValue 1 RJ18 (some .int) D cs b H0 (XKd b H0 ad vs) [] 0 0 f.2.1 f.2.2 := ⟨E1, h0⟩
  refine ag_sub (lv' := [(0, .ref (ad (1000 + x0)))]) [0] rfl ?_
  refine ag_aload_n E1 dJ18_intValue_0 rfl 0 rfl ?_
  obtain ⟨ht_1, h⟩ := h
  refine ag_rof E1 (fun hx => (xk_C hx).2 x0 ht_1) q1394 (fun _ h => h) dJ18_intValue_1 ?_
  exact gw_iret E rfl ⟨_, rfl, h⟩ dJ18_intValue_4
theorem hdJ18_intValue : yJ18_intValue.cls ≠ "java/lang/invoke/MethodHandle" ∧ yJ18_intValue.cls ≠ "java/lang/invoke/VarHandle" ∧ (parseMethodDescriptor yJ18_intValue.desc).map (fun d => d.parameters.length) = some 0 := by decide +kernel
theorem tbJ12_init_2_c13_41 (E : EX p R s m args meth c cJ12_init_2 5 RJ12 none D cs b H0 (XKd b H0 ad vs) [] 1 20 z u) {Q : cW → Prop}  {x0 : Nat} {x3 : Int32} {f : cW} (h : wbJ12_init_2_c13_41 b cs ad vs  Q x0 x3 f) : AGW p l e R s m args below meth c D b 5 z u (qV Q) 41 [(0, .ref x0), (1, .null), (2, .null), (3, .int x3)] [] f := by
  have E1 := E.1
  refine ag_aload_n E1 dJ12_init_2_41 rfl 0 rfl ?_
  refine ag_aload_nN E1 dJ12_init_2_42 rfl 1 rfl ?_
  obtain ⟨v_21, v_22, v_23, v_24, v_25, y_26, y_27, hP_28, h⟩ := h
  refine ag_putL E1 3 (ci := 13) (C := RX3) (T := TX3) (N := 7) (ty := (.object "java/lang/String")) tyX3 tyX3_ok nmX3 rfl in_X3 (by decide) q505 (fun _ h => h) rfl (by decide +kernel) rfl rfl dJ12_init_2_43 hP_28 (Nat.lt_of_lt_of_le (Nat.le_refl _) (Nat.le_of_ble_eq_true rfl)) rfl (fun f_29 e_30 => ?_)
  have h := h f_29 e_30
  have hP_31 : f_29.1 x0 = some (.inr (13, vp_V [v_21, v_22, v_23, .null, v_25, .int y_26, .int y_27])) := by rw [e_30]; exact updP_s
  refine ag_aload_n E1 dJ12_init_2_46 rfl 0 rfl ?_
  refine ag_aload_nN E1 dJ12_init_2_47 rfl 2 rfl ?_
  refine ag_putL E1 0 (ci := 13) (C := RX3) (T := TX3) (N := 7) (ty := (.object "java/lang/Throwable")) tyX3 tyX3_ok nmX3 rfl in_X3 (by decide) q506 (fun _ h => h) rfl (by decide +kernel) rfl rfl dJ12_init_2_48 hP_31 (Nat.lt_of_lt_of_le (Nat.le_refl _) (Nat.le_of_ble_eq_true rfl)) rfl (fun f_32 e_33 => ?_)
  have h := h f_32 e_33
  have hP_34 : f_32.1 x0 = some (.inr (13, vp_V [.null, v_22, v_23, .null, v_25, .int y_26, .int y_27])) := by rw [e_33]; exact updP_s
  refine ag_iload_n E1 dJ12_init_2_51 rfl 3 rfl ?_
  refine ag_if_ne E1 (tgt := 60) dJ12_init_2_52 (by decide) (fun c_52 => ?_) (fun c_52 => ?_)
  · have h := h.1 c_52
    exact gw_vret E rfl ⟨rfl, h⟩ dJ12_init_2_60
  · have h := h.2 c_52
    refine ag_aload_n E1 dJ12_init_2_55 rfl 0 rfl ?_
    refine ag_null E1 dJ12_init_2_56 ?_
    refine ag_putL E1 2 (ci := 13) (C := RX3) (T := TX3) (N := 7) (ty := (.object "java/util/List")) tyX3 tyX3_ok nmX3 rfl in_X3 (by decide) q508 (fun _ h => h) rfl (by decide +kernel) rfl rfl dJ12_init_2_57 hP_34 (Nat.lt_of_lt_of_le (Nat.le_refl _) (Nat.le_of_ble_eq_true rfl)) rfl (fun f_35 e_36 => ?_)
    have h := h f_35 e_36
    have hP_37 : f_35.1 x0 = some (.inr (13, vp_V [.null, v_22, .null, .null, v_25, .int y_26, .int y_27])) := by rw [e_36]; exact updP_s
    exact gw_vret E rfl ⟨rfl, h⟩ dJ12_init_2_60
theorem kJ12_init_2_c13 (l : Launch) (D : va_G) (cs : Nat → ClassId) (b : Nat) (H0 : Heap) (ad : Nat → Nat) (vs : Nat → Option Nat) (f : cW) (x0 : Nat) (x3 : Int32) (x4 : Int32) (Q : cW → Prop) (h : wJ12_init_2_c13 b cs ad vs f x0 x3 x4 Q) : CON l D clC (tysC cs) b H0 (XKd b H0 ad vs) yJ12_init_2 cJ12_init_2 5 none 1 20 [.ref x0, .null, .null, .int x3, .int x4] f (qV Q) := by
  refine con_of (by decide) (Nat.le_of_ble_eq_true rfl) (fun p e R s m below meth c E1 h0 hin0 => ?_)
  have E : EX p R s m ([.ref x0, .null, .null, .int x3, .int x4] : List Value).toArray meth c cJ12_init_2 5 RJ12 none D cs b H0 (XKd b H0 ad vs) [] 1 20 f.2.1 f.2.2 := ⟨E1, h0⟩
  have hin : meth.name = "<init>" := hin0 rfl
  refine ag_sub (lv' := [(0, .ref x0), (1, .null), (2, .null), (3, .int x3), (4, .int x4)]) [0, 1, 2, 3, 4] rfl ?_
  refine ag_aload_n E1 dJ12_init_2_0 rfl 0 rfl ?_
  refine ag_objInit E1 q475 q126 q127 (Nat.le_of_ble_eq_true rfl) (Nat.le_of_ble_eq_true rfl) (Nat.le_of_ble_eq_true rfl) dJ12_init_2_1 ?_
  refine ag_aload_n E1 dJ12_init_2_4 rfl 0 rfl ?_
  refine ag_aload_n E1 dJ12_init_2_5 rfl 0 rfl ?_
  obtain ⟨v_1, v_2, v_3, v_4, v_5, y_6, y_7, hP_8, h⟩ := h
  refine ag_putL E1 0 (ci := 13) (C := RX3) (T := TX3) (N := 7) (ty := (.object "java/lang/Throwable")) tyX3 tyX3_ok nmX3 rfl in_X3 (by decide) q506 (fun _ h => h) rfl (by decide +kernel) rfl rfl dJ12_init_2_6 hP_8 (Nat.lt_of_lt_of_le (Nat.le_refl _) (Nat.le_of_ble_eq_true rfl)) rfl (fun f_9 e_10 => ?_)
  have h := h f_9 e_10
  have hP_11 : f_9.1 x0 = some (.inr (13, vp_V [.ref x0, v_2, v_3, v_4, v_5, .int y_6, .int y_7])) := by rw [e_10]; exact updP_s
  refine ag_aload_n E1 dJ12_init_2_9 rfl 0 rfl ?_
  refine ag_gets E1 xk_trace q476 (fun _ h => h) dJ12_init_2_10 ?_
  refine ag_putL E1 1 (ci := 13) (C := RX3) (T := TX3) (N := 7) (ty := (.array (.object "java/lang/StackTraceElement"))) tyX3 tyX3_ok nmX3 rfl in_X3 (by decide) q507 (fun _ h => h) rfl (by decide +kernel) rf_N rf_A dJ12_init_2_13 hP_11 (Nat.lt_of_lt_of_le (Nat.le_refl _) (Nat.le_of_ble_eq_true rfl)) rfl (fun f_12 e_13 => ?_)
  have h := h f_12 e_13
  have hP_14 : f_12.1 x0 = some (.inr (13, vp_V [.ref x0, (va_rf (vs 0)), v_3, v_4, v_5, .int y_6, .int y_7])) := by rw [e_13]; exact updP_s
  refine ag_aload_n E1 dJ12_init_2_16 rfl 0 rfl ?_
  refine ag_gets E1 xk_sent q478 (fun _ h => h) dJ12_init_2_17 ?_
  refine ag_putL E1 2 (ci := 13) (C := RX3) (T := TX3) (N := 7) (ty := (.object "java/util/List")) tyX3 tyX3_ok nmX3 rfl in_X3 (by decide) q508 (fun _ h => h) rfl (by decide +kernel) rf_N rf_O dJ12_init_2_20 hP_14 (Nat.lt_of_lt_of_le (Nat.le_refl _) (Nat.le_of_ble_eq_true rfl)) rfl (fun f_15 e_16 => ?_)
  have h := h f_15 e_16
  have hP_17 : f_15.1 x0 = some (.inr (13, vp_V [.ref x0, (va_rf (vs 0)), (va_rf (vs 1)), v_4, v_5, .int y_6, .int y_7])) := by rw [e_16]; exact updP_s
  refine ag_iload E1 dJ12_init_2_23 4 rfl ?_
  refine ag_if_eq E1 (tgt := 36) dJ12_init_2_25 (by decide) (fun c_25 => ?_) (fun c_25 => ?_)
  · have h := h.1 c_25
    refine ag_aload_n E1 dJ12_init_2_36 rfl 0 rfl ?_
    refine ag_null E1 dJ12_init_2_37 ?_
    refine ag_putL E1 1 (ci := 13) (C := RX3) (T := TX3) (N := 7) (ty := (.array (.object "java/lang/StackTraceElement"))) tyX3 tyX3_ok nmX3 rfl in_X3 (by decide) q507 (fun _ h => h) rfl (by decide +kernel) rfl rfl dJ12_init_2_38 hP_17 (Nat.lt_of_lt_of_le (Nat.le_refl _) (Nat.le_of_ble_eq_true rfl)) rfl (fun f_18 e_19 => ?_)
    have h := h f_18 e_19
    have hP_20 : f_18.1 x0 = some (.inr (13, vp_V [.ref x0, .null, (va_rf (vs 1)), v_4, v_5, .int y_6, .int y_7])) := by rw [e_19]; exact updP_s
    refine ag_sub (lv' := [(0, .ref x0), (1, .null), (2, .null), (3, .int x3)]) [0, 1, 2, 3] rfl ?_
    exact tbJ12_init_2_c13_41 E  h
  · have h := h.2 c_25
    exact h.elim
theorem hdJ12_init_2 : yJ12_init_2.cls ≠ "java/lang/invoke/MethodHandle" ∧ yJ12_init_2.cls ≠ "java/lang/invoke/VarHandle" ∧ (parseMethodDescriptor yJ12_init_2.desc).map (fun d => d.parameters.length) = some 4 := by decide +kernel
theorem kJ13_init_c13 (l : Launch) (D : va_G) (cs : Nat → ClassId) (b : Nat) (H0 : Heap) (ad : Nat → Nat) (vs : Nat → Option Nat) (f : cW) (x0 : Nat) (x3 : Int32) (x4 : Int32) (Q : cW → Prop) (h : wJ13_init_c13 b cs ad vs f x0 x3 x4 Q) : CON l D clC (tysC cs) b H0 (XKd b H0 ad vs) yJ13_init cJ13_init 5 none 2 44 [.ref x0, .null, .null, .int x3, .int x4] f (qV Q) := by
  refine con_of (by decide) (Nat.le_of_ble_eq_true rfl) (fun p e R s m below meth c E1 h0 hin0 => ?_)
  have E : EX p R s m ([.ref x0, .null, .null, .int x3, .int x4] : List Value).toArray meth c cJ13_init 5 RJ13 none D cs b H0 (XKd b H0 ad vs) [] 2 44 f.2.1 f.2.2 := ⟨E1, h0⟩
  have hin : meth.name = "<init>" := hin0 rfl
  refine ag_sub (lv' := [(0, .ref x0), (1, .null), (2, .null), (3, .int x3), (4, .int x4)]) [0, 1, 2, 3, 4] rfl ?_
  refine ag_aload_n E1 dJ13_init_0 rfl 0 rfl ?_
  refine ag_aload_nN E1 dJ13_init_1 rfl 1 rfl ?_
  refine ag_aload_nN E1 dJ13_init_2 rfl 2 rfl ?_
  refine ag_iload_n E1 dJ13_init_3 rfl 3 rfl ?_
  refine ag_iload E1 dJ13_init_4 4 rfl ?_
  refine ag_callI E1 (kJ12_init_2_c13 _ _ _ _ _ _ _ _ _ _ _ _ h) q501 q99 q499 q500 rfl hdJ12_init_2 (Nat.le_of_ble_eq_true rfl) (Nat.le_of_ble_eq_true rfl) (As := [.null, .null, .int x3, .int x4]) rfl (Nat.le_of_ble_eq_true rfl) dJ13_init_6 (fun v_ f_1 hv => ?_) rfl
  obtain ⟨rfl, h⟩ := hv
  exact gw_vret E rfl ⟨rfl, h⟩ dJ13_init_9
theorem hdJ13_init : yJ13_init.cls ≠ "java/lang/invoke/MethodHandle" ∧ yJ13_init.cls ≠ "java/lang/invoke/VarHandle" ∧ (parseMethodDescriptor yJ13_init.desc).map (fun d => d.parameters.length) = some 4 := by decide +kernel
theorem kJ14_init_c13 (l : Launch) (D : va_G) (cs : Nat → ClassId) (b : Nat) (H0 : Heap) (ad : Nat → Nat) (vs : Nat → Option Nat) (f : cW) (x0 : Nat) (x3 : Int32) (x4 : Int32) (Q : cW → Prop) (h : wJ14_init_c13 b cs ad vs f x0 x3 x4 Q) : CON l D clC (tysC cs) b H0 (XKd b H0 ad vs) yJ14_init cJ14_init 5 none 3 68 [.ref x0, .null, .null, .int x3, .int x4] f (qV Q) := by
  refine con_of (by decide) (Nat.le_of_ble_eq_true rfl) (fun p e R s m below meth c E1 h0 hin0 => ?_)
  have E : EX p R s m ([.ref x0, .null, .null, .int x3, .int x4] : List Value).toArray meth c cJ14_init 5 RJ14 none D cs b H0 (XKd b H0 ad vs) [] 3 68 f.2.1 f.2.2 := ⟨E1, h0⟩
  have hin : meth.name = "<init>" := hin0 rfl
  refine ag_sub (lv' := [(0, .ref x0), (1, .null), (2, .null), (3, .int x3), (4, .int x4)]) [0, 1, 2, 3, 4] rfl ?_
  refine ag_aload_n E1 dJ14_init_0 rfl 0 rfl ?_
  refine ag_aload_nN E1 dJ14_init_1 rfl 1 rfl ?_
  refine ag_aload_nN E1 dJ14_init_2 rfl 2 rfl ?_
  refine ag_iload_n E1 dJ14_init_3 rfl 3 rfl ?_
  refine ag_iload E1 dJ14_init_4 4 rfl ?_
  refine ag_callI E1 (kJ13_init_c13 _ _ _ _ _ _ _ _ _ _ _ _ h) q498 q100 q496 q497 rfl hdJ13_init (Nat.le_of_ble_eq_true rfl) (Nat.le_of_ble_eq_true rfl) (As := [.null, .null, .int x3, .int x4]) rfl (Nat.le_of_ble_eq_true rfl) dJ14_init_6 (fun v_ f_1 hv => ?_) rfl
  obtain ⟨rfl, h⟩ := hv
  exact gw_vret E rfl ⟨rfl, h⟩ dJ14_init_9
theorem hdJ14_init : yJ14_init.cls ≠ "java/lang/invoke/MethodHandle" ∧ yJ14_init.cls ≠ "java/lang/invoke/VarHandle" ∧ (parseMethodDescriptor yJ14_init.desc).map (fun d => d.parameters.length) = some 4 := by decide +kernel
theorem tbJ12_init_2_c14_41 (E : EX p R s m args meth c cJ12_init_2 5 RJ12 none D cs b H0 (XKd b H0 ad vs) [] 1 20 z u) {Q : cW → Prop}  {x0 : Nat} {x3 : Int32} {f : cW} (h : wbJ12_init_2_c14_41 b cs ad vs  Q x0 x3 f) : AGW p l e R s m args below meth c D b 5 z u (qV Q) 41 [(0, .ref x0), (1, .null), (2, .null), (3, .int x3)] [] f := by
  have E1 := E.1
  refine ag_aload_n E1 dJ12_init_2_41 rfl 0 rfl ?_
  refine ag_aload_nN E1 dJ12_init_2_42 rfl 1 rfl ?_
  obtain ⟨v_21, v_22, v_23, v_24, v_25, y_26, y_27, hP_28, h⟩ := h
  refine ag_putL E1 3 (ci := 14) (C := RX14) (T := TX14) (N := 7) (ty := (.object "java/lang/String")) tyX14 tyX14_ok nmX14 rfl in_X14 (by decide) q505 (fun _ h => h) rfl (by decide +kernel) rfl rfl dJ12_init_2_43 hP_28 (Nat.lt_of_lt_of_le (Nat.le_refl _) (Nat.le_of_ble_eq_true rfl)) rfl (fun f_29 e_30 => ?_)
  have h := h f_29 e_30
  have hP_31 : f_29.1 x0 = some (.inr (14, vp_V [v_21, v_22, v_23, .null, v_25, .int y_26, .int y_27])) := by rw [e_30]; exact updP_s
  refine ag_aload_n E1 dJ12_init_2_46 rfl 0 rfl ?_
  refine ag_aload_nN E1 dJ12_init_2_47 rfl 2 rfl ?_
  refine ag_putL E1 0 (ci := 14) (C := RX14) (T := TX14) (N := 7) (ty := (.object "java/lang/Throwable")) tyX14 tyX14_ok nmX14 rfl in_X14 (by decide) q506 (fun _ h => h) rfl (by decide +kernel) rfl rfl dJ12_init_2_48 hP_31 (Nat.lt_of_lt_of_le (Nat.le_refl _) (Nat.le_of_ble_eq_true rfl)) rfl (fun f_32 e_33 => ?_)
  have h := h f_32 e_33
  have hP_34 : f_32.1 x0 = some (.inr (14, vp_V [.null, v_22, v_23, .null, v_25, .int y_26, .int y_27])) := by rw [e_33]; exact updP_s
  refine ag_iload_n E1 dJ12_init_2_51 rfl 3 rfl ?_
  refine ag_if_ne E1 (tgt := 60) dJ12_init_2_52 (by decide) (fun c_52 => ?_) (fun c_52 => ?_)
  · have h := h.1 c_52
    exact gw_vret E rfl ⟨rfl, h⟩ dJ12_init_2_60
  · have h := h.2 c_52
    refine ag_aload_n E1 dJ12_init_2_55 rfl 0 rfl ?_
    refine ag_null E1 dJ12_init_2_56 ?_
    refine ag_putL E1 2 (ci := 14) (C := RX14) (T := TX14) (N := 7) (ty := (.object "java/util/List")) tyX14 tyX14_ok nmX14 rfl in_X14 (by decide) q508 (fun _ h => h) rfl (by decide +kernel) rfl rfl dJ12_init_2_57 hP_34 (Nat.lt_of_lt_of_le (Nat.le_refl _) (Nat.le_of_ble_eq_true rfl)) rfl (fun f_35 e_36 => ?_)
    have h := h f_35 e_36
    have hP_37 : f_35.1 x0 = some (.inr (14, vp_V [.null, v_22, .null, .null, v_25, .int y_26, .int y_27])) := by rw [e_36]; exact updP_s
    exact gw_vret E rfl ⟨rfl, h⟩ dJ12_init_2_60
theorem kJ12_init_2_c14 (l : Launch) (D : va_G) (cs : Nat → ClassId) (b : Nat) (H0 : Heap) (ad : Nat → Nat) (vs : Nat → Option Nat) (f : cW) (x0 : Nat) (x3 : Int32) (x4 : Int32) (Q : cW → Prop) (h : wJ12_init_2_c14 b cs ad vs f x0 x3 x4 Q) : CON l D clC (tysC cs) b H0 (XKd b H0 ad vs) yJ12_init_2 cJ12_init_2 5 none 1 20 [.ref x0, .null, .null, .int x3, .int x4] f (qV Q) := by
  refine con_of (by decide) (Nat.le_of_ble_eq_true rfl) (fun p e R s m below meth c E1 h0 hin0 => ?_)
  have E : EX p R s m ([.ref x0, .null, .null, .int x3, .int x4] : List Value).toArray meth c cJ12_init_2 5 RJ12 none D cs b H0 (XKd b H0 ad vs) [] 1 20 f.2.1 f.2.2 := ⟨E1, h0⟩
  have hin : meth.name = "<init>" := hin0 rfl
  refine ag_sub (lv' := [(0, .ref x0), (1, .null), (2, .null), (3, .int x3), (4, .int x4)]) [0, 1, 2, 3, 4] rfl ?_
  refine ag_aload_n E1 dJ12_init_2_0 rfl 0 rfl ?_
  refine ag_objInit E1 q475 q126 q127 (Nat.le_of_ble_eq_true rfl) (Nat.le_of_ble_eq_true rfl) (Nat.le_of_ble_eq_true rfl) dJ12_init_2_1 ?_
  refine ag_aload_n E1 dJ12_init_2_4 rfl 0 rfl ?_
  refine ag_aload_n E1 dJ12_init_2_5 rfl 0 rfl ?_
  obtain ⟨v_1, v_2, v_3, v_4, v_5, y_6, y_7, hP_8, h⟩ := h
  refine ag_putL E1 0 (ci := 14) (C := RX14) (T := TX14) (N := 7) (ty := (.object "java/lang/Throwable")) tyX14 tyX14_ok nmX14 rfl in_X14 (by decide) q506 (fun _ h => h) rfl (by decide +kernel) rfl rfl dJ12_init_2_6 hP_8 (Nat.lt_of_lt_of_le (Nat.le_refl _) (Nat.le_of_ble_eq_true rfl)) rfl (fun f_9 e_10 => ?_)
  have h := h f_9 e_10
  have hP_11 : f_9.1 x0 = some (.inr (14, vp_V [.ref x0, v_2, v_3, v_4, v_5, .int y_6, .int y_7])) := by rw [e_10]; exact updP_s
  refine ag_aload_n E1 dJ12_init_2_9 rfl 0 rfl ?_
  refine ag_gets E1 xk_trace q476 (fun _ h => h) dJ12_init_2_10 ?_
  refine ag_putL E1 1 (ci := 14) (C := RX14) (T := TX14) (N := 7) (ty := (.array (.object "java/lang/StackTraceElement"))) tyX14 tyX14_ok nmX14 rfl in_X14 (by decide) q507 (fun _ h => h) rfl (by decide +kernel) rf_N rf_A dJ12_init_2_13 hP_11 (Nat.lt_of_lt_of_le (Nat.le_refl _) (Nat.le_of_ble_eq_true rfl)) rfl (fun f_12 e_13 => ?_)
  have h := h f_12 e_13
  have hP_14 : f_12.1 x0 = some (.inr (14, vp_V [.ref x0, (va_rf (vs 0)), v_3, v_4, v_5, .int y_6, .int y_7])) := by rw [e_13]; exact updP_s
  refine ag_aload_n E1 dJ12_init_2_16 rfl 0 rfl ?_
  refine ag_gets E1 xk_sent q478 (fun _ h => h) dJ12_init_2_17 ?_
  refine ag_putL E1 2 (ci := 14) (C := RX14) (T := TX14) (N := 7) (ty := (.object "java/util/List")) tyX14 tyX14_ok nmX14 rfl in_X14 (by decide) q508 (fun _ h => h) rfl (by decide +kernel) rf_N rf_O dJ12_init_2_20 hP_14 (Nat.lt_of_lt_of_le (Nat.le_refl _) (Nat.le_of_ble_eq_true rfl)) rfl (fun f_15 e_16 => ?_)
  have h := h f_15 e_16
  have hP_17 : f_15.1 x0 = some (.inr (14, vp_V [.ref x0, (va_rf (vs 0)), (va_rf (vs 1)), v_4, v_5, .int y_6, .int y_7])) := by rw [e_16]; exact updP_s
  refine ag_iload E1 dJ12_init_2_23 4 rfl ?_
  refine ag_if_eq E1 (tgt := 36) dJ12_init_2_25 (by decide) (fun c_25 => ?_) (fun c_25 => ?_)
  · have h := h.1 c_25
    refine ag_aload_n E1 dJ12_init_2_36 rfl 0 rfl ?_
    refine ag_null E1 dJ12_init_2_37 ?_
    refine ag_putL E1 1 (ci := 14) (C := RX14) (T := TX14) (N := 7) (ty := (.array (.object "java/lang/StackTraceElement"))) tyX14 tyX14_ok nmX14 rfl in_X14 (by decide) q507 (fun _ h => h) rfl (by decide +kernel) rfl rfl dJ12_init_2_38 hP_17 (Nat.lt_of_lt_of_le (Nat.le_refl _) (Nat.le_of_ble_eq_true rfl)) rfl (fun f_18 e_19 => ?_)
    have h := h f_18 e_19
    have hP_20 : f_18.1 x0 = some (.inr (14, vp_V [.ref x0, .null, (va_rf (vs 1)), v_4, v_5, .int y_6, .int y_7])) := by rw [e_19]; exact updP_s
    refine ag_sub (lv' := [(0, .ref x0), (1, .null), (2, .null), (3, .int x3)]) [0, 1, 2, 3] rfl ?_
    exact tbJ12_init_2_c14_41 E  h
  · have h := h.2 c_25
    exact h.elim
theorem kJ13_init_c14 (l : Launch) (D : va_G) (cs : Nat → ClassId) (b : Nat) (H0 : Heap) (ad : Nat → Nat) (vs : Nat → Option Nat) (f : cW) (x0 : Nat) (x3 : Int32) (x4 : Int32) (Q : cW → Prop) (h : wJ13_init_c14 b cs ad vs f x0 x3 x4 Q) : CON l D clC (tysC cs) b H0 (XKd b H0 ad vs) yJ13_init cJ13_init 5 none 2 44 [.ref x0, .null, .null, .int x3, .int x4] f (qV Q) := by
  refine con_of (by decide) (Nat.le_of_ble_eq_true rfl) (fun p e R s m below meth c E1 h0 hin0 => ?_)
  have E : EX p R s m ([.ref x0, .null, .null, .int x3, .int x4] : List Value).toArray meth c cJ13_init 5 RJ13 none D cs b H0 (XKd b H0 ad vs) [] 2 44 f.2.1 f.2.2 := ⟨E1, h0⟩
  have hin : meth.name = "<init>" := hin0 rfl
  refine ag_sub (lv' := [(0, .ref x0), (1, .null), (2, .null), (3, .int x3), (4, .int x4)]) [0, 1, 2, 3, 4] rfl ?_
  refine ag_aload_n E1 dJ13_init_0 rfl 0 rfl ?_
  refine ag_aload_nN E1 dJ13_init_1 rfl 1 rfl ?_
  refine ag_aload_nN E1 dJ13_init_2 rfl 2 rfl ?_
  refine ag_iload_n E1 dJ13_init_3 rfl 3 rfl ?_
  refine ag_iload E1 dJ13_init_4 4 rfl ?_
  refine ag_callI E1 (kJ12_init_2_c14 _ _ _ _ _ _ _ _ _ _ _ _ h) q501 q99 q499 q500 rfl hdJ12_init_2 (Nat.le_of_ble_eq_true rfl) (Nat.le_of_ble_eq_true rfl) (As := [.null, .null, .int x3, .int x4]) rfl (Nat.le_of_ble_eq_true rfl) dJ13_init_6 (fun v_ f_1 hv => ?_) rfl
  obtain ⟨rfl, h⟩ := hv
  exact gw_vret E rfl ⟨rfl, h⟩ dJ13_init_9
theorem kJ14_init_c14 (l : Launch) (D : va_G) (cs : Nat → ClassId) (b : Nat) (H0 : Heap) (ad : Nat → Nat) (vs : Nat → Option Nat) (f : cW) (x0 : Nat) (x3 : Int32) (x4 : Int32) (Q : cW → Prop) (h : wJ14_init_c14 b cs ad vs f x0 x3 x4 Q) : CON l D clC (tysC cs) b H0 (XKd b H0 ad vs) yJ14_init cJ14_init 5 none 3 68 [.ref x0, .null, .null, .int x3, .int x4] f (qV Q) := by
  refine con_of (by decide) (Nat.le_of_ble_eq_true rfl) (fun p e R s m below meth c E1 h0 hin0 => ?_)
  have E : EX p R s m ([.ref x0, .null, .null, .int x3, .int x4] : List Value).toArray meth c cJ14_init 5 RJ14 none D cs b H0 (XKd b H0 ad vs) [] 3 68 f.2.1 f.2.2 := ⟨E1, h0⟩
  have hin : meth.name = "<init>" := hin0 rfl
  refine ag_sub (lv' := [(0, .ref x0), (1, .null), (2, .null), (3, .int x3), (4, .int x4)]) [0, 1, 2, 3, 4] rfl ?_
  refine ag_aload_n E1 dJ14_init_0 rfl 0 rfl ?_
  refine ag_aload_nN E1 dJ14_init_1 rfl 1 rfl ?_
  refine ag_aload_nN E1 dJ14_init_2 rfl 2 rfl ?_
  refine ag_iload_n E1 dJ14_init_3 rfl 3 rfl ?_
  refine ag_iload E1 dJ14_init_4 4 rfl ?_
  refine ag_callI E1 (kJ13_init_c14 _ _ _ _ _ _ _ _ _ _ _ _ h) q498 q100 q496 q497 rfl hdJ13_init (Nat.le_of_ble_eq_true rfl) (Nat.le_of_ble_eq_true rfl) (As := [.null, .null, .int x3, .int x4]) rfl (Nat.le_of_ble_eq_true rfl) dJ14_init_6 (fun v_ f_1 hv => ?_) rfl
  obtain ⟨rfl, h⟩ := hv
  exact gw_vret E rfl ⟨rfl, h⟩ dJ14_init_9
theorem kX3_init (l : Launch) (D : va_G) (cs : Nat → ClassId) (b : Nat) (H0 : Heap) (ad : Nat → Nat) (vs : Nat → Option Nat) (f : cW) (x0 : Nat) (x1 : Int32) (Q : cW → Prop) (h : wX3_init b cs ad vs f x0 x1 Q) : CON l D clC (tysC cs) b H0 (XKd b H0 ad vs) yX3_init cX3_init 2 none 4 92 [.ref x0, .int x1] f (qV Q) := by
  refine con_of (by decide) (Nat.le_of_ble_eq_true rfl) (fun p e R s m below meth c E1 h0 hin0 => ?_)
  have E : EX p R s m ([.ref x0, .int x1] : List Value).toArray meth c cX3_init 2 RX3 none D cs b H0 (XKd b H0 ad vs) [] 4 92 f.2.1 f.2.2 := ⟨E1, h0⟩
  have hin : meth.name = "<init>" := hin0 rfl
  refine ag_sub (lv' := [(0, .ref x0), (1, .int x1)]) [0, 1] rfl ?_
  refine ag_aload_n E1 dX3_init_0 rfl 0 rfl ?_
  refine ag_null E1 dX3_init_1 ?_
  refine ag_null E1 dX3_init_2 ?_
  refine ag_iconst E1 dX3_init_3 ki_0 ?_
  refine ag_iconst E1 dX3_init_4 ki_0 ?_
  refine ag_callI E1 (kJ14_init_c13 _ _ _ _ _ _ _ _ _ _ _ _ h) q495 q101 q493 q494 rfl hdJ14_init (Nat.le_of_ble_eq_true rfl) (Nat.le_of_ble_eq_true rfl) (As := [.null, .null, .int (0 : Int32), .int (0 : Int32)]) rfl (Nat.le_of_ble_eq_true rfl) dX3_init_5 (fun v_ f_1 hv => ?_) rfl
  obtain ⟨rfl, h⟩ := hv
  refine ag_aload_n E1 dX3_init_8 rfl 0 rfl ?_
  refine ag_iload_n E1 dX3_init_9 rfl 1 rfl ?_
  obtain ⟨v_2, v_3, v_4, v_5, v_6, y_7, y_8, hP_9, h⟩ := h
  refine ag_putFL E1 6 (ci := 13) (C := RX3) (T := TX3) (N := 7) (ty := .int) tyX3 tyX3_ok nmX3 rfl in_X3 (by decide) q502 (fun _ h => h) rfl hin rfl (by decide +kernel) rfl rfl dX3_init_10 hP_9 (Nat.lt_of_lt_of_le (Nat.le_refl _) (Nat.le_of_ble_eq_true rfl)) rfl (fun f_10 e_11 => ?_)
  have h := h f_10 e_11
  have hP_12 : f_10.1 x0 = some (.inr (13, vp_V [v_2, v_3, v_4, v_5, v_6, .int y_7, .int x1])) := by rw [e_11]; exact updP_s
  exact gw_vret E rfl ⟨rfl, h⟩ dX3_init_13
theorem hdX3_init : yX3_init.cls ≠ "java/lang/invoke/MethodHandle" ∧ yX3_init.cls ≠ "java/lang/invoke/VarHandle" ∧ (parseMethodDescriptor yX3_init.desc).map (fun d => d.parameters.length) = some 1 := by decide +kernel
theorem kX14_init (l : Launch) (D : va_G) (cs : Nat → ClassId) (b : Nat) (H0 : Heap) (ad : Nat → Nat) (vs : Nat → Option Nat) (f : cW) (x0 : Nat) (x1 : Int32) (Q : cW → Prop) (h : wX14_init b cs ad vs f x0 x1 Q) : CON l D clC (tysC cs) b H0 (XKd b H0 ad vs) yX14_init cX14_init 2 none 4 92 [.ref x0, .int x1] f (qV Q) := by
  refine con_of (by decide) (Nat.le_of_ble_eq_true rfl) (fun p e R s m below meth c E1 h0 hin0 => ?_)
  have E : EX p R s m ([.ref x0, .int x1] : List Value).toArray meth c cX14_init 2 RX14 none D cs b H0 (XKd b H0 ad vs) [] 4 92 f.2.1 f.2.2 := ⟨E1, h0⟩
  have hin : meth.name = "<init>" := hin0 rfl
  refine ag_sub (lv' := [(0, .ref x0), (1, .int x1)]) [0, 1] rfl ?_
  refine ag_aload_n E1 dX14_init_0 rfl 0 rfl ?_
  refine ag_null E1 dX14_init_1 ?_
  refine ag_null E1 dX14_init_2 ?_
  refine ag_iconst E1 dX14_init_3 ki_0 ?_
  refine ag_iconst E1 dX14_init_4 ki_0 ?_
  refine ag_callI E1 (kJ14_init_c14 _ _ _ _ _ _ _ _ _ _ _ _ h) q495 q101 q1347 q494 rfl hdJ14_init (Nat.le_of_ble_eq_true rfl) (Nat.le_of_ble_eq_true rfl) (As := [.null, .null, .int (0 : Int32), .int (0 : Int32)]) rfl (Nat.le_of_ble_eq_true rfl) dX14_init_5 (fun v_ f_1 hv => ?_) rfl
  obtain ⟨rfl, h⟩ := hv
  refine ag_aload_n E1 dX14_init_8 rfl 0 rfl ?_
  refine ag_iload_n E1 dX14_init_9 rfl 1 rfl ?_
  obtain ⟨v_2, v_3, v_4, v_5, v_6, y_7, y_8, hP_9, h⟩ := h
  refine ag_putFL E1 6 (ci := 14) (C := RX14) (T := TX14) (N := 7) (ty := .int) tyX14 tyX14_ok nmX14 rfl in_X14 (by decide) q1348 (fun _ h => h) rfl hin rfl (by decide +kernel) rfl rfl dX14_init_10 hP_9 (Nat.lt_of_lt_of_le (Nat.le_refl _) (Nat.le_of_ble_eq_true rfl)) rfl (fun f_10 e_11 => ?_)
  have h := h f_10 e_11
  have hP_12 : f_10.1 x0 = some (.inr (14, vp_V [v_2, v_3, v_4, v_5, v_6, .int y_7, .int x1])) := by rw [e_11]; exact updP_s
  exact gw_vret E rfl ⟨rfl, h⟩ dX14_init_13
theorem hdX14_init : yX14_init.cls ≠ "java/lang/invoke/MethodHandle" ∧ yX14_init.cls ≠ "java/lang/invoke/VarHandle" ∧ (parseMethodDescriptor yX14_init.desc).map (fun d => d.parameters.length) = some 1 := by decide +kernel
theorem kX2_init (l : Launch) (D : va_G) (cs : Nat → ClassId) (b : Nat) (H0 : Heap) (ad : Nat → Nat) (vs : Nat → Option Nat) (f : cW) (x0 : Nat) (x1 : Nat) (x2 : Int32) (Q : cW → Prop) (h : wX2_init b cs ad vs f x0 x1 x2 Q) : CON l D clC (tysC cs) b H0 (XKd b H0 ad vs) yX2_init cX2_init 3 none 1 20 [.ref x0, .ref x1, .int x2] f (qV Q) := by
  refine con_of (by decide) (Nat.le_of_ble_eq_true rfl) (fun p e R s m below meth c E1 h0 hin0 => ?_)
  have E : EX p R s m ([.ref x0, .ref x1, .int x2] : List Value).toArray meth c cX2_init 3 RX2 none D cs b H0 (XKd b H0 ad vs) [] 1 20 f.2.1 f.2.2 := ⟨E1, h0⟩
  have hin : meth.name = "<init>" := hin0 rfl
  refine ag_sub (lv' := [(0, .ref x0), (1, .ref x1), (2, .int x2)]) [0, 1, 2] rfl ?_
  refine ag_aload_n E1 dX2_init_0 rfl 0 rfl ?_
  refine ag_objInit E1 q235 q126 q127 (Nat.le_of_ble_eq_true rfl) (Nat.le_of_ble_eq_true rfl) (Nat.le_of_ble_eq_true rfl) dX2_init_1 ?_
  refine ag_aload_n E1 dX2_init_4 rfl 0 rfl ?_
  refine ag_iconst E1 dX2_init_5 ki_0 ?_
  obtain ⟨v_1, y_2, y_3, y_4, y_5, v_6, y_7, y_8, hP_9, h⟩ := h
  refine ag_putL E1 2 (ci := 12) (C := RX2) (T := TX2) (N := 8) (ty := .int) tyX2 tyX2_ok nmX2 rfl in_X2 (by decide) q238 (fun _ h => h) rfl (by decide +kernel) rfl rfl dX2_init_6 hP_9 (Nat.lt_of_lt_of_le (Nat.le_refl _) (Nat.le_of_ble_eq_true rfl)) rfl (fun f_10 e_11 => ?_)
  have h := h f_10 e_11
  have hP_12 : f_10.1 x0 = some (.inr (12, vp_V [v_1, .int y_2, .int (0 : Int32), .int y_4, .int y_5, v_6, .int y_7, .int y_8])) := by rw [e_11]; exact updP_s
  refine ag_aload_n E1 dX2_init_9 rfl 0 rfl ?_
  refine ag_iconst E1 dX2_init_10 ki_0 ?_
  refine ag_putL E1 3 (ci := 12) (C := RX2) (T := TX2) (N := 8) (ty := .int) tyX2 tyX2_ok nmX2 rfl in_X2 (by decide) q239 (fun _ h => h) rfl (by decide +kernel) rfl rfl dX2_init_11 hP_12 (Nat.lt_of_lt_of_le (Nat.le_refl _) (Nat.le_of_ble_eq_true rfl)) rfl (fun f_13 e_14 => ?_)
  have h := h f_13 e_14
  have hP_15 : f_13.1 x0 = some (.inr (12, vp_V [v_1, .int y_2, .int (0 : Int32), .int (0 : Int32), .int y_5, v_6, .int y_7, .int y_8])) := by rw [e_14]; exact updP_s
  refine ag_aload_n E1 dX2_init_14 rfl 0 rfl ?_
  refine ag_iconst E1 dX2_init_15 ki_0 ?_
  refine ag_putL E1 4 (ci := 12) (C := RX2) (T := TX2) (N := 8) (ty := .int) tyX2 tyX2_ok nmX2 rfl in_X2 (by decide) q240 (fun _ h => h) rfl (by decide +kernel) rfl rfl dX2_init_16 hP_15 (Nat.lt_of_lt_of_le (Nat.le_refl _) (Nat.le_of_ble_eq_true rfl)) rfl (fun f_16 e_17 => ?_)
  have h := h f_16 e_17
  have hP_18 : f_16.1 x0 = some (.inr (12, vp_V [v_1, .int y_2, .int (0 : Int32), .int (0 : Int32), .int (0 : Int32), v_6, .int y_7, .int y_8])) := by rw [e_17]; exact updP_s
  refine ag_aload_n E1 dX2_init_19 rfl 0 rfl ?_
  refine ag_aload_n E1 dX2_init_20 rfl 1 rfl ?_
  refine ag_putFL E1 0 (ci := 12) (C := RX2) (T := TX2) (N := 8) (ty := (.array .byte)) tyX2 tyX2_ok nmX2 rfl in_X2 (by decide) q236 (fun _ h => h) rfl hin rfl (by decide +kernel) rfl rfl dX2_init_21 hP_18 (Nat.lt_of_lt_of_le (Nat.le_refl _) (Nat.le_of_ble_eq_true rfl)) rfl (fun f_19 e_20 => ?_)
  have h := h f_19 e_20
  have hP_21 : f_19.1 x0 = some (.inr (12, vp_V [.ref x1, .int y_2, .int (0 : Int32), .int (0 : Int32), .int (0 : Int32), v_6, .int y_7, .int y_8])) := by rw [e_20]; exact updP_s
  refine ag_aload_n E1 dX2_init_24 rfl 0 rfl ?_
  refine ag_iload_n E1 dX2_init_25 rfl 2 rfl ?_
  refine ag_putFL E1 1 (ci := 12) (C := RX2) (T := TX2) (N := 8) (ty := .int) tyX2 tyX2_ok nmX2 rfl in_X2 (by decide) q237 (fun _ h => h) rfl hin rfl (by decide +kernel) rfl rfl dX2_init_26 hP_21 (Nat.lt_of_lt_of_le (Nat.le_refl _) (Nat.le_of_ble_eq_true rfl)) rfl (fun f_22 e_23 => ?_)
  have h := h f_22 e_23
  have hP_24 : f_22.1 x0 = some (.inr (12, vp_V [.ref x1, .int x2, .int (0 : Int32), .int (0 : Int32), .int (0 : Int32), v_6, .int y_7, .int y_8])) := by rw [e_23]; exact updP_s
  exact gw_vret E rfl ⟨rfl, h⟩ dX2_init_29
theorem hdX2_init : yX2_init.cls ≠ "java/lang/invoke/MethodHandle" ∧ yX2_init.cls ≠ "java/lang/invoke/VarHandle" ∧ (parseMethodDescriptor yX2_init.desc).map (fun d => d.parameters.length) = some 2 := by decide +kernel
theorem kX2_here (l : Launch) (D : va_G) (cs : Nat → ClassId) (b : Nat) (H0 : Heap) (ad : Nat → Nat) (vs : Nat → Option Nat) (f : cW) (x0 : Nat) (Q : Int32 → cW → Prop) (h : wX2_here b cs ad vs f x0 Q) : CON l D clC (tysC cs) b H0 (XKd b H0 ad vs) yX2_here cX2_here 1 (some .int) 0 0 [.ref x0] f (qI Q) := by
  refine con_of (by decide) (Nat.le_of_ble_eq_true rfl) (fun p e R s m below meth c E1 h0 hin0 => ?_)
  have E : EX p R s m ([.ref x0] : List Value).toArray meth c cX2_here 1 RX2 (some .int) D cs b H0 (XKd b H0 ad vs) [] 0 0 f.2.1 f.2.2 := ⟨E1, h0⟩
  refine ag_sub (lv' := [(0, .ref x0)]) [0] rfl ?_
  refine ag_aload_n E1 dX2_here_0 rfl 0 rfl ?_
  obtain ⟨v_1, y_2, y_3, y_4, y_5, v_6, y_7, y_8, hP_9, h⟩ := h
  refine ag_getL E1 2 (ci := 12) (C := RX2) (T := TX2) (N := 8) rfl in_X2 (by decide) q238 (fun _ h => h) dX2_here_1 hP_9 rfl ?_
  refine ag_aload_n E1 dX2_here_4 rfl 0 rfl ?_
  refine ag_getL E1 1 (ci := 12) (C := RX2) (T := TX2) (N := 8) rfl in_X2 (by decide) q237 (fun _ h => h) dX2_here_5 hP_9 rfl ?_
  refine ag_icmp_ge E1 (tgt := 27) dX2_here_8 (by decide) (fun c_8 => ?_) (fun c_8 => ?_)
  · have h := h.1 c_8
    refine ag_iconst E1 dX2_here_27 ki_m1 ?_
    exact gw_iret E rfl ⟨_, rfl, h⟩ dX2_here_28
  · have h := h.2 c_8
    refine ag_aload_n E1 dX2_here_11 rfl 0 rfl ?_
    refine ag_getL E1 0 (ci := 12) (C := RX2) (T := TX2) (N := 8) rfl in_X2 (by decide) q236 (fun _ h => h) dX2_here_12 hP_9 rfl ?_
    refine ag_aload_n E1 dX2_here_15 rfl 0 rfl ?_
    refine ag_getL E1 2 (ci := 12) (C := RX2) (T := TX2) (N := 8) rfl in_X2 (by decide) q238 (fun _ h => h) dX2_here_16 hP_9 rfl ?_
    obtain ⟨a_10, e_11, h⟩ := h
    rw [e_11]
    obtain ⟨n_12, c_13, hP_14, h⟩ := h
    obtain ⟨hin_15, h⟩ := h
    refine ag_bald E1 (t0 := 1) hP_14 rfl hin_15 dX2_here_19 ?_
    refine ag_sipush E1 dX2_here_20 ks_255 ?_
    refine ag_iand E1 dX2_here_23 ?_
    refine ag_goto E1 (tgt := 28) dX2_here_24 (by decide) ?_
    exact gw_iret E rfl ⟨_, rfl, h⟩ dX2_here_28
theorem hdX2_here : yX2_here.cls ≠ "java/lang/invoke/MethodHandle" ∧ yX2_here.cls ≠ "java/lang/invoke/VarHandle" ∧ (parseMethodDescriptor yX2_here.desc).map (fun d => d.parameters.length) = some 0 := by decide +kernel
theorem kX1_init (l : Launch) (D : va_G) (cs : Nat → ClassId) (b : Nat) (H0 : Heap) (ad : Nat → Nat) (vs : Nat → Option Nat) (f : cW) (x0 : Nat) (Q : cW → Prop) (h : wX1_init b cs ad vs f x0 Q) : CON l D clC (tysC cs) b H0 (XKd b H0 ad vs) yX1_init cX1_init 1 none 1 20 [.ref x0] f (qV Q) := by
  refine con_of (by decide) (Nat.le_of_ble_eq_true rfl) (fun p e R s m below meth c E1 h0 hin0 => ?_)
  have E : EX p R s m ([.ref x0] : List Value).toArray meth c cX1_init 1 RX1 none D cs b H0 (XKd b H0 ad vs) [] 1 20 f.2.1 f.2.2 := ⟨E1, h0⟩
  have hin : meth.name = "<init>" := hin0 rfl
  refine ag_sub (lv' := [(0, .ref x0)]) [0] rfl ?_
  refine ag_aload_n E1 dX1_init_0 rfl 0 rfl ?_
  refine ag_objInit E1 q163 q126 q127 (Nat.le_of_ble_eq_true rfl) (Nat.le_of_ble_eq_true rfl) (Nat.le_of_ble_eq_true rfl) dX1_init_1 ?_
  refine ag_aload_n E1 dX1_init_4 rfl 0 rfl ?_
  refine ag_iconst E1 dX1_init_5 ki_m1 ?_
  obtain ⟨y_1, y_2, v_3, hP_4, h⟩ := h
  refine ag_putL E1 0 (ci := 2) (C := RX1) (T := TX1) (N := 3) (ty := .int) tyX1 tyX1_ok nmX1 rfl in_X1 (by decide) q164 (fun _ h => h) rfl (by decide +kernel) rfl rfl dX1_init_6 hP_4 (Nat.lt_of_lt_of_le (Nat.le_refl _) (Nat.le_of_ble_eq_true rfl)) rfl (fun f_5 e_6 => ?_)
  have h := h f_5 e_6
  have hP_7 : f_5.1 x0 = some (.inr (2, vp_V [.int (-1 : Int32), .int y_2, v_3])) := by rw [e_6]; exact updP_s
  refine ag_aload_n E1 dX1_init_9 rfl 0 rfl ?_
  refine ag_iconst E1 dX1_init_10 ki_0 ?_
  refine ag_putL E1 1 (ci := 2) (C := RX1) (T := TX1) (N := 3) (ty := .int) tyX1 tyX1_ok nmX1 rfl in_X1 (by decide) q166 (fun _ h => h) rfl (by decide +kernel) rfl rfl dX1_init_11 hP_7 (Nat.lt_of_lt_of_le (Nat.le_refl _) (Nat.le_of_ble_eq_true rfl)) rfl (fun f_8 e_9 => ?_)
  have h := h f_8 e_9
  have hP_10 : f_8.1 x0 = some (.inr (2, vp_V [.int (-1 : Int32), .int (0 : Int32), v_3])) := by rw [e_9]; exact updP_s
  refine ag_aload_n E1 dX1_init_14 rfl 0 rfl ?_
  refine ag_bipush E1 dX1_init_15 kb_40 ?_
  obtain ⟨hb_13, hb_14, hb_15, h⟩ := h
  refine ag_newarr_int E1 (t0 := 0) q154 rfl hb_13 rfl hb_14 hb_15 dX1_init_17 (fun a_11 f_12 e_16 e_17 => ?_)
  have h := h a_11 f_12 e_16 e_17
  have hP_18 : f_12.1 a_11 = some (.inl (cs 0, (Int32.toNatClampNeg (40 : Int32)), .inl (fun _ => 0))) := by rw [e_17, e_16]; exact wNew_s
  obtain ⟨y_19, y_20, v_21, hP_22, h⟩ := h
  refine ag_putFL E1 2 (ci := 2) (C := RX1) (T := TX1) (N := 3) (ty := (.array .int)) tyX1 tyX1_ok nmX1 rfl in_X1 (by decide) q168 (fun _ h => h) rfl hin rfl (by decide +kernel) rfl rfl dX1_init_19 hP_22 (Nat.lt_of_lt_of_le (Nat.le_refl _) (Nat.le_of_ble_eq_true rfl)) rfl (fun f_23 e_24 => ?_)
  have h := h f_23 e_24
  have hP_25 : f_23.1 x0 = some (.inr (2, vp_V [.int y_19, .int y_20, .ref a_11])) := by rw [e_24]; exact updP_s
  exact gw_vret E rfl ⟨rfl, h⟩ dX1_init_22
theorem hdX1_init : yX1_init.cls ≠ "java/lang/invoke/MethodHandle" ∧ yX1_init.cls ≠ "java/lang/invoke/VarHandle" ∧ (parseMethodDescriptor yX1_init.desc).map (fun d => d.parameters.length) = some 0 := by decide +kernel
theorem kX1_put (l : Launch) (D : va_G) (cs : Nat → ClassId) (b : Nat) (H0 : Heap) (ad : Nat → Nat) (vs : Nat → Option Nat) (f : cW) (x0 : Nat) (x1 : Int32) (x2 : Int32) (Q : cW → Prop) (h : wX1_put b cs ad vs f x0 x1 x2 Q) : CON l D clC (tysC cs) b H0 (XKd b H0 ad vs) yX1_put cX1_put 3 none 0 0 [.ref x0, .int x1, .int x2] f (qV Q) := by
  refine con_of (by decide) (Nat.le_of_ble_eq_true rfl) (fun p e R s m below meth c E1 h0 hin0 => ?_)
  have E : EX p R s m ([.ref x0, .int x1, .int x2] : List Value).toArray meth c cX1_put 3 RX1 none D cs b H0 (XKd b H0 ad vs) [] 0 0 f.2.1 f.2.2 := ⟨E1, h0⟩
  refine ag_sub (lv' := [(0, .ref x0), (1, .int x1), (2, .int x2)]) [0, 1, 2] rfl ?_
  refine ag_aload_n E1 dX1_put_0 rfl 0 rfl ?_
  obtain ⟨y_1, y_2, v_3, hP_4, h⟩ := h
  refine ag_getL E1 2 (ci := 2) (C := RX1) (T := TX1) (N := 3) rfl in_X1 (by decide) q168 (fun _ h => h) dX1_put_1 hP_4 rfl ?_
  refine ag_iload_n E1 dX1_put_4 rfl 1 rfl ?_
  refine ag_aload_n E1 dX1_put_5 rfl 0 rfl ?_
  refine ag_getL E1 0 (ci := 2) (C := RX1) (T := TX1) (N := 3) rfl in_X1 (by decide) q164 (fun _ h => h) dX1_put_6 hP_4 rfl ?_
  refine ag_if_ne E1 (tgt := 17) dX1_put_9 (by decide) (fun c_9 => ?_) (fun c_9 => ?_)
  · have h := h.1 c_9
    refine ag_aload_n E1 dX1_put_17 rfl 0 rfl ?_
    refine ag_getL E1 0 (ci := 2) (C := RX1) (T := TX1) (N := 3) rfl in_X1 (by decide) q164 (fun _ h => h) dX1_put_18 hP_4 rfl ?_
    refine ag_iconst E1 dX1_put_21 ki_1 ?_
    refine ag_icmp_ne E1 (tgt := 30) dX1_put_22 (by decide) (fun c_22 => ?_) (fun c_22 => ?_)
    · have h := h.1 c_22
      refine ag_iload_n E1 dX1_put_30 rfl 2 rfl ?_
      obtain ⟨a_5, e_6, h⟩ := h
      rw [e_6]
      obtain ⟨n_7, c_8, hP_9, h⟩ := h
      obtain ⟨hin_10, h⟩ := h
      refine ag_iast E1 (t0 := 0) hP_9 rfl hin_10 dX1_put_31 ?_
      refine ag_named (fun f_11 e_12 => ?_)
      have h := h f_11 e_12
      exact gw_vret E rfl ⟨rfl, h⟩ dX1_put_32
    · have h := h.2 c_22
      refine ag_iload_n E1 dX1_put_25 rfl 2 rfl ?_
      refine ag_i2s E1 dX1_put_26 ?_
      refine ag_goto E1 (tgt := 31) dX1_put_27 (by decide) ?_
      obtain ⟨a_13, e_14, h⟩ := h
      rw [e_14]
      obtain ⟨n_15, c_16, hP_17, h⟩ := h
      obtain ⟨hin_18, h⟩ := h
      refine ag_iast E1 (t0 := 0) hP_17 rfl hin_18 dX1_put_31 ?_
      refine ag_named (fun f_19 e_20 => ?_)
      have h := h f_19 e_20
      exact gw_vret E rfl ⟨rfl, h⟩ dX1_put_32
  · have h := h.2 c_9
    refine ag_iload_n E1 dX1_put_12 rfl 2 rfl ?_
    refine ag_i2b E1 dX1_put_13 ?_
    refine ag_goto E1 (tgt := 31) dX1_put_14 (by decide) ?_
    obtain ⟨a_21, e_22, h⟩ := h
    rw [e_22]
    obtain ⟨n_23, c_24, hP_25, h⟩ := h
    obtain ⟨hin_26, h⟩ := h
    refine ag_iast E1 (t0 := 0) hP_25 rfl hin_26 dX1_put_31 ?_
    refine ag_named (fun f_27 e_28 => ?_)
    have h := h f_27 e_28
    exact gw_vret E rfl ⟨rfl, h⟩ dX1_put_32
theorem hdX1_put : yX1_put.cls ≠ "java/lang/invoke/MethodHandle" ∧ yX1_put.cls ≠ "java/lang/invoke/VarHandle" ∧ (parseMethodDescriptor yX1_put.desc).map (fun d => d.parameters.length) = some 2 := by decide +kernel
theorem kJ2_add (l : Launch) (D : va_G) (cs : Nat → ClassId) (b : Nat) (H0 : Heap) (ad : Nat → Nat) (vs : Nat → Option Nat) (f : cW) (x0 x1 : Nat) (Q : Int32 → cW → Prop) (h : wJ2_add b cs ad vs f x0 x1 Q) : CON l D clC (tysC cs) b H0 (XKd b H0 ad vs) yJ2_add cJ2_add 2 (some .boolean) 6 150 [.ref x0, .ref x1] f (qI Q) := h.elim (kJ2_add_a l D cs b H0 ad vs f x0 x1 Q) (kJ2_add_b l D cs b H0 ad vs f x0 x1 Q)
theorem av_daysOf {cc : ByteArray} {nL fr lo pc index x0 : Nat} {own : String} {ret : Option FieldType} {hh : List (Nat × Nat × Nat × Nat)} {Q : State → Prop} {lv : List (Nat × Value)} {rest : List Value} {f : cW} (E : EE p R s m args meth c cc nL own ret D clC (tysC cs) b H0 (XKd b H0 ad vs) hh fr lo) {x1 : Int32} {x2 : Int32} {x3 : Int32} {Q2 : Int32 → cW → Prop} (h : gv_daysOf b cs ad vs f x0 x1 x2 x3 Q2) (hlk : Cond.methodLink own index yX8_daysOf ∈ lw_all) (hfr : 3 ≤ fr) (hlo : 69 ≤ lo) (hst : (rest.map fun v => v.category).sum ≤ 8) (hdg : decode cc pc = .ok (.invokevirtual index, 3)) (kk : ∀ (r : Int32) (w' : cW), Q2 r w' → AG p l e R s m args below meth c D clC b nL Q (pc + 3) lv (.int r :: rest) w') : AG p l e R s m args below meth c D clC b nL Q pc lv (.int x3 :: .int x2 :: .int x1 :: .ref x0 :: rest) f := by
  rcases h with ⟨V, hP, h⟩ | ⟨V, hP, h⟩ | ⟨V, hP, h⟩ | ⟨V, hP, h⟩ | ⟨V, hP, h⟩ | ⟨V, hP, h⟩
  · exact ag_callV E (ci := 3) (C := RX8) (T0 := TX8) (n2 := 3) hP rfl (kX8_daysOf_c3 _ _ _ _ _ _ _ _ _ _ _ _ _ h) (lw_V hlk q1071 q1072 q108 q1088) ⟨rfl, hdX8_daysOf⟩ (Nat.le_trans (Nat.le_of_ble_eq_true rfl) hfr) (Nat.le_trans (Nat.le_of_ble_eq_true rfl) hlo) (As := [.int x1, .int x2, .int x3]) rfl hst hdg (fun v w' hv => by obtain ⟨r, rfl, h⟩ := hv; exact kk r w' h) rfl
  · exact ag_callU E (ci := 4) (C := RX9) (T0 := TX9) (n2 := 3) hP rfl (kX8_daysOf_c4 _ _ _ _ _ _ _ _ _ _ _ _ _ h) (lw_app (by intro w hw; simp only [List.mem_cons, List.not_mem_nil, or_false] at hw; rcases hw with e | e | e | e | e <;> (rw [e]; first | exact hlk | exact q1073 | exact q1074 | exact q1071 | exact q108)) (lw_meth q1088)) rfl hdX8_daysOf (Nat.le_trans (Nat.le_of_ble_eq_true rfl) hfr) (Nat.le_trans (Nat.le_of_ble_eq_true rfl) hlo) (As := [.int x1, .int x2, .int x3]) rfl hst hdg rfl (fun v w' hv => by obtain ⟨r, rfl, h⟩ := hv; exact kk r w' h)
  · exact ag_callO E (ci := 5) (C := RX10) (T0 := TX10) (n2 := 3) hP rfl (kX10_daysOf_c5 _ _ _ _ _ _ _ _ _ _ _ _ _ h) (lw_app (by intro w hw; simp only [List.mem_cons, List.not_mem_nil, or_false] at hw; rcases hw with e | e | e | e | e | e <;> (rw [e]; first | exact hlk | exact q1073 | exact q1071 | exact q1084 | exact q1085 | exact q110)) (lw_meth q1086)) q1088 hdX8_daysOf (Nat.le_trans (Nat.le_of_ble_eq_true rfl) hfr) (Nat.le_trans (Nat.le_of_ble_eq_true rfl) hlo) (As := [.int x1, .int x2, .int x3]) rfl hst hdg rfl (fun v w' hv => by obtain ⟨r, rfl, h⟩ := hv; exact kk r w' h)
  · exact ag_callO E (ci := 6) (C := RX11) (T0 := TX11) (n2 := 3) hP rfl (kX11_daysOf_c6 _ _ _ _ _ _ _ _ _ _ _ _ _ h) (lw_app (by intro w hw; simp only [List.mem_cons, List.not_mem_nil, or_false] at hw; rcases hw with e | e | e | e | e | e <;> (rw [e]; first | exact hlk | exact q1073 | exact q1071 | exact q1083 | exact q1079 | exact q111)) (lw_meth q1080)) q1088 hdX8_daysOf (Nat.le_trans (Nat.le_of_ble_eq_true rfl) hfr) (Nat.le_trans (Nat.le_of_ble_eq_true rfl) hlo) (As := [.int x1, .int x2, .int x3]) rfl hst hdg rfl (fun v w' hv => by obtain ⟨r, rfl, h⟩ := hv; exact kk r w' h)
  · exact ag_callO E (ci := 7) (C := RX12) (T0 := TX12) (n2 := 3) hP rfl (kX12_daysOf_c7 _ _ _ _ _ _ _ _ _ _ _ _ _ h) (lw_app (by intro w hw; simp only [List.mem_cons, List.not_mem_nil, or_false] at hw; rcases hw with e | e | e | e | e | e <;> (rw [e]; first | exact hlk | exact q1073 | exact q1071 | exact q1075 | exact q1076 | exact q112)) (lw_meth q1077)) q1088 hdX8_daysOf (Nat.le_trans (Nat.le_of_ble_eq_true rfl) hfr) (Nat.le_trans (Nat.le_of_ble_eq_true rfl) hlo) (As := [.int x1, .int x2, .int x3]) rfl hst hdg rfl (fun v w' hv => by obtain ⟨r, rfl, h⟩ := hv; exact kk r w' h)
  · exact ag_callU E (ci := 8) (C := RX13) (T0 := TX13) (n2 := 3) hP rfl (kX8_daysOf_c8 _ _ _ _ _ _ _ _ _ _ _ _ _ h) (lw_app (by intro w hw; simp only [List.mem_cons, List.not_mem_nil, or_false] at hw; rcases hw with e | e | e | e | e <;> (rw [e]; first | exact hlk | exact q1073 | exact q1082 | exact q1071 | exact q108)) (lw_meth q1088)) rfl hdX8_daysOf (Nat.le_trans (Nat.le_of_ble_eq_true rfl) hfr) (Nat.le_trans (Nat.le_of_ble_eq_true rfl) hlo) (As := [.int x1, .int x2, .int x3]) rfl hst hdg rfl (fun v w' hv => by obtain ⟨r, rfl, h⟩ := hv; exact kk r w' h)
theorem av_moves {cc : ByteArray} {nL fr lo pc index x0 : Nat} {own : String} {ret : Option FieldType} {hh : List (Nat × Nat × Nat × Nat)} {Q : State → Prop} {lv : List (Nat × Value)} {rest : List Value} {f : cW} (E : EE p R s m args meth c cc nL own ret D clC (tysC cs) b H0 (XKd b H0 ad vs) hh fr lo)  {Q2 : Int32 → cW → Prop} (h : gv_moves b cs ad vs f x0  Q2) (hlk : Cond.methodLink own index yX8_moves ∈ lw_all) (hfr : 1 ≤ fr) (hlo : 20 ≤ lo) (hst : (rest.map fun v => v.category).sum ≤ 8) (hdg : decode cc pc = .ok (.invokevirtual index, 3)) (kk : ∀ (r : Int32) (w' : cW), Q2 r w' → AG p l e R s m args below meth c D clC b nL Q (pc + 3) lv (.int r :: rest) w') : AG p l e R s m args below meth c D clC b nL Q pc lv (.ref x0 :: rest) f := by
  rcases h with ⟨V, hP, h⟩ | ⟨V, hP, h⟩ | ⟨V, hP, h⟩ | ⟨V, hP, h⟩ | ⟨V, hP, h⟩ | ⟨V, hP, h⟩
  · exact ag_callV E (ci := 3) (C := RX8) (T0 := TX8) (n2 := 3) hP rfl (kX8_moves_c3 _ _ _ _ _ _ _ _ _  _ h) (lw_V hlk q1090 q1091 q108 q1100) ⟨rfl, hdX8_moves⟩ (Nat.le_trans (Nat.le_of_ble_eq_true rfl) hfr) (Nat.le_trans (Nat.le_of_ble_eq_true rfl) hlo) (As := []) rfl hst hdg (fun v w' hv => by obtain ⟨r, rfl, h⟩ := hv; exact kk r w' h) rfl
  · exact ag_callU E (ci := 4) (C := RX9) (T0 := TX9) (n2 := 3) hP rfl (kX8_moves_c4 _ _ _ _ _ _ _ _ _  _ h) (lw_app (by intro w hw; simp only [List.mem_cons, List.not_mem_nil, or_false] at hw; rcases hw with e | e | e | e | e <;> (rw [e]; first | exact hlk | exact q1092 | exact q1093 | exact q1090 | exact q108)) (lw_meth q1100)) rfl hdX8_moves (Nat.le_trans (Nat.le_of_ble_eq_true rfl) hfr) (Nat.le_trans (Nat.le_of_ble_eq_true rfl) hlo) (As := []) rfl hst hdg rfl (fun v w' hv => by obtain ⟨r, rfl, h⟩ := hv; exact kk r w' h)
  · exact ag_callU E (ci := 5) (C := RX10) (T0 := TX10) (n2 := 3) hP rfl (kX8_moves_c5 _ _ _ _ _ _ _ _ _  _ h) (lw_app (by intro w hw; simp only [List.mem_cons, List.not_mem_nil, or_false] at hw; rcases hw with e | e | e | e | e <;> (rw [e]; first | exact hlk | exact q1092 | exact q1099 | exact q1090 | exact q108)) (lw_meth q1100)) rfl hdX8_moves (Nat.le_trans (Nat.le_of_ble_eq_true rfl) hfr) (Nat.le_trans (Nat.le_of_ble_eq_true rfl) hlo) (As := []) rfl hst hdg rfl (fun v w' hv => by obtain ⟨r, rfl, h⟩ := hv; exact kk r w' h)
  · exact ag_callU E (ci := 6) (C := RX11) (T0 := TX11) (n2 := 3) hP rfl (kX8_moves_c6 _ _ _ _ _ _ _ _ _  _ h) (lw_app (by intro w hw; simp only [List.mem_cons, List.not_mem_nil, or_false] at hw; rcases hw with e | e | e | e | e <;> (rw [e]; first | exact hlk | exact q1092 | exact q1098 | exact q1090 | exact q108)) (lw_meth q1100)) rfl hdX8_moves (Nat.le_trans (Nat.le_of_ble_eq_true rfl) hfr) (Nat.le_trans (Nat.le_of_ble_eq_true rfl) hlo) (As := []) rfl hst hdg rfl (fun v w' hv => by obtain ⟨r, rfl, h⟩ := hv; exact kk r w' h)
  · exact ag_callU E (ci := 7) (C := RX12) (T0 := TX12) (n2 := 3) hP rfl (kX8_moves_c7 _ _ _ _ _ _ _ _ _  _ h) (lw_app (by intro w hw; simp only [List.mem_cons, List.not_mem_nil, or_false] at hw; rcases hw with e | e | e | e | e <;> (rw [e]; first | exact hlk | exact q1092 | exact q1094 | exact q1090 | exact q108)) (lw_meth q1100)) rfl hdX8_moves (Nat.le_trans (Nat.le_of_ble_eq_true rfl) hfr) (Nat.le_trans (Nat.le_of_ble_eq_true rfl) hlo) (As := []) rfl hst hdg rfl (fun v w' hv => by obtain ⟨r, rfl, h⟩ := hv; exact kk r w' h)
  · exact ag_callO E (ci := 8) (C := RX13) (T0 := TX13) (n2 := 3) hP rfl (kX13_moves_c8 _ _ _ _ _ _ _ _ _  _ h) (lw_app (by intro w hw; simp only [List.mem_cons, List.not_mem_nil, or_false] at hw; rcases hw with e | e | e | e | e | e <;> (rw [e]; first | exact hlk | exact q1092 | exact q1090 | exact q1095 | exact q1096 | exact q113)) (lw_meth q1097)) q1100 hdX8_moves (Nat.le_trans (Nat.le_of_ble_eq_true rfl) hfr) (Nat.le_trans (Nat.le_of_ble_eq_true rfl) hlo) (As := []) rfl hst hdg rfl (fun v w' hv => by obtain ⟨r, rfl, h⟩ := hv; exact kk r w' h)
theorem av_kind {cc : ByteArray} {nL fr lo pc index x0 : Nat} {own : String} {ret : Option FieldType} {hh : List (Nat × Nat × Nat × Nat)} {Q : State → Prop} {lv : List (Nat × Value)} {rest : List Value} {f : cW} (E : EE p R s m args meth c cc nL own ret D clC (tysC cs) b H0 (XKd b H0 ad vs) hh fr lo)  {Q2 : Int32 → cW → Prop} (h : gv_kind b cs ad vs f x0  Q2) (hlk : Cond.methodLink own index yX8_kind ∈ lw_all) (hfr : 2 ≤ fr) (hlo : 40 ≤ lo) (hst : (rest.map fun v => v.category).sum ≤ 8) (hdg : decode cc pc = .ok (.invokevirtual index, 3)) (kk : ∀ (r : Int32) (w' : cW), Q2 r w' → AG p l e R s m args below meth c D clC b nL Q (pc + 3) lv (.int r :: rest) w') : AG p l e R s m args below meth c D clC b nL Q pc lv (.ref x0 :: rest) f := by
  rcases h with ⟨V, hP, h⟩ | ⟨V, hP, h⟩ | ⟨V, hP, h⟩ | ⟨V, hP, h⟩ | ⟨V, hP, h⟩ | ⟨V, hP, h⟩
  · exact ag_callV E (ci := 3) (C := RX8) (T0 := TX8) (n2 := 3) hP rfl (kX8_kind_c3 _ _ _ _ _ _ _ _ _  _ h) (lw_V hlk q1276 q1277 q108 q1296) ⟨rfl, hdX8_kind⟩ (Nat.le_trans (Nat.le_of_ble_eq_true rfl) hfr) (Nat.le_trans (Nat.le_of_ble_eq_true rfl) hlo) (As := []) rfl hst hdg (fun v w' hv => by obtain ⟨r, rfl, h⟩ := hv; exact kk r w' h) rfl
  · exact ag_callO E (ci := 4) (C := RX9) (T0 := TX9) (n2 := 3) hP rfl (kX9_kind_c4 _ _ _ _ _ _ _ _ _  _ h) (lw_app (by intro w hw; simp only [List.mem_cons, List.not_mem_nil, or_false] at hw; rcases hw with e | e | e | e | e | e <;> (rw [e]; first | exact hlk | exact q1278 | exact q1276 | exact q1279 | exact q1280 | exact q109)) (lw_meth q1281)) q1296 hdX8_kind (Nat.le_trans (Nat.le_of_ble_eq_true rfl) hfr) (Nat.le_trans (Nat.le_of_ble_eq_true rfl) hlo) (As := []) rfl hst hdg rfl (fun v w' hv => by obtain ⟨r, rfl, h⟩ := hv; exact kk r w' h)
  · exact ag_callO E (ci := 5) (C := RX10) (T0 := TX10) (n2 := 3) hP rfl (kX10_kind_c5 _ _ _ _ _ _ _ _ _  _ h) (lw_app (by intro w hw; simp only [List.mem_cons, List.not_mem_nil, or_false] at hw; rcases hw with e | e | e | e | e | e <;> (rw [e]; first | exact hlk | exact q1278 | exact q1276 | exact q1293 | exact q1294 | exact q110)) (lw_meth q1295)) q1296 hdX8_kind (Nat.le_trans (Nat.le_of_ble_eq_true rfl) hfr) (Nat.le_trans (Nat.le_of_ble_eq_true rfl) hlo) (As := []) rfl hst hdg rfl (fun v w' hv => by obtain ⟨r, rfl, h⟩ := hv; exact kk r w' h)
  · exact ag_callO E (ci := 6) (C := RX11) (T0 := TX11) (n2 := 3) hP rfl (kX11_kind_c6 _ _ _ _ _ _ _ _ _  _ h) (lw_app (by intro w hw; simp only [List.mem_cons, List.not_mem_nil, or_false] at hw; rcases hw with e | e | e | e | e | e <;> (rw [e]; first | exact hlk | exact q1278 | exact q1276 | exact q1292 | exact q1286 | exact q111)) (lw_meth q1287)) q1296 hdX8_kind (Nat.le_trans (Nat.le_of_ble_eq_true rfl) hfr) (Nat.le_trans (Nat.le_of_ble_eq_true rfl) hlo) (As := []) rfl hst hdg rfl (fun v w' hv => by obtain ⟨r, rfl, h⟩ := hv; exact kk r w' h)
  · exact ag_callO E (ci := 7) (C := RX12) (T0 := TX12) (n2 := 3) hP rfl (kX12_kind_c7 _ _ _ _ _ _ _ _ _  _ h) (lw_app (by intro w hw; simp only [List.mem_cons, List.not_mem_nil, or_false] at hw; rcases hw with e | e | e | e | e | e <;> (rw [e]; first | exact hlk | exact q1278 | exact q1276 | exact q1282 | exact q1283 | exact q112)) (lw_meth q1284)) q1296 hdX8_kind (Nat.le_trans (Nat.le_of_ble_eq_true rfl) hfr) (Nat.le_trans (Nat.le_of_ble_eq_true rfl) hlo) (As := []) rfl hst hdg rfl (fun v w' hv => by obtain ⟨r, rfl, h⟩ := hv; exact kk r w' h)
  · exact ag_callO E (ci := 8) (C := RX13) (T0 := TX13) (n2 := 3) hP rfl (kX13_kind_c8 _ _ _ _ _ _ _ _ _  _ h) (lw_app (by intro w hw; simp only [List.mem_cons, List.not_mem_nil, or_false] at hw; rcases hw with e | e | e | e | e | e <;> (rw [e]; first | exact hlk | exact q1278 | exact q1276 | exact q1288 | exact q1289 | exact q113)) (lw_meth q1290)) q1296 hdX8_kind (Nat.le_trans (Nat.le_of_ble_eq_true rfl) hfr) (Nat.le_trans (Nat.le_of_ble_eq_true rfl) hlo) (As := []) rfl hst hdg rfl (fun v w' hv => by obtain ⟨r, rfl, h⟩ := hv; exact kk r w' h)
theorem av_mostTold {cc : ByteArray} {nL fr lo pc index x0 : Nat} {own : String} {ret : Option FieldType} {hh : List (Nat × Nat × Nat × Nat)} {Q : State → Prop} {lv : List (Nat × Value)} {rest : List Value} {f : cW} (E : EE p R s m args meth c cc nL own ret D clC (tysC cs) b H0 (XKd b H0 ad vs) hh fr lo) {x1 : Int32} {Q2 : Int32 → cW → Prop} (h : gv_mostTold b cs ad vs f x0 x1 Q2) (hlk : Cond.methodLink own index yX8_mostTold ∈ lw_all) (hfr : 1 ≤ fr) (hlo : 21 ≤ lo) (hst : (rest.map fun v => v.category).sum ≤ 8) (hdg : decode cc pc = .ok (.invokevirtual index, 3)) (kk : ∀ (r : Int32) (w' : cW), Q2 r w' → AG p l e R s m args below meth c D clC b nL Q (pc + 3) lv (.int r :: rest) w') : AG p l e R s m args below meth c D clC b nL Q pc lv (.int x1 :: .ref x0 :: rest) f := by
  rcases h with ⟨V, hP, h⟩ | ⟨V, hP, h⟩ | ⟨V, hP, h⟩ | ⟨V, hP, h⟩ | ⟨V, hP, h⟩ | ⟨V, hP, h⟩
  · exact ag_callV E (ci := 3) (C := RX8) (T0 := TX8) (n2 := 3) hP rfl (kX8_mostTold_c3 _ _ _ _ _ _ _ _ _ _ _ h) (lw_V hlk q983 q984 q108 q993) ⟨rfl, hdX8_mostTold⟩ (Nat.le_trans (Nat.le_of_ble_eq_true rfl) hfr) (Nat.le_trans (Nat.le_of_ble_eq_true rfl) hlo) (As := [.int x1]) rfl hst hdg (fun v w' hv => by obtain ⟨r, rfl, h⟩ := hv; exact kk r w' h) rfl
  · exact ag_callO E (ci := 4) (C := RX9) (T0 := TX9) (n2 := 3) hP rfl (kX9_mostTold_c4 _ _ _ _ _ _ _ _ _ _ _ h) (lw_app (by intro w hw; simp only [List.mem_cons, List.not_mem_nil, or_false] at hw; rcases hw with e | e | e | e | e | e <;> (rw [e]; first | exact hlk | exact q985 | exact q983 | exact q986 | exact q987 | exact q109)) (lw_meth q988)) q993 hdX8_mostTold (Nat.le_trans (Nat.le_of_ble_eq_true rfl) hfr) (Nat.le_trans (Nat.le_of_ble_eq_true rfl) hlo) (As := [.int x1]) rfl hst hdg rfl (fun v w' hv => by obtain ⟨r, rfl, h⟩ := hv; exact kk r w' h)
  · exact ag_callU E (ci := 5) (C := RX10) (T0 := TX10) (n2 := 3) hP rfl (kX8_mostTold_c5 _ _ _ _ _ _ _ _ _ _ _ h) (lw_app (by intro w hw; simp only [List.mem_cons, List.not_mem_nil, or_false] at hw; rcases hw with e | e | e | e | e <;> (rw [e]; first | exact hlk | exact q985 | exact q992 | exact q983 | exact q108)) (lw_meth q993)) rfl hdX8_mostTold (Nat.le_trans (Nat.le_of_ble_eq_true rfl) hfr) (Nat.le_trans (Nat.le_of_ble_eq_true rfl) hlo) (As := [.int x1]) rfl hst hdg rfl (fun v w' hv => by obtain ⟨r, rfl, h⟩ := hv; exact kk r w' h)
  · exact ag_callU E (ci := 6) (C := RX11) (T0 := TX11) (n2 := 3) hP rfl (kX8_mostTold_c6 _ _ _ _ _ _ _ _ _ _ _ h) (lw_app (by intro w hw; simp only [List.mem_cons, List.not_mem_nil, or_false] at hw; rcases hw with e | e | e | e | e <;> (rw [e]; first | exact hlk | exact q985 | exact q991 | exact q983 | exact q108)) (lw_meth q993)) rfl hdX8_mostTold (Nat.le_trans (Nat.le_of_ble_eq_true rfl) hfr) (Nat.le_trans (Nat.le_of_ble_eq_true rfl) hlo) (As := [.int x1]) rfl hst hdg rfl (fun v w' hv => by obtain ⟨r, rfl, h⟩ := hv; exact kk r w' h)
  · exact ag_callU E (ci := 7) (C := RX12) (T0 := TX12) (n2 := 3) hP rfl (kX8_mostTold_c7 _ _ _ _ _ _ _ _ _ _ _ h) (lw_app (by intro w hw; simp only [List.mem_cons, List.not_mem_nil, or_false] at hw; rcases hw with e | e | e | e | e <;> (rw [e]; first | exact hlk | exact q985 | exact q989 | exact q983 | exact q108)) (lw_meth q993)) rfl hdX8_mostTold (Nat.le_trans (Nat.le_of_ble_eq_true rfl) hfr) (Nat.le_trans (Nat.le_of_ble_eq_true rfl) hlo) (As := [.int x1]) rfl hst hdg rfl (fun v w' hv => by obtain ⟨r, rfl, h⟩ := hv; exact kk r w' h)
  · exact ag_callO E (ci := 8) (C := RX13) (T0 := TX13) (n2 := 3) hP rfl (kX9_mostTold_c8 _ _ _ _ _ _ _ _ _ _ _ h) (lw_app (by intro w hw; simp only [List.mem_cons, List.not_mem_nil, or_false] at hw; rcases hw with e | e | e | e | e | e <;> (rw [e]; first | exact hlk | exact q985 | exact q983 | exact q990 | exact q987 | exact q109)) (lw_meth q988)) q993 hdX8_mostTold (Nat.le_trans (Nat.le_of_ble_eq_true rfl) hfr) (Nat.le_trans (Nat.le_of_ble_eq_true rfl) hlo) (As := [.int x1]) rfl hst hdg rfl (fun v w' hv => by obtain ⟨r, rfl, h⟩ := hv; exact kk r w' h)
theorem av_worth {cc : ByteArray} {nL fr lo pc index x0 : Nat} {own : String} {ret : Option FieldType} {hh : List (Nat × Nat × Nat × Nat)} {Q : State → Prop} {lv : List (Nat × Value)} {rest : List Value} {f : cW} (E : EE p R s m args meth c cc nL own ret D clC (tysC cs) b H0 (XKd b H0 ad vs) hh fr lo) {x1 : Int32} {x2 : Int32} {Q2 : Int32 → cW → Prop} (h : gv_worth b cs ad vs f x0 x1 x2 Q2) (hlk : Cond.methodLink own index yX8_worth ∈ lw_all) (hfr : 3 ≤ fr) (hlo : 66 ≤ lo) (hst : (rest.map fun v => v.category).sum ≤ 8) (hdg : decode cc pc = .ok (.invokevirtual index, 3)) (kk : ∀ (r : Int32) (w' : cW), Q2 r w' → AG p l e R s m args below meth c D clC b nL Q (pc + 3) lv (.int r :: rest) w') : AG p l e R s m args below meth c D clC b nL Q pc lv (.int x2 :: .int x1 :: .ref x0 :: rest) f := by
  rcases h with ⟨V, hP, h⟩ | ⟨V, hP, h⟩ | ⟨V, hP, h⟩ | ⟨V, hP, h⟩ | ⟨V, hP, h⟩ | ⟨V, hP, h⟩
  · exact ag_callV E (ci := 3) (C := RX8) (T0 := TX8) (n2 := 3) hP rfl (kX8_worth_c3 _ _ _ _ _ _ _ _ _ _ _ _ h) (lw_V hlk q1142 q1143 q108 q1162) ⟨rfl, hdX8_worth⟩ (Nat.le_trans (Nat.le_of_ble_eq_true rfl) hfr) (Nat.le_trans (Nat.le_of_ble_eq_true rfl) hlo) (As := [.int x1, .int x2]) rfl hst hdg (fun v w' hv => by obtain ⟨r, rfl, h⟩ := hv; exact kk r w' h) rfl
  · exact ag_callO E (ci := 4) (C := RX9) (T0 := TX9) (n2 := 3) hP rfl (kX9_worth_c4 _ _ _ _ _ _ _ _ _ _ _ _ h) (lw_app (by intro w hw; simp only [List.mem_cons, List.not_mem_nil, or_false] at hw; rcases hw with e | e | e | e | e | e <;> (rw [e]; first | exact hlk | exact q1144 | exact q1142 | exact q1145 | exact q1146 | exact q109)) (lw_meth q1147)) q1162 hdX8_worth (Nat.le_trans (Nat.le_of_ble_eq_true rfl) hfr) (Nat.le_trans (Nat.le_of_ble_eq_true rfl) hlo) (As := [.int x1, .int x2]) rfl hst hdg rfl (fun v w' hv => by obtain ⟨r, rfl, h⟩ := hv; exact kk r w' h)
  · exact ag_callO E (ci := 5) (C := RX10) (T0 := TX10) (n2 := 3) hP rfl (kX10_worth_c5 _ _ _ _ _ _ _ _ _ _ _ _ h) (lw_app (by intro w hw; simp only [List.mem_cons, List.not_mem_nil, or_false] at hw; rcases hw with e | e | e | e | e | e <;> (rw [e]; first | exact hlk | exact q1144 | exact q1142 | exact q1158 | exact q1159 | exact q110)) (lw_meth q1160)) q1162 hdX8_worth (Nat.le_trans (Nat.le_of_ble_eq_true rfl) hfr) (Nat.le_trans (Nat.le_of_ble_eq_true rfl) hlo) (As := [.int x1, .int x2]) rfl hst hdg rfl (fun v w' hv => by obtain ⟨r, rfl, h⟩ := hv; exact kk r w' h)
  · exact ag_callO E (ci := 6) (C := RX11) (T0 := TX11) (n2 := 3) hP rfl (kX11_worth_c6 _ _ _ _ _ _ _ _ _ _ _ _ h) (lw_app (by intro w hw; simp only [List.mem_cons, List.not_mem_nil, or_false] at hw; rcases hw with e | e | e | e | e | e <;> (rw [e]; first | exact hlk | exact q1144 | exact q1142 | exact q1157 | exact q1150 | exact q111)) (lw_meth q1151)) q1162 hdX8_worth (Nat.le_trans (Nat.le_of_ble_eq_true rfl) hfr) (Nat.le_trans (Nat.le_of_ble_eq_true rfl) hlo) (As := [.int x1, .int x2]) rfl hst hdg rfl (fun v w' hv => by obtain ⟨r, rfl, h⟩ := hv; exact kk r w' h)
  · exact ag_callO E (ci := 7) (C := RX12) (T0 := TX12) (n2 := 3) hP rfl (kX11_worth_c7 _ _ _ _ _ _ _ _ _ _ _ _ h) (lw_app (by intro w hw; simp only [List.mem_cons, List.not_mem_nil, or_false] at hw; rcases hw with e | e | e | e | e | e <;> (rw [e]; first | exact hlk | exact q1144 | exact q1142 | exact q1149 | exact q1150 | exact q111)) (lw_meth q1151)) q1162 hdX8_worth (Nat.le_trans (Nat.le_of_ble_eq_true rfl) hfr) (Nat.le_trans (Nat.le_of_ble_eq_true rfl) hlo) (As := [.int x1, .int x2]) rfl hst hdg rfl (fun v w' hv => by obtain ⟨r, rfl, h⟩ := hv; exact kk r w' h)
  · exact ag_callO E (ci := 8) (C := RX13) (T0 := TX13) (n2 := 3) hP rfl (kX13_worth_c8 _ _ _ _ _ _ _ _ _ _ _ _ h) (lw_app (by intro w hw; simp only [List.mem_cons, List.not_mem_nil, or_false] at hw; rcases hw with e | e | e | e | e | e <;> (rw [e]; first | exact hlk | exact q1144 | exact q1142 | exact q1153 | exact q1154 | exact q113)) (lw_meth q1155)) q1162 hdX8_worth (Nat.le_trans (Nat.le_of_ble_eq_true rfl) hfr) (Nat.le_trans (Nat.le_of_ble_eq_true rfl) hlo) (As := [.int x1, .int x2]) rfl hst hdg rfl (fun v w' hv => by obtain ⟨r, rfl, h⟩ := hv; exact kk r w' h)
theorem ag_nodeF {cc : ByteArray} {nL fr lo pc index count n a x1 : Nat} {own : String} {ret : Option FieldType} {hh : List (Nat × Nat × Nat × Nat)} {Q : State → Prop} {lv : List (Nat × Value)} {rest : List Value} {f : cW} (E : EE p R s m args meth c cc nL own ret D clC (tysC cs) b H0 (XKd b H0 ad vs) hh fr lo) {Q2 : Int32 → cW → Prop} (h : nodeC l D cs b H0 ad vs n f a x1 Q2) (hlk : Cond.methodLink own index ⟨"MarketDays$Node", "worth", "([I)I"⟩ ∈ lw_all) (hfr : n + 1 ≤ fr) (hlo : 40 * n + 30 ≤ lo) (hst : (rest.map fun v => v.category).sum ≤ 8) (hdg : decode cc pc = .ok (.invokeinterface index count, 5)) (kk : ∀ (r : Int32) (w' : cW), Q2 r w' → AG p l e R s m args below meth c D clC b nL Q (pc + 5) lv (.int r :: rest) w') : AG p l e R s m args below meth c D clC b nL Q pc lv (.ref x1 :: .ref a :: rest) f := by
  rcases h with ⟨V, hP, hc⟩ | ⟨V, hP, hc⟩ | ⟨V, hP, hc⟩
  · exact ag_callF E (n := 1) (ci := 10) (C := RX5) (T0 := TX5) (n2 := 2) (x := ⟨"MarketDays$Node", "worth", "([I)I"⟩) hP rfl hc (lw_app (by intro w hw; simp only [List.mem_cons, List.not_mem_nil, or_false] at hw; rcases hw with e | e | e | e <;> (rw [e]; first | exact hlk | exact q858 | exact q860 | exact q105)) (lw_meth q862)) xk_FX5 ⟨by decide, by decide, by decide +kernel⟩ (by omega) (by omega) (As := [.ref x1]) rfl hst hdg rfl kk
  · exact ag_callF E (n := 1) (ci := 9) (C := RX4) (T0 := TX4) (n2 := 2) (x := ⟨"MarketDays$Node", "worth", "([I)I"⟩) hP rfl hc (lw_app (by intro w hw; simp only [List.mem_cons, List.not_mem_nil, or_false] at hw; rcases hw with e | e | e | e <;> (rw [e]; first | exact hlk | exact q864 | exact q866 | exact q104)) (lw_meth q868)) xk_FX4 ⟨by decide, by decide, by decide +kernel⟩ (by omega) (by omega) (As := [.ref x1]) rfl hst hdg rfl kk
  · exact ag_callF E (n := 1) (ci := 11) (C := RX6) (T0 := TX6) (n2 := 3) (x := ⟨"MarketDays$Node", "worth", "([I)I"⟩) hP rfl hc (lw_app (by intro w hw; simp only [List.mem_cons, List.not_mem_nil, or_false] at hw; rcases hw with e | e | e | e <;> (rw [e]; first | exact hlk | exact q872 | exact q874 | exact q106)) (lw_meth q876)) xk_FX6 ⟨by decide, by decide, by decide +kernel⟩ (by omega) (by omega) (As := [.ref x1]) rfl hst hdg rfl kk
theorem kX4_worth (l : Launch) (D : va_G) (cs : Nat → ClassId) (b : Nat) (H0 : Heap) (ad : Nat → Nat) (vs : Nat → Option Nat) (n : Nat) (NW : cW → Nat → Nat → (Int32 → cW → Prop) → Prop) (hN : ∀ (f : cW) (a x1 : Nat) (Q : Int32 → cW → Prop), NW f a x1 Q → nodeC l D cs b H0 ad vs n f a x1 Q) (f : cW) (x0 x1 : Nat) (Q : Int32 → cW → Prop) (h : wX4_worth b cs ad vs NW f x0 x1 Q) : CON l D clC (tysC cs) b H0 (XKd b H0 ad vs) yX4_worth cX4_worth 3 (some .int) (n + 1) (40 * (n + 1)) [.ref x0, .ref x1] f (qI Q) := by
  refine con_of (by decide) (Nat.le_of_ble_eq_true rfl) (fun p e R s m below meth c E1 h0 hin0 => ?_)
  have E : EX p R s m ([.ref x0, .ref x1] : List Value).toArray meth c cX4_worth 3 RX4 (some .int) D cs b H0 (XKd b H0 ad vs) [] (n + 1) (40 * (n + 1)) f.2.1 f.2.2 := ⟨E1, h0⟩
  refine ag_sub (lv' := [(0, .ref x0), (1, .ref x1)]) [0, 1] rfl ?_
  refine ag_aload_n E1 dX4_worth_0 rfl 0 rfl ?_
  obtain ⟨y_1, v_2, hP_3, h⟩ := h
  refine ag_getL E1 1 (ci := 9) (C := RX4) (T := TX4) (N := 2) rfl in_X4 (by decide) q611 (fun _ h => h) dX4_worth_1 hP_3 rfl ?_
  refine ag_aload_n E1 dX4_worth_4 rfl 1 rfl ?_
  obtain ⟨a_4, e_5, h⟩ := h
  rw [e_5]
  refine ag_nodeF E1 (hN _ _ _ _ h) q870 (Nat.le_refl _) (by omega) (Nat.le_of_ble_eq_true rfl) dX4_worth_5 (fun r_6 f_7 h => ?_)
  refine ag_istore_n E1 (lv' := [(2, .int r_6), (0, .ref x0), (1, .ref x1)]) dX4_worth_10 rfl (Nat.lt_of_lt_of_le (Nat.le_refl _) (Nat.le_of_ble_eq_true rfl)) rfl ?_
  refine ag_aload_n E1 dX4_worth_11 rfl 1 rfl ?_
  obtain ⟨y_8, v_9, hP_10, h⟩ := h
  refine ag_getL E1 0 (ci := 9) (C := RX4) (T := TX4) (N := 2) rfl in_X4 (by decide) q610 (fun _ h => h) dX4_worth_12 hP_10 rfl ?_
  refine ag_if_ne E1 (tgt := 23) dX4_worth_15 (by decide) (fun c_15 => ?_) (fun c_15 => ?_)
  · have h := h.1 c_15
    refine ag_iload_n E1 dX4_worth_23 rfl 0 rfl ?_
    refine ag_if_ne E1 (tgt := 31) dX4_worth_24 (by decide) (fun c_24 => ?_) (fun c_24 => ?_)
    · have h := h.1 c_24
      refine ag_iconst E1 dX4_worth_31 ki_0 ?_
      exact gw_iret E rfl ⟨_, rfl, h⟩ dX4_worth_32
    · have h := h.2 c_24
      refine ag_iconst E1 dX4_worth_27 ki_1 ?_
      refine ag_goto E1 (tgt := 32) dX4_worth_28 (by decide) ?_
      exact gw_iret E rfl ⟨_, rfl, h⟩ dX4_worth_32
  · have h := h.2 c_15
    refine ag_iload_n E1 dX4_worth_18 rfl 0 rfl ?_
    refine ag_ineg E1 dX4_worth_19 ?_
    refine ag_goto E1 (tgt := 32) dX4_worth_20 (by decide) ?_
    exact gw_iret E rfl ⟨_, rfl, h⟩ dX4_worth_32
theorem tbX6_worth_140 (E : EX p R s m args meth c cX6_worth 4 RX6 (some .int) D cs b H0 (XKd b H0 ad vs) [] (n + 1) (40 * (n + 1)) z u) {NW : cW → Nat → Nat → (Int32 → cW → Prop) → Prop} (hN : ∀ (f : cW) (a x1 : Nat) (Q : Int32 → cW → Prop), NW f a x1 Q → nodeC l D cs b H0 ad vs n f a x1 Q) {Q : Int32 → cW → Prop}   {f : cW} (h : wbX6_worth_140 b cs ad vs NW  Q  f) : AGW p l e R s m args below meth c D b 4 z u (qI Q) 140 [] [] f := by
  have E1 := E.1
  refine ag_iconst E1 dX6_worth_140 ki_1 ?_
  refine ag_goto E1 (tgt := 145) dX6_worth_141 (by decide) ?_
  exact gw_iret E rfl ⟨_, rfl, h⟩ dX6_worth_145
theorem kX6_worth (l : Launch) (D : va_G) (cs : Nat → ClassId) (b : Nat) (H0 : Heap) (ad : Nat → Nat) (vs : Nat → Option Nat) (n : Nat) (NW : cW → Nat → Nat → (Int32 → cW → Prop) → Prop) (hN : ∀ (f : cW) (a x1 : Nat) (Q : Int32 → cW → Prop), NW f a x1 Q → nodeC l D cs b H0 ad vs n f a x1 Q) (f : cW) (x0 x1 : Nat) (Q : Int32 → cW → Prop) (h : wX6_worth b cs ad vs NW f x0 x1 Q) : CON l D clC (tysC cs) b H0 (XKd b H0 ad vs) yX6_worth cX6_worth 4 (some .int) (n + 1) (40 * (n + 1)) [.ref x0, .ref x1] f (qI Q) := by
  refine con_of (by decide) (Nat.le_of_ble_eq_true rfl) (fun p e R s m below meth c E1 h0 hin0 => ?_)
  have E : EX p R s m ([.ref x0, .ref x1] : List Value).toArray meth c cX6_worth 4 RX6 (some .int) D cs b H0 (XKd b H0 ad vs) [] (n + 1) (40 * (n + 1)) f.2.1 f.2.2 := ⟨E1, h0⟩
  refine ag_sub (lv' := [(0, .ref x0), (1, .ref x1)]) [0, 1] rfl ?_
  refine ag_aload_n E1 dX6_worth_0 rfl 0 rfl ?_
  obtain ⟨y_1, v_2, v_3, hP_4, h⟩ := h
  refine ag_getL E1 1 (ci := 11) (C := RX6) (T := TX6) (N := 3) rfl in_X6 (by decide) q655 (fun _ h => h) dX6_worth_1 hP_4 rfl ?_
  refine ag_aload_n E1 dX6_worth_4 rfl 1 rfl ?_
  obtain ⟨a_5, e_6, h⟩ := h
  rw [e_6]
  refine ag_nodeF E1 (hN _ _ _ _ h) q878 (Nat.le_refl _) (by omega) (Nat.le_of_ble_eq_true rfl) dX6_worth_5 (fun r_7 f_8 h => ?_)
  refine ag_istore_n E1 (lv' := [(2, .int r_7), (0, .ref x0), (1, .ref x1)]) dX6_worth_10 rfl (Nat.lt_of_lt_of_le (Nat.le_refl _) (Nat.le_of_ble_eq_true rfl)) rfl ?_
  refine ag_aload_n E1 dX6_worth_11 rfl 1 rfl ?_
  obtain ⟨y_9, v_10, v_11, hP_12, h⟩ := h
  refine ag_getL E1 2 (ci := 11) (C := RX6) (T := TX6) (N := 3) rfl in_X6 (by decide) q656 (fun _ h => h) dX6_worth_12 hP_12 rfl ?_
  refine ag_aload_n E1 dX6_worth_15 rfl 2 rfl ?_
  obtain ⟨a_13, e_14, h⟩ := h
  rw [e_14]
  refine ag_nodeF E1 (hN _ _ _ _ h) q878 (Nat.le_refl _) (by omega) (Nat.le_of_ble_eq_true rfl) dX6_worth_16 (fun r_15 f_16 h => ?_)
  refine ag_istore_n E1 (lv' := [(3, .int r_15), (2, .int r_7), (0, .ref x0), (1, .ref x1)]) dX6_worth_21 rfl (Nat.lt_of_lt_of_le (Nat.le_refl _) (Nat.le_of_ble_eq_true rfl)) rfl ?_
  refine ag_aload_n E1 dX6_worth_22 rfl 2 rfl ?_
  obtain ⟨y_17, v_18, v_19, hP_20, h⟩ := h
  refine ag_getL E1 0 (ci := 11) (C := RX6) (T := TX6) (N := 3) rfl in_X6 (by decide) q654 (fun _ h => h) dX6_worth_23 hP_20 rfl ?_
  rcases Classical.em (y_17 = (38 : Int32)) with c_26_0 | c_26_0
  · have h := h.1 c_26_0
    refine ag_lookup E1 (tgt := 118) (off := 92) dX6_worth_26 (by decide) (by rw [c_26_0]; decide) (by decide) ?_
    refine ag_iload_n E1 dX6_worth_118 rfl 1 rfl ?_
    refine ag_if_eq E1 (tgt := 130) dX6_worth_119 (by decide) (fun c_119 => ?_) (fun c_119 => ?_)
    · have h := h.1 c_119
      refine ag_iconst E1 dX6_worth_130 ki_0 ?_
      exact gw_iret E rfl ⟨_, rfl, h⟩ dX6_worth_131
    · have h := h.2 c_119
      refine ag_iload_n E1 dX6_worth_122 rfl 0 rfl ?_
      refine ag_if_eq E1 (tgt := 130) dX6_worth_123 (by decide) (fun c_123 => ?_) (fun c_123 => ?_)
      · have h := h.1 c_123
        refine ag_iconst E1 dX6_worth_130 ki_0 ?_
        exact gw_iret E rfl ⟨_, rfl, h⟩ dX6_worth_131
      · have h := h.2 c_123
        refine ag_iconst E1 dX6_worth_126 ki_1 ?_
        refine ag_goto E1 (tgt := 131) dX6_worth_127 (by decide) ?_
        exact gw_iret E rfl ⟨_, rfl, h⟩ dX6_worth_131
  · have h := h.2 c_26_0
    have n_0 := lv_neT c_26_0 (show (38 : Int32).toInt = 38 by decide)
    rcases Classical.em (y_17 = (42 : Int32)) with c_26_1 | c_26_1
    · have h := h.1 c_26_1
      refine ag_lookup E1 (tgt := 92) (off := 66) dX6_worth_26 (by decide) (by rw [c_26_1]; decide) (by decide) ?_
      refine ag_iload_n E1 dX6_worth_92 rfl 1 rfl ?_
      refine ag_iload_n E1 dX6_worth_93 rfl 0 rfl ?_
      refine ag_imul E1 dX6_worth_94 ?_
      exact gw_iret E rfl ⟨_, rfl, h⟩ dX6_worth_95
    · have h := h.2 c_26_1
      have n_1 := lv_neT c_26_1 (show (42 : Int32).toInt = 42 by decide)
      rcases Classical.em (y_17 = (43 : Int32)) with c_26_2 | c_26_2
      · have h := h.1 c_26_2
        refine ag_lookup E1 (tgt := 84) (off := 58) dX6_worth_26 (by decide) (by rw [c_26_2]; decide) (by decide) ?_
        refine ag_iload_n E1 dX6_worth_84 rfl 1 rfl ?_
        refine ag_iload_n E1 dX6_worth_85 rfl 0 rfl ?_
        refine ag_iadd E1 dX6_worth_86 ?_
        exact gw_iret E rfl ⟨_, rfl, h⟩ dX6_worth_87
      · have h := h.2 c_26_2
        have n_2 := lv_neT c_26_2 (show (43 : Int32).toInt = 43 by decide)
        rcases Classical.em (y_17 = (45 : Int32)) with c_26_3 | c_26_3
        · have h := h.1 c_26_3
          refine ag_lookup E1 (tgt := 88) (off := 62) dX6_worth_26 (by decide) (by rw [c_26_3]; decide) (by decide) ?_
          refine ag_iload_n E1 dX6_worth_88 rfl 1 rfl ?_
          refine ag_iload_n E1 dX6_worth_89 rfl 0 rfl ?_
          refine ag_isub E1 dX6_worth_90 ?_
          exact gw_iret E rfl ⟨_, rfl, h⟩ dX6_worth_91
        · have h := h.2 c_26_3
          have n_3 := lv_neT c_26_3 (show (45 : Int32).toInt = 45 by decide)
          rcases Classical.em (y_17 = (60 : Int32)) with c_26_4 | c_26_4
          · have h := h.1 c_26_4
            refine ag_lookup E1 (tgt := 96) (off := 70) dX6_worth_26 (by decide) (by rw [c_26_4]; decide) (by decide) ?_
            refine ag_iload_n E1 dX6_worth_96 rfl 1 rfl ?_
            refine ag_iload_n E1 dX6_worth_97 rfl 0 rfl ?_
            refine ag_icmp_ge E1 (tgt := 105) dX6_worth_98 (by decide) (fun c_98 => ?_) (fun c_98 => ?_)
            · have h := h.1 c_98
              refine ag_iconst E1 dX6_worth_105 ki_0 ?_
              exact gw_iret E rfl ⟨_, rfl, h⟩ dX6_worth_106
            · have h := h.2 c_98
              refine ag_iconst E1 dX6_worth_101 ki_1 ?_
              refine ag_goto E1 (tgt := 106) dX6_worth_102 (by decide) ?_
              exact gw_iret E rfl ⟨_, rfl, h⟩ dX6_worth_106
          · have h := h.2 c_26_4
            have n_4 := lv_neT c_26_4 (show (60 : Int32).toInt = 60 by decide)
            rcases Classical.em (y_17 = (61 : Int32)) with c_26_5 | c_26_5
            · have h := h.1 c_26_5
              refine ag_lookup E1 (tgt := 107) (off := 81) dX6_worth_26 (by decide) (by rw [c_26_5]; decide) (by decide) ?_
              refine ag_iload_n E1 dX6_worth_107 rfl 1 rfl ?_
              refine ag_iload_n E1 dX6_worth_108 rfl 0 rfl ?_
              refine ag_icmp_ne E1 (tgt := 116) dX6_worth_109 (by decide) (fun c_109 => ?_) (fun c_109 => ?_)
              · have h := h.1 c_109
                refine ag_iconst E1 dX6_worth_116 ki_0 ?_
                exact gw_iret E rfl ⟨_, rfl, h⟩ dX6_worth_117
              · have h := h.2 c_109
                refine ag_iconst E1 dX6_worth_112 ki_1 ?_
                refine ag_goto E1 (tgt := 117) dX6_worth_113 (by decide) ?_
                exact gw_iret E rfl ⟨_, rfl, h⟩ dX6_worth_117
            · have h := h.2 c_26_5
              have n_5 := lv_neT c_26_5 (show (61 : Int32).toInt = 61 by decide)
              refine ag_lookup E1 (tgt := 132) (off := 106) dX6_worth_26 (by decide) (by simp [Op.lookupswitch.offset, n_0, Ne.symm n_0, n_1, Ne.symm n_1, n_2, Ne.symm n_2, n_3, Ne.symm n_3, n_4, Ne.symm n_4, n_5, Ne.symm n_5]) (by decide) ?_
              refine ag_iload_n E1 dX6_worth_132 rfl 1 rfl ?_
              refine ag_if_ne E1 (tgt := 140) dX6_worth_133 (by decide) (fun c_133 => ?_) (fun c_133 => ?_)
              · have h := h.1 c_133
                refine ag_sub (lv' := []) [] rfl ?_
                exact tbX6_worth_140 E hN  h
              · have h := h.2 c_133
                refine ag_iload_n E1 dX6_worth_136 rfl 0 rfl ?_
                refine ag_if_eq E1 (tgt := 144) dX6_worth_137 (by decide) (fun c_137 => ?_) (fun c_137 => ?_)
                · have h := h.1 c_137
                  refine ag_iconst E1 dX6_worth_144 ki_0 ?_
                  exact gw_iret E rfl ⟨_, rfl, h⟩ dX6_worth_145
                · have h := h.2 c_137
                  refine ag_sub (lv' := []) [] rfl ?_
                  exact tbX6_worth_140 E hN  h
theorem node_ok (l : Launch) (D : va_G) (cs : Nat → ClassId) (b : Nat) (H0 : Heap) (ad : Nat → Nat) (vs : Nat → Option Nat) : ∀ (n : Nat) (f : cW) (a x1 : Nat) (Q : Int32 → cW → Prop), nodeW b cs ad vs n f a x1 Q → nodeC l D cs b H0 ad vs n f a x1 Q := by
  intro n
  induction n with
  | zero => intro f a x1 Q h; exact h.elim
  | succ n ih =>
    intro f a x1 Q h
    rcases h with ⟨V, hP, h⟩ | ⟨V, hP, h⟩ | ⟨V, hP, h⟩
    · exact Or.inl ⟨V, hP, kX5_worth l D cs b H0 ad vs f a x1 Q h⟩
    · exact Or.inr (Or.inl ⟨V, hP, kX4_worth l D cs b H0 ad vs n _ ih f a x1 Q h⟩)
    · exact Or.inr (Or.inr ⟨V, hP, kX6_worth l D cs b H0 ad vs n _ ih f a x1 Q h⟩)
end
