/-! their walks (by program) -/
set_option maxRecDepth 100000
set_option maxHeartbeats 4000000
section
variable {p : Program} {l : Launch} {e : Env} {R : Room} {s : State} {m : MethodId} {args : Array Value} {below : List Frame} {meth : Method} {c : Code} {D : va_G} {cs : Nat → ClassId} {b z u n : Nat} {H0 : Heap} {ad : Nat → Nat} {vs : Nat → Option Nat}
theorem kJ3_equals (l : Launch) (D : va_G) (cs : Nat → ClassId) (b : Nat) (H0 : Heap) (ad : Nat → Nat) (vs : Nat → Option Nat) (f : cW) (x0 : Nat) (x1 : Value) (Q : Int32 → cW → Prop) (h : wJ3_equals b cs ad vs f x0 x1 Q) : CON l D clC (tysC cs) b H0 (XKd b H0 ad vs) yJ3_equals cJ3_equals 3 (some .boolean) 1 22 [.ref (ad x0), x1] f (qI Q) := by
  rcases h with ⟨e, h⟩ | ⟨a, e, h⟩
  · subst e; exact kJ3_equals_n l D cs b H0 ad vs f x0 Q h
  · subst e; exact kJ3_equals_s l D cs b H0 ad vs f x0 a Q h
theorem kX2_fault (l : Launch) (D : va_G) (cs : Nat → ClassId) (b : Nat) (H0 : Heap) (ad : Nat → Nat) (vs : Nat → Option Nat) (f : cW) (x0 : Nat) (Q : Nat → cW → Prop) (h : wX2_fault b cs ad vs f x0 Q) : CON l D clC (tysC cs) b H0 (XKd b H0 ad vs) yX2_fault cX2_fault 1 (some (.object "MarketDays$Fault")) 5 113 [.ref x0] f (qR Q) := by
  refine con_of (by decide) (Nat.le_of_ble_eq_true rfl) (fun p e R s m below meth c E1 h0 hin0 => ?_)
  have E : EX p R s m ([.ref x0] : List Value).toArray meth c cX2_fault 1 RX2 (some (.object "MarketDays$Fault")) D cs b H0 (XKd b H0 ad vs) [] 5 113 f.2.1 f.2.2 := ⟨E1, h0⟩
  refine ag_sub (lv' := [(0, .ref x0)]) [0] rfl ?_
  obtain ⟨hb_3, h⟩ := h
  refine ag_new E1 (ci := 13) (C := RX3) (T := TX3) (N := 7) (fs := [.null, .null, .null, .null, .null, .int (0 : Int32), .int (0 : Int32)]) tyX3 tyX3_ok in_X3 q450 q451 q102 rfl rfl hb_3 dX2_fault_0 (fun a_1 f_2 e_4 e_5 => ?_)
  have h := h a_1 f_2 e_4 e_5
  have hP_6 : f_2.1 a_1 = some (.inr (13, vp_V [.null, .null, .null, .null, .null, .int (0 : Int32), .int (0 : Int32)])) := by rw [e_5, e_4]; exact wNew_s
  refine ag_dup E1 dX2_fault_3 rfl ?_
  refine ag_aload_n E1 dX2_fault_4 rfl 0 rfl ?_
  obtain ⟨v_7, y_8, y_9, y_10, y_11, v_12, y_13, y_14, hP_15, h⟩ := h
  refine ag_getL E1 3 (ci := 12) (C := RX2) (T := TX2) (N := 8) rfl in_X2 (by decide) q239 (fun _ h => h) dX2_fault_5 hP_15 rfl ?_
  refine ag_callI E1 (kX3_init _ _ _ _ _ _ _ _ _ _ _ h) q492 q102 q490 q491 rfl hdX3_init (Nat.le_of_ble_eq_true rfl) (Nat.le_of_ble_eq_true rfl) (As := [.int y_10]) rfl (Nat.le_of_ble_eq_true rfl) dX2_fault_8 (fun v_ f_16 hv => ?_) rfl
  obtain ⟨rfl, h⟩ := hv
  exact gw_aret E rfl (Or.inl ⟨_, rfl⟩) (Or.inr ⟨_, rfl⟩) ⟨_, rfl, h⟩ dX2_fault_11
theorem hdX2_fault : yX2_fault.cls ≠ "java/lang/invoke/MethodHandle" ∧ yX2_fault.cls ≠ "java/lang/invoke/VarHandle" ∧ (parseMethodDescriptor yX2_fault.desc).map (fun d => d.parameters.length) = some 0 := by decide +kernel
theorem kX2_is (l : Launch) (D : va_G) (cs : Nat → ClassId) (b : Nat) (H0 : Heap) (ad : Nat → Nat) (vs : Nat → Option Nat) (f : cW) (x0 : Nat) (x1 : Nat) (Q : Int32 → cW → Prop) (h : wX2_is b cs ad vs f x0 x1 Q) : CON l D clC (tysC cs) b H0 (XKd b H0 ad vs) yX2_is cX2_is 2 (some .boolean) 2 44 [.ref x0, .ref (ad x1)] f (qI Q) := by
  refine con_of (by decide) (Nat.le_of_ble_eq_true rfl) (fun p e R s m below meth c E1 h0 hin0 => ?_)
  have E : EX p R s m ([.ref x0, .ref (ad x1)] : List Value).toArray meth c cX2_is 2 RX2 (some .boolean) D cs b H0 (XKd b H0 ad vs) [] 2 44 f.2.1 f.2.2 := ⟨E1, h0⟩
  refine ag_sub (lv' := [(0, .ref x0), (1, .ref (ad x1))]) [0, 1] rfl ?_
  refine ag_aload_n E1 dX2_is_0 rfl 1 rfl ?_
  refine ag_aload_n E1 dX2_is_1 rfl 0 rfl ?_
  obtain ⟨v_1, y_2, y_3, y_4, y_5, v_6, y_7, y_8, hP_9, h⟩ := h
  refine ag_getL E1 5 (ci := 12) (C := RX2) (T := TX2) (N := 8) rfl in_X2 (by decide) q241 (fun _ h => h) dX2_is_2 hP_9 rfl ?_
  obtain ⟨ht_11, h⟩ := h
  refine ag_callVR E1 (fun hx => (xk_s x1 ht_11 hx).1) (kJ3_equals _ _ _ _ _ _ _ _ _ _ _ h) (lw_V q579 q580 q581 q88 q582) ⟨rfl, hdJ3_equals⟩ (Nat.le_of_ble_eq_true rfl) (Nat.le_of_ble_eq_true rfl) (As := [v_6]) rfl (Nat.le_of_ble_eq_true rfl) dX2_is_5 rfl (fun v_ f_10 hv => ?_)
  obtain ⟨r_12, rfl, h⟩ := hv
  exact gw_zret E rfl h.1 ⟨_, rfl, h.2⟩ dX2_is_8
theorem hdX2_is : yX2_is.cls ≠ "java/lang/invoke/MethodHandle" ∧ yX2_is.cls ≠ "java/lang/invoke/VarHandle" ∧ (parseMethodDescriptor yX2_is.desc).map (fun d => d.parameters.length) = some 1 := by decide +kernel
theorem tbX2_next_18 (E : EX p R s m args meth c cX2_next 2 RX2 none D cs b H0 (XKd b H0 ad vs) [] 8 183 z u) {Q : cW → Prop} {X : Nat → cW → Prop} {K0 : Nat → cW → Prop} (hK0 : ∀ (x0 : Nat) (f : cW), K0 x0 f → AGT p l e R s m args below meth c D b 2 z u (qV Q) X 0 [(0, .ref x0)] [] f) {K31 : Nat → cW → Prop} (hK31 : ∀ (x0 : Nat) (f : cW), K31 x0 f → AGT p l e R s m args below meth c D b 2 z u (qV Q) X 31 [(0, .ref x0)] [] f) {x0 : Nat} {f : cW} (h : wbX2_next_18 b cs ad vs K0 K31 X Q x0 f) : AGT p l e R s m args below meth c D b 2 z u (qV Q) X 18 [(0, .ref x0)] [] f := by
  have E1 := E.1
  refine ag_aload_n E1 dX2_next_18 rfl 0 rfl ?_
  refine ag_dup E1 dX2_next_19 rfl ?_
  obtain ⟨v_12, y_13, y_14, y_15, y_16, v_17, y_18, y_19, hP_20, h⟩ := h
  refine ag_getL E1 2 (ci := 12) (C := RX2) (T := TX2) (N := 8) rfl in_X2 (by decide) q238 (fun _ h => h) dX2_next_20 hP_20 rfl ?_
  refine ag_iconst E1 dX2_next_23 ki_1 ?_
  refine ag_iadd E1 dX2_next_24 ?_
  refine ag_putL E1 2 (ci := 12) (C := RX2) (T := TX2) (N := 8) (ty := .int) tyX2 tyX2_ok nmX2 rfl in_X2 (by decide) q238 (fun _ h => h) rfl (by decide +kernel) rfl rfl dX2_next_25 hP_20 (Nat.lt_of_lt_of_le (Nat.le_refl _) (Nat.le_of_ble_eq_true rfl)) rfl (fun f_21 e_22 => ?_)
  have h := h f_21 e_22
  have hP_23 : f_21.1 x0 = some (.inr (12, vp_V [v_12, .int y_13, .int (y_14 + (1 : Int32)), .int y_15, .int y_16, v_17, .int y_18, .int y_19])) := by rw [e_22]; exact updP_s
  refine ag_goto E1 (tgt := 0) dX2_next_28 (by decide) ?_
  exact hK0 _ _ h
theorem tbX2_next_0 (E : EX p R s m args meth c cX2_next 2 RX2 none D cs b H0 (XKd b H0 ad vs) [] 8 183 z u) {Q : cW → Prop} {X : Nat → cW → Prop} {K0 : Nat → cW → Prop} (hK0 : ∀ (x0 : Nat) (f : cW), K0 x0 f → AGT p l e R s m args below meth c D b 2 z u (qV Q) X 0 [(0, .ref x0)] [] f) {K31 : Nat → cW → Prop} (hK31 : ∀ (x0 : Nat) (f : cW), K31 x0 f → AGT p l e R s m args below meth c D b 2 z u (qV Q) X 31 [(0, .ref x0)] [] f) {x0 : Nat} {f : cW} (h : wbX2_next_0 b cs ad vs K0 K31 X Q x0 f) : AGT p l e R s m args below meth c D b 2 z u (qV Q) X 0 [(0, .ref x0)] [] f := by
  have E1 := E.1
  refine ag_aload_n E1 dX2_next_0 rfl 0 rfl ?_
  obtain ⟨v_2, y_3, y_4, y_5, y_6, v_7, y_8, y_9, hP_10, h⟩ := h
  refine ag_callV E1 (ci := 12) (C := RX2) (T0 := TX2) (n2 := 8) hP_10 rfl (kX2_here _ _ _ _ _ _ _ _ _ _ h) (lw_V q273 q275 qs1 q92 q276) ⟨rfl, hdX2_here⟩ (Nat.le_of_ble_eq_true rfl) (Nat.le_of_ble_eq_true rfl) (As := []) rfl (Nat.le_of_ble_eq_true rfl) dX2_next_1 (fun v_ f_1 hv => ?_) rfl
  obtain ⟨r_11, rfl, h⟩ := hv
  refine ag_bipush E1 dX2_next_4 kb_32 ?_
  refine ag_icmp_eq E1 (tgt := 18) dX2_next_6 (by decide) (fun c_6 => ?_) (fun c_6 => ?_)
  · have h := h.1 c_6
    exact tbX2_next_18 E hK0 hK31 h
  · have h := h.2 c_6
    refine ag_aload_n E1 dX2_next_9 rfl 0 rfl ?_
    obtain ⟨v_25, y_26, y_27, y_28, y_29, v_30, y_31, y_32, hP_33, h⟩ := h
    refine ag_callV E1 (ci := 12) (C := RX2) (T0 := TX2) (n2 := 8) hP_33 rfl (kX2_here _ _ _ _ _ _ _ _ _ _ h) (lw_V q273 q275 qs1 q92 q276) ⟨rfl, hdX2_here⟩ (Nat.le_of_ble_eq_true rfl) (Nat.le_of_ble_eq_true rfl) (As := []) rfl (Nat.le_of_ble_eq_true rfl) dX2_next_10 (fun v_ f_24 hv => ?_) rfl
    obtain ⟨r_34, rfl, h⟩ := hv
    refine ag_bipush E1 dX2_next_13 kb_10 ?_
    refine ag_icmp_ne E1 (tgt := 31) dX2_next_15 (by decide) (fun c_15 => ?_) (fun c_15 => ?_)
    · have h := h.1 c_15
      exact hK31 _ _ h
    · have h := h.2 c_15
      exact tbX2_next_18 E hK0 hK31 h
theorem tlX2_next_0 (E : EX p R s m args meth c cX2_next 2 RX2 none D cs b H0 (XKd b H0 ad vs) [] 8 183 z u) {Q : cW → Prop} {X : Nat → cW → Prop} {K31 : Nat → cW → Prop} (hK31 : ∀ (x0 : Nat) (f : cW), K31 x0 f → AGT p l e R s m args below meth c D b 2 z u (qV Q) X 31 [(0, .ref x0)] [] f) : ∀ (n : Nat) (x0 : Nat) (f : cW), wlX2_next_0 b cs ad vs K31 X Q n x0 f → AGT p l e R s m args below meth c D b 2 z u (qV Q) X 0 [(0, .ref x0)] [] f := by
  intro n
  induction n with
  | zero => intro _ _ h; exact h.elim
  | succ n ih => intro x0 f h; exact tbX2_next_0 E ih hK31 h
theorem tbX2_next_204 (E : EX p R s m args meth c cX2_next 2 RX2 none D cs b H0 (XKd b H0 ad vs) [] 8 183 z u) {Q : cW → Prop} {X : Nat → cW → Prop} {K163 : Nat → Int32 → cW → Prop} (hK163 : ∀ (x0 : Nat) (x1 : Int32) (f : cW), K163 x0 x1 f → AGT p l e R s m args below meth c D b 2 z u (qV Q) X 163 [(0, .ref x0), (1, .int x1)] [] f) {K220 : Nat → Int32 → cW → Prop} (hK220 : ∀ (x0 : Nat) (x1 : Int32) (f : cW), K220 x0 x1 f → AGT p l e R s m args below meth c D b 2 z u (qV Q) X 220 [(0, .ref x0), (1, .int x1)] [] f) {x0 : Nat} {x1 : Int32} {f : cW} (h : wbX2_next_204 b cs ad vs K163 K220 X Q x0 x1 f) : AGT p l e R s m args below meth c D b 2 z u (qV Q) X 204 [(0, .ref x0), (1, .int x1)] [] f := by
  have E1 := E.1
  refine ag_iincN E1 (lv' := fun x1_144 => [(1, .int x1_144), (0, .ref x0)]) dX2_next_204 1 rfl ki_1 (Nat.lt_of_lt_of_le (Nat.le_refl _) (Nat.le_of_ble_eq_true rfl)) (fun _ => rfl) (fun x1_144 e_x1_144 => ?_)
  have h := h x1_144 e_x1_144
  refine ag_aload_n E1 dX2_next_207 rfl 1 rfl ?_
  refine ag_dup E1 dX2_next_208 rfl ?_
  obtain ⟨v_145, y_146, y_147, y_148, y_149, v_150, y_151, y_152, hP_153, h⟩ := h
  refine ag_getL E1 2 (ci := 12) (C := RX2) (T := TX2) (N := 8) rfl in_X2 (by decide) q238 (fun _ h => h) dX2_next_209 hP_153 rfl ?_
  refine ag_iconst E1 dX2_next_212 ki_1 ?_
  refine ag_iadd E1 dX2_next_213 ?_
  refine ag_putL E1 2 (ci := 12) (C := RX2) (T := TX2) (N := 8) (ty := .int) tyX2 tyX2_ok nmX2 rfl in_X2 (by decide) q238 (fun _ h => h) rfl (by decide +kernel) rfl rfl dX2_next_214 hP_153 (Nat.lt_of_lt_of_le (Nat.le_refl _) (Nat.le_of_ble_eq_true rfl)) rfl (fun f_154 e_155 => ?_)
  have h := h f_154 e_155
  have hP_156 : f_154.1 x0 = some (.inr (12, vp_V [v_145, .int y_146, .int (y_147 + (1 : Int32)), .int y_148, .int y_149, v_150, .int y_151, .int y_152])) := by rw [e_155]; exact updP_s
  refine ag_goto E1 (tgt := 163) dX2_next_217 (by decide) ?_
  refine ag_sub (lv' := [(0, .ref x0), (1, .int x1_144)]) [1, 0] rfl ?_
  exact hK163 _ _ _ h
theorem tbX2_next_163 (E : EX p R s m args meth c cX2_next 2 RX2 none D cs b H0 (XKd b H0 ad vs) [] 8 183 z u) {Q : cW → Prop} {X : Nat → cW → Prop} {K163 : Nat → Int32 → cW → Prop} (hK163 : ∀ (x0 : Nat) (x1 : Int32) (f : cW), K163 x0 x1 f → AGT p l e R s m args below meth c D b 2 z u (qV Q) X 163 [(0, .ref x0), (1, .int x1)] [] f) {K220 : Nat → Int32 → cW → Prop} (hK220 : ∀ (x0 : Nat) (x1 : Int32) (f : cW), K220 x0 x1 f → AGT p l e R s m args below meth c D b 2 z u (qV Q) X 220 [(0, .ref x0), (1, .int x1)] [] f) {x0 : Nat} {x1 : Int32} {f : cW} (h : wbX2_next_163 b cs ad vs K163 K220 X Q x0 x1 f) : AGT p l e R s m args below meth c D b 2 z u (qV Q) X 163 [(0, .ref x0), (1, .int x1)] [] f := by
  have E1 := E.1
  refine ag_aload_n E1 dX2_next_163 rfl 0 rfl ?_
  obtain ⟨v_133, y_134, y_135, y_136, y_137, v_138, y_139, y_140, hP_141, h⟩ := h
  refine ag_callV E1 (ci := 12) (C := RX2) (T0 := TX2) (n2 := 8) hP_141 rfl (kX2_here _ _ _ _ _ _ _ _ _ _ h) (lw_V q273 q275 qs1 q92 q276) ⟨rfl, hdX2_here⟩ (Nat.le_of_ble_eq_true rfl) (Nat.le_of_ble_eq_true rfl) (As := []) rfl (Nat.le_of_ble_eq_true rfl) dX2_next_164 (fun v_ f_132 hv => ?_) rfl
  obtain ⟨r_142, rfl, h⟩ := hv
  refine ag_i2l E1 dX2_next_167 ?_
  refine ag_ldc2 E1 q444 dX2_next_168 ?_
  refine ag_ldc2 E1 q445 dX2_next_171 ?_
  refine ag_callSN E1 (kX0_in _ _ _ _ _ _ _ _ _ _ _ _ h) q281 (xk_nw q279 rfl) q83 q280 hdX0_in (Nat.le_of_ble_eq_true rfl) (Nat.le_of_ble_eq_true rfl) (As := [.long (Int32.toInt64 r_142), .long (48 : Int64), .long (57 : Int64)]) rfl (Nat.le_of_ble_eq_true rfl) dX2_next_174 rfl (fun v_ w_ hv => ?_)
  obtain ⟨rfl, r_143, rfl, h⟩ := hv
  refine ag_if_eq E1 (tgt := 220) dX2_next_177 (by decide) (fun c_177 => ?_) (fun c_177 => ?_)
  · have h := h.1 c_177
    exact hK220 _ _ _ h
  · have h := h.2 c_177
    refine ag_iload_n E1 dX2_next_180 rfl 1 rfl ?_
    refine ag_iconst E1 dX2_next_181 ki_4 ?_
    refine ag_icmp_ge E1 (tgt := 204) dX2_next_182 (by decide) (fun c_182 => ?_) (fun c_182 => ?_)
    · have h := h.1 c_182
      exact tbX2_next_204 E hK163 hK220 h
    · have h := h.2 c_182
      refine ag_aload_n E1 dX2_next_185 rfl 0 rfl ?_
      refine ag_bipush E1 dX2_next_186 kb_10 ?_
      refine ag_aload_n E1 dX2_next_188 rfl 0 rfl ?_
      obtain ⟨v_157, y_158, y_159, y_160, y_161, v_162, y_163, y_164, hP_165, h⟩ := h
      refine ag_getL E1 6 (ci := 12) (C := RX2) (T := TX2) (N := 8) rfl in_X2 (by decide) q242 (fun _ h => h) dX2_next_189 hP_165 rfl ?_
      refine ag_imul E1 dX2_next_192 ?_
      refine ag_aload_n E1 dX2_next_193 rfl 0 rfl ?_
      refine ag_callV E1 (ci := 12) (C := RX2) (T0 := TX2) (n2 := 8) hP_165 rfl (kX2_here _ _ _ _ _ _ _ _ _ _ h) (lw_V q273 q275 qs1 q92 q276) ⟨rfl, hdX2_here⟩ (Nat.le_of_ble_eq_true rfl) (Nat.le_of_ble_eq_true rfl) (As := []) rfl (Nat.le_of_ble_eq_true rfl) dX2_next_194 (fun v_ f_166 hv => ?_) rfl
      obtain ⟨r_167, rfl, h⟩ := hv
      refine ag_iadd E1 dX2_next_197 ?_
      refine ag_bipush E1 dX2_next_198 kb_48 ?_
      refine ag_isub E1 dX2_next_200 ?_
      obtain ⟨v_168, y_169, y_170, y_171, y_172, v_173, y_174, y_175, hP_176, h⟩ := h
      refine ag_putL E1 6 (ci := 12) (C := RX2) (T := TX2) (N := 8) (ty := .int) tyX2 tyX2_ok nmX2 rfl in_X2 (by decide) q242 (fun _ h => h) rfl (by decide +kernel) rfl rfl dX2_next_201 hP_176 (Nat.lt_of_lt_of_le (Nat.le_refl _) (Nat.le_of_ble_eq_true rfl)) rfl (fun f_177 e_178 => ?_)
      have h := h f_177 e_178
      have hP_179 : f_177.1 x0 = some (.inr (12, vp_V [v_168, .int y_169, .int y_170, .int y_171, .int y_172, v_173, .int ((((10 : Int32) * y_163) + r_167) - (48 : Int32)), .int y_175])) := by rw [e_178]; exact updP_s
      exact tbX2_next_204 E hK163 hK220 h
theorem tlX2_next_163 (E : EX p R s m args meth c cX2_next 2 RX2 none D cs b H0 (XKd b H0 ad vs) [] 8 183 z u) {Q : cW → Prop} {X : Nat → cW → Prop} {K220 : Nat → Int32 → cW → Prop} (hK220 : ∀ (x0 : Nat) (x1 : Int32) (f : cW), K220 x0 x1 f → AGT p l e R s m args below meth c D b 2 z u (qV Q) X 220 [(0, .ref x0), (1, .int x1)] [] f) : ∀ (n : Nat) (x0 : Nat) (x1 : Int32) (f : cW), wlX2_next_163 b cs ad vs K220 X Q n x0 x1 f → AGT p l e R s m args below meth c D b 2 z u (qV Q) X 163 [(0, .ref x0), (1, .int x1)] [] f := by
  intro n
  induction n with
  | zero => intro _ _ _ h; exact h.elim
  | succ n ih => intro x0 x1 f h; exact tbX2_next_163 E ih hK220 h
theorem tbX2_next_115 (E : EX p R s m args meth c cX2_next 2 RX2 none D cs b H0 (XKd b H0 ad vs) [] 8 183 z u) {Q : cW → Prop} {X : Nat → cW → Prop} {K79 : Nat → Nat → cW → Prop} (hK79 : ∀ (x0 : Nat) (x1 : Nat) (f : cW), K79 x0 x1 f → AGT p l e R s m args below meth c D b 2 z u (qV Q) X 79 [(0, .ref x0), (1, .ref x1)] [] f) {K128 : Nat → Nat → cW → Prop} (hK128 : ∀ (x0 : Nat) (x1 : Nat) (f : cW), K128 x0 x1 f → AGT p l e R s m args below meth c D b 2 z u (qV Q) X 128 [(0, .ref x0), (1, .ref x1)] [] f) {x0 : Nat} {x1 : Nat} {f : cW} (h : wbX2_next_115 b cs ad vs K79 K128 X Q x0 x1 f) : AGT p l e R s m args below meth c D b 2 z u (qV Q) X 115 [(0, .ref x0), (1, .ref x1)] [] f := by
  have E1 := E.1
  refine ag_aload_n E1 dX2_next_115 rfl 0 rfl ?_
  refine ag_dup E1 dX2_next_116 rfl ?_
  obtain ⟨v_217, y_218, y_219, y_220, y_221, v_222, y_223, y_224, hP_225, h⟩ := h
  refine ag_getL E1 2 (ci := 12) (C := RX2) (T := TX2) (N := 8) rfl in_X2 (by decide) q238 (fun _ h => h) dX2_next_117 hP_225 rfl ?_
  refine ag_iconst E1 dX2_next_120 ki_1 ?_
  refine ag_iadd E1 dX2_next_121 ?_
  refine ag_putL E1 2 (ci := 12) (C := RX2) (T := TX2) (N := 8) (ty := .int) tyX2 tyX2_ok nmX2 rfl in_X2 (by decide) q238 (fun _ h => h) rfl (by decide +kernel) rfl rfl dX2_next_122 hP_225 (Nat.lt_of_lt_of_le (Nat.le_refl _) (Nat.le_of_ble_eq_true rfl)) rfl (fun f_226 e_227 => ?_)
  have h := h f_226 e_227
  have hP_228 : f_226.1 x0 = some (.inr (12, vp_V [v_217, .int y_218, .int (y_219 + (1 : Int32)), .int y_220, .int y_221, v_222, .int y_223, .int y_224])) := by rw [e_227]; exact updP_s
  refine ag_goto E1 (tgt := 79) dX2_next_125 (by decide) ?_
  exact hK79 _ _ _ h
theorem tbX2_next_79 (E : EX p R s m args meth c cX2_next 2 RX2 none D cs b H0 (XKd b H0 ad vs) [] 8 183 z u) {Q : cW → Prop} {X : Nat → cW → Prop} {K79 : Nat → Nat → cW → Prop} (hK79 : ∀ (x0 : Nat) (x1 : Nat) (f : cW), K79 x0 x1 f → AGT p l e R s m args below meth c D b 2 z u (qV Q) X 79 [(0, .ref x0), (1, .ref x1)] [] f) {K128 : Nat → Nat → cW → Prop} (hK128 : ∀ (x0 : Nat) (x1 : Nat) (f : cW), K128 x0 x1 f → AGT p l e R s m args below meth c D b 2 z u (qV Q) X 128 [(0, .ref x0), (1, .ref x1)] [] f) {x0 : Nat} {x1 : Nat} {f : cW} (h : wbX2_next_79 b cs ad vs K79 K128 X Q x0 x1 f) : AGT p l e R s m args below meth c D b 2 z u (qV Q) X 79 [(0, .ref x0), (1, .ref x1)] [] f := by
  have E1 := E.1
  refine ag_aload_n E1 dX2_next_79 rfl 0 rfl ?_
  obtain ⟨v_199, y_200, y_201, y_202, y_203, v_204, y_205, y_206, hP_207, h⟩ := h
  refine ag_callV E1 (ci := 12) (C := RX2) (T0 := TX2) (n2 := 8) hP_207 rfl (kX2_here _ _ _ _ _ _ _ _ _ _ h) (lw_V q273 q275 qs1 q92 q276) ⟨rfl, hdX2_here⟩ (Nat.le_of_ble_eq_true rfl) (Nat.le_of_ble_eq_true rfl) (As := []) rfl (Nat.le_of_ble_eq_true rfl) dX2_next_80 (fun v_ f_198 hv => ?_) rfl
  obtain ⟨r_208, rfl, h⟩ := hv
  refine ag_i2l E1 dX2_next_83 ?_
  refine ag_ldc2 E1 q277 dX2_next_84 ?_
  refine ag_ldc2 E1 q278 dX2_next_87 ?_
  refine ag_callSN E1 (kX0_in _ _ _ _ _ _ _ _ _ _ _ _ h) q281 (xk_nw q279 rfl) q83 q280 hdX0_in (Nat.le_of_ble_eq_true rfl) (Nat.le_of_ble_eq_true rfl) (As := [.long (Int32.toInt64 r_208), .long (97 : Int64), .long (122 : Int64)]) rfl (Nat.le_of_ble_eq_true rfl) dX2_next_90 rfl (fun v_ w_ hv => ?_)
  obtain ⟨rfl, r_209, rfl, h⟩ := hv
  refine ag_if_eq E1 (tgt := 128) dX2_next_93 (by decide) (fun c_93 => ?_) (fun c_93 => ?_)
  · have h := h.1 c_93
    exact hK128 _ _ _ h
  · have h := h.2 c_93
    refine ag_aload_n E1 dX2_next_96 rfl 1 rfl ?_
    obtain ⟨v_211, y_212, y_213, y_214, hP_215, h⟩ := h
    refine ag_callV E1 (ci := 18) (C := RJ8) (T0 := TJ8) (n2 := 4) hP_215 rfl (kJ8_length _ _ _ _ _ _ _ _ _ _ h) (lw_V q312 q313 q314 q94 q315) ⟨rfl, hdJ8_length⟩ (Nat.le_of_ble_eq_true rfl) (Nat.le_of_ble_eq_true rfl) (As := []) rfl (Nat.le_of_ble_eq_true rfl) dX2_next_97 (fun v_ f_210 hv => ?_) rfl
    obtain ⟨r_216, rfl, h⟩ := hv
    refine ag_bipush E1 dX2_next_100 kb_9 ?_
    refine ag_icmp_ge E1 (tgt := 115) dX2_next_102 (by decide) (fun c_102 => ?_) (fun c_102 => ?_)
    · have h := h.1 c_102
      exact tbX2_next_115 E hK79 hK128 h
    · have h := h.2 c_102
      refine ag_aload_n E1 dX2_next_105 rfl 1 rfl ?_
      refine ag_aload_n E1 dX2_next_106 rfl 0 rfl ?_
      obtain ⟨v_230, y_231, y_232, y_233, y_234, v_235, y_236, y_237, hP_238, h⟩ := h
      refine ag_callV E1 (ci := 12) (C := RX2) (T0 := TX2) (n2 := 8) hP_238 rfl (kX2_here _ _ _ _ _ _ _ _ _ _ h) (lw_V q273 q275 qs1 q92 q276) ⟨rfl, hdX2_here⟩ (Nat.le_of_ble_eq_true rfl) (Nat.le_of_ble_eq_true rfl) (As := []) rfl (Nat.le_of_ble_eq_true rfl) dX2_next_107 (fun v_ f_229 hv => ?_) rfl
      obtain ⟨r_239, rfl, h⟩ := hv
      refine ag_i2c E1 dX2_next_110 ?_
      obtain ⟨v_241, y_242, y_243, y_244, hP_245, h⟩ := h
      refine ag_callV E1 (ci := 18) (C := RJ8) (T0 := TJ8) (n2 := 4) hP_245 rfl (kJ8_append _ _ _ _ _ _ _ _ _ _ _ h) (lw_V q319 q320 q321 q94 q322) ⟨rfl, hdJ8_append⟩ (Nat.le_of_ble_eq_true rfl) (Nat.le_of_ble_eq_true rfl) (As := [.int (i_c r_239)]) rfl (Nat.le_of_ble_eq_true rfl) dX2_next_111 (fun v_ f_240 hv => ?_) rfl
      obtain ⟨r_246, rfl, h⟩ := hv
      refine ag_pop E1 dX2_next_114 rfl ?_
      exact tbX2_next_115 E hK79 hK128 h
theorem tlX2_next_79 (E : EX p R s m args meth c cX2_next 2 RX2 none D cs b H0 (XKd b H0 ad vs) [] 8 183 z u) {Q : cW → Prop} {X : Nat → cW → Prop} {K128 : Nat → Nat → cW → Prop} (hK128 : ∀ (x0 : Nat) (x1 : Nat) (f : cW), K128 x0 x1 f → AGT p l e R s m args below meth c D b 2 z u (qV Q) X 128 [(0, .ref x0), (1, .ref x1)] [] f) : ∀ (n : Nat) (x0 : Nat) (x1 : Nat) (f : cW), wlX2_next_79 b cs ad vs K128 X Q n x0 x1 f → AGT p l e R s m args below meth c D b 2 z u (qV Q) X 79 [(0, .ref x0), (1, .ref x1)] [] f := by
  intro n
  induction n with
  | zero => intro _ _ _ h; exact h.elim
  | succ n ih => intro x0 x1 f h; exact tbX2_next_79 E ih hK128 h
theorem kX2_next (l : Launch) (D : va_G) (cs : Nat → ClassId) (b : Nat) (H0 : Heap) (ad : Nat → Nat) (vs : Nat → Option Nat) (f : cW) (x0 : Nat) (X : Nat → cW → Prop) (Q : cW → Prop) (h : wX2_next b cs ad vs f x0 X Q) : CONX l D clC (tysC cs) b H0 (XKd b H0 ad vs) yX2_next cX2_next 2 none 8 183 [.ref x0] f (qV Q) X := by
  refine conx_of (by decide) (Nat.le_of_ble_eq_true rfl) (fun p e R s m below meth c E1 h0 hin0 => ?_)
  have E : EX p R s m ([.ref x0] : List Value).toArray meth c cX2_next 2 RX2 none D cs b H0 (XKd b H0 ad vs) [] 8 183 f.2.1 f.2.2 := ⟨E1, h0⟩
  refine ag_sub (lv' := [(0, .ref x0)]) [0] rfl ?_
  obtain ⟨n, h⟩ := h
  refine tlX2_next_0 E ?_ n _ _ h
  · intro x0 f h
    refine ag_aload_n E1 dX2_next_31 rfl 0 rfl ?_
    refine ag_aload_n E1 dX2_next_32 rfl 0 rfl ?_
    obtain ⟨v_35, y_36, y_37, y_38, y_39, v_40, y_41, y_42, hP_43, h⟩ := h
    refine ag_getL E1 2 (ci := 12) (C := RX2) (T := TX2) (N := 8) rfl in_X2 (by decide) q238 (fun _ h => h) dX2_next_33 hP_43 rfl ?_
    refine ag_putL E1 3 (ci := 12) (C := RX2) (T := TX2) (N := 8) (ty := .int) tyX2 tyX2_ok nmX2 rfl in_X2 (by decide) q239 (fun _ h => h) rfl (by decide +kernel) rfl rfl dX2_next_36 hP_43 (Nat.lt_of_lt_of_le (Nat.le_refl _) (Nat.le_of_ble_eq_true rfl)) rfl (fun f_44 e_45 => ?_)
    have h := h f_44 e_45
    have hP_46 : f_44.1 x0 = some (.inr (12, vp_V [v_35, .int y_36, .int y_37, .int y_37, .int y_39, v_40, .int y_41, .int y_42])) := by rw [e_45]; exact updP_s
    refine ag_aload_n E1 dX2_next_39 rfl 0 rfl ?_
    refine ag_null E1 dX2_next_40 ?_
    refine ag_putL E1 5 (ci := 12) (C := RX2) (T := TX2) (N := 8) (ty := (.object "java/lang/String")) tyX2 tyX2_ok nmX2 rfl in_X2 (by decide) q241 (fun _ h => h) rfl (by decide +kernel) rfl rfl dX2_next_41 hP_46 (Nat.lt_of_lt_of_le (Nat.le_refl _) (Nat.le_of_ble_eq_true rfl)) rfl (fun f_47 e_48 => ?_)
    have h := h f_47 e_48
    have hP_49 : f_47.1 x0 = some (.inr (12, vp_V [v_35, .int y_36, .int y_37, .int y_37, .int y_39, .null, .int y_41, .int y_42])) := by rw [e_48]; exact updP_s
    refine ag_aload_n E1 dX2_next_44 rfl 0 rfl ?_
    refine ag_iconst E1 dX2_next_45 ki_m1 ?_
    refine ag_putL E1 6 (ci := 12) (C := RX2) (T := TX2) (N := 8) (ty := .int) tyX2 tyX2_ok nmX2 rfl in_X2 (by decide) q242 (fun _ h => h) rfl (by decide +kernel) rfl rfl dX2_next_46 hP_49 (Nat.lt_of_lt_of_le (Nat.le_refl _) (Nat.le_of_ble_eq_true rfl)) rfl (fun f_50 e_51 => ?_)
    have h := h f_50 e_51
    have hP_52 : f_50.1 x0 = some (.inr (12, vp_V [v_35, .int y_36, .int y_37, .int y_37, .int y_39, .null, .int (-1 : Int32), .int y_42])) := by rw [e_51]; exact updP_s
    refine ag_aload_n E1 dX2_next_49 rfl 0 rfl ?_
    refine ag_iconst E1 dX2_next_50 ki_m1 ?_
    refine ag_putL E1 7 (ci := 12) (C := RX2) (T := TX2) (N := 8) (ty := .int) tyX2 tyX2_ok nmX2 rfl in_X2 (by decide) q243 (fun _ h => h) rfl (by decide +kernel) rfl rfl dX2_next_51 hP_52 (Nat.lt_of_lt_of_le (Nat.le_refl _) (Nat.le_of_ble_eq_true rfl)) rfl (fun f_53 e_54 => ?_)
    have h := h f_53 e_54
    have hP_55 : f_53.1 x0 = some (.inr (12, vp_V [v_35, .int y_36, .int y_37, .int y_37, .int y_39, .null, .int (-1 : Int32), .int (-1 : Int32)])) := by rw [e_54]; exact updP_s
    refine ag_aload_n E1 dX2_next_54 rfl 0 rfl ?_
    refine ag_callV E1 (ci := 12) (C := RX2) (T0 := TX2) (n2 := 8) hP_55 rfl (kX2_here _ _ _ _ _ _ _ _ _ _ h) (lw_V q273 q275 qs1 q92 q276) ⟨rfl, hdX2_here⟩ (Nat.le_of_ble_eq_true rfl) (Nat.le_of_ble_eq_true rfl) (As := []) rfl (Nat.le_of_ble_eq_true rfl) dX2_next_55 (fun v_ f_56 hv => ?_) rfl
    obtain ⟨r_57, rfl, h⟩ := hv
    refine ag_i2l E1 dX2_next_58 ?_
    refine ag_ldc2 E1 q277 dX2_next_59 ?_
    refine ag_ldc2 E1 q278 dX2_next_62 ?_
    refine ag_callSN E1 (kX0_in _ _ _ _ _ _ _ _ _ _ _ _ h) q281 (xk_nw q279 rfl) q83 q280 hdX0_in (Nat.le_of_ble_eq_true rfl) (Nat.le_of_ble_eq_true rfl) (As := [.long (Int32.toInt64 r_57), .long (97 : Int64), .long (122 : Int64)]) rfl (Nat.le_of_ble_eq_true rfl) dX2_next_65 rfl (fun v_ w_ hv => ?_)
    obtain ⟨rfl, r_58, rfl, h⟩ := hv
    refine ag_if_eq E1 (tgt := 139) dX2_next_68 (by decide) (fun c_68 => ?_) (fun c_68 => ?_)
    · have h := h.1 c_68
      refine ag_aload_n E1 dX2_next_139 rfl 0 rfl ?_
      obtain ⟨v_60, y_61, y_62, y_63, y_64, v_65, y_66, y_67, hP_68, h⟩ := h
      refine ag_callV E1 (ci := 12) (C := RX2) (T0 := TX2) (n2 := 8) hP_68 rfl (kX2_here _ _ _ _ _ _ _ _ _ _ h) (lw_V q273 q275 qs1 q92 q276) ⟨rfl, hdX2_here⟩ (Nat.le_of_ble_eq_true rfl) (Nat.le_of_ble_eq_true rfl) (As := []) rfl (Nat.le_of_ble_eq_true rfl) dX2_next_140 (fun v_ f_59 hv => ?_) rfl
      obtain ⟨r_69, rfl, h⟩ := hv
      refine ag_i2l E1 dX2_next_143 ?_
      refine ag_ldc2 E1 q444 dX2_next_144 ?_
      refine ag_ldc2 E1 q445 dX2_next_147 ?_
      refine ag_callSN E1 (kX0_in _ _ _ _ _ _ _ _ _ _ _ _ h) q281 (xk_nw q279 rfl) q83 q280 hdX0_in (Nat.le_of_ble_eq_true rfl) (Nat.le_of_ble_eq_true rfl) (As := [.long (Int32.toInt64 r_69), .long (48 : Int64), .long (57 : Int64)]) rfl (Nat.le_of_ble_eq_true rfl) dX2_next_150 rfl (fun v_ w_ hv => ?_)
      obtain ⟨rfl, r_70, rfl, h⟩ := hv
      refine ag_if_eq E1 (tgt := 233) dX2_next_153 (by decide) (fun c_153 => ?_) (fun c_153 => ?_)
      · have h := h.1 c_153
        refine ag_aload_n E1 dX2_next_233 rfl 0 rfl ?_
        obtain ⟨v_71, y_72, y_73, y_74, y_75, v_76, y_77, y_78, hP_79, h⟩ := h
        refine ag_getL E1 2 (ci := 12) (C := RX2) (T := TX2) (N := 8) rfl in_X2 (by decide) q238 (fun _ h => h) dX2_next_234 hP_79 rfl ?_
        refine ag_aload_n E1 dX2_next_237 rfl 0 rfl ?_
        refine ag_getL E1 1 (ci := 12) (C := RX2) (T := TX2) (N := 8) rfl in_X2 (by decide) q237 (fun _ h => h) dX2_next_238 hP_79 rfl ?_
        refine ag_icmp_ge E1 (tgt := 279) dX2_next_241 (by decide) (fun c_241 => ?_) (fun c_241 => ?_)
        · have h := h.1 c_241
          exact ag_xret (gw_vret E rfl ⟨rfl, h⟩ dX2_next_279)
        · have h := h.2 c_241
          refine ag_aload_n E1 dX2_next_244 rfl 0 rfl ?_
          refine ag_aload_n E1 dX2_next_245 rfl 0 rfl ?_
          refine ag_callV E1 (ci := 12) (C := RX2) (T0 := TX2) (n2 := 8) hP_79 rfl (kX2_here _ _ _ _ _ _ _ _ _ _ h) (lw_V q273 q275 qs1 q92 q276) ⟨rfl, hdX2_here⟩ (Nat.le_of_ble_eq_true rfl) (Nat.le_of_ble_eq_true rfl) (As := []) rfl (Nat.le_of_ble_eq_true rfl) dX2_next_246 (fun v_ f_80 hv => ?_) rfl
          obtain ⟨r_81, rfl, h⟩ := hv
          obtain ⟨v_82, y_83, y_84, y_85, y_86, v_87, y_88, y_89, hP_90, h⟩ := h
          refine ag_putL E1 7 (ci := 12) (C := RX2) (T := TX2) (N := 8) (ty := .int) tyX2 tyX2_ok nmX2 rfl in_X2 (by decide) q243 (fun _ h => h) rfl (by decide +kernel) rfl rfl dX2_next_249 hP_90 (Nat.lt_of_lt_of_le (Nat.le_refl _) (Nat.le_of_ble_eq_true rfl)) rfl (fun f_91 e_92 => ?_)
          have h := h f_91 e_92
          have hP_93 : f_91.1 x0 = some (.inr (12, vp_V [v_82, .int y_83, .int y_84, .int y_85, .int y_86, v_87, .int y_88, .int r_81])) := by rw [e_92]; exact updP_s
          refine ag_ldcS E1 (xk_r 9 rfl) dX2_next_252 ?_
          refine ag_aload_n E1 dX2_next_254 rfl 0 rfl ?_
          refine ag_getL E1 7 (ci := 12) (C := RX2) (T := TX2) (N := 8) rfl in_X2 (by decide) q243 (fun _ h => h) dX2_next_255 hP_93 rfl ?_
          obtain ⟨ht_95, h⟩ := h
          refine ag_callVR E1 (fun hx => (xk_s 9 ht_95 hx).1) (kJ3_indexOf_s _ _ _ _ _ _ _ _ _ _ _ h) (lw_V q520 q521 q522 q88 q523) ⟨rfl, hdJ3_indexOf⟩ (Nat.le_of_ble_eq_true rfl) (Nat.le_of_ble_eq_true rfl) (As := [.int r_81]) rfl (Nat.le_of_ble_eq_true rfl) dX2_next_258 rfl (fun v_ f_94 hv => ?_)
          obtain ⟨r_96, rfl, h⟩ := hv
          refine ag_if_ge E1 (tgt := 269) dX2_next_261 (by decide) (fun c_261 => ?_) (fun c_261 => ?_)
          · have h := h.1 c_261
            refine ag_aload_n E1 dX2_next_269 rfl 0 rfl ?_
            refine ag_dup E1 dX2_next_270 rfl ?_
            obtain ⟨v_97, y_98, y_99, y_100, y_101, v_102, y_103, y_104, hP_105, h⟩ := h
            refine ag_getL E1 2 (ci := 12) (C := RX2) (T := TX2) (N := 8) rfl in_X2 (by decide) q238 (fun _ h => h) dX2_next_271 hP_105 rfl ?_
            refine ag_iconst E1 dX2_next_274 ki_1 ?_
            refine ag_iadd E1 dX2_next_275 ?_
            refine ag_putL E1 2 (ci := 12) (C := RX2) (T := TX2) (N := 8) (ty := .int) tyX2 tyX2_ok nmX2 rfl in_X2 (by decide) q238 (fun _ h => h) rfl (by decide +kernel) rfl rfl dX2_next_276 hP_105 (Nat.lt_of_lt_of_le (Nat.le_refl _) (Nat.le_of_ble_eq_true rfl)) rfl (fun f_106 e_107 => ?_)
            have h := h f_106 e_107
            have hP_108 : f_106.1 x0 = some (.inr (12, vp_V [v_97, .int y_98, .int (y_99 + (1 : Int32)), .int y_100, .int y_101, v_102, .int y_103, .int y_104])) := by rw [e_107]; exact updP_s
            exact ag_xret (gw_vret E rfl ⟨rfl, h⟩ dX2_next_279)
          · have h := h.2 c_261
            refine ag_aload_n E1 dX2_next_264 rfl 0 rfl ?_
            obtain ⟨v_110, y_111, y_112, y_113, y_114, v_115, y_116, y_117, hP_118, h⟩ := h
            refine ag_callV E1 (ci := 12) (C := RX2) (T0 := TX2) (n2 := 8) hP_118 rfl (kX2_fault _ _ _ _ _ _ _ _ _ _ h) (lw_V q446 q448 qs2 q92 q449) ⟨rfl, hdX2_fault⟩ (Nat.le_of_ble_eq_true rfl) (Nat.le_of_ble_eq_true rfl) (As := []) rfl (Nat.le_of_ble_eq_true rfl) dX2_next_265 (fun v_ f_109 hv => ?_) rfl
            obtain ⟨r_119, rfl, h⟩ := hv
            exact gw_athrow E rfl h dX2_next_268
      · have h := h.2 c_153
        refine ag_iconst E1 dX2_next_156 ki_0 ?_
        refine ag_istore_n E1 (lv' := [(1, .int (0 : Int32)), (0, .ref x0)]) dX2_next_157 rfl (Nat.lt_of_lt_of_le (Nat.le_refl _) (Nat.le_of_ble_eq_true rfl)) rfl ?_
        refine ag_aload_n E1 dX2_next_158 rfl 1 rfl ?_
        refine ag_iconst E1 dX2_next_159 ki_0 ?_
        obtain ⟨v_120, y_121, y_122, y_123, y_124, v_125, y_126, y_127, hP_128, h⟩ := h
        refine ag_putL E1 6 (ci := 12) (C := RX2) (T := TX2) (N := 8) (ty := .int) tyX2 tyX2_ok nmX2 rfl in_X2 (by decide) q242 (fun _ h => h) rfl (by decide +kernel) rfl rfl dX2_next_160 hP_128 (Nat.lt_of_lt_of_le (Nat.le_refl _) (Nat.le_of_ble_eq_true rfl)) rfl (fun f_129 e_130 => ?_)
        have h := h f_129 e_130
        have hP_131 : f_129.1 x0 = some (.inr (12, vp_V [v_120, .int y_121, .int y_122, .int y_123, .int y_124, v_125, .int (0 : Int32), .int y_127])) := by rw [e_130]; exact updP_s
        refine ag_sub (lv' := [(0, .ref x0), (1, .int (0 : Int32))]) [1, 0] rfl ?_
        obtain ⟨n, h⟩ := h
        refine tlX2_next_163 E ?_ n _ _ _ h
        · intro x0 x1 f h
          refine ag_iload_n E1 dX2_next_220 rfl 1 rfl ?_
          refine ag_iconst E1 dX2_next_221 ki_4 ?_
          refine ag_icmp_le E1 (tgt := 230) dX2_next_222 (by decide) (fun c_222 => ?_) (fun c_222 => ?_)
          · have h := h.1 c_222
            refine ag_goto E1 (tgt := 279) dX2_next_230 (by decide) ?_
            exact ag_xret (gw_vret E rfl ⟨rfl, h⟩ dX2_next_279)
          · have h := h.2 c_222
            refine ag_aload_n E1 dX2_next_225 rfl 0 rfl ?_
            obtain ⟨v_181, y_182, y_183, y_184, y_185, v_186, y_187, y_188, hP_189, h⟩ := h
            refine ag_callV E1 (ci := 12) (C := RX2) (T0 := TX2) (n2 := 8) hP_189 rfl (kX2_fault _ _ _ _ _ _ _ _ _ _ h) (lw_V q446 q448 qs2 q92 q449) ⟨rfl, hdX2_fault⟩ (Nat.le_of_ble_eq_true rfl) (Nat.le_of_ble_eq_true rfl) (As := []) rfl (Nat.le_of_ble_eq_true rfl) dX2_next_226 (fun v_ f_180 hv => ?_) rfl
            obtain ⟨r_190, rfl, h⟩ := hv
            exact gw_athrow E rfl h dX2_next_229
    · have h := h.2 c_68
      obtain ⟨hb_193, h⟩ := h
      refine ag_new E1 (ci := 18) (C := RJ8) (T := TJ8) (N := 4) (fs := [.null, .int (0 : Int32), .int (0 : Int32), .int (0 : Int32)]) tyJ8 tyJ8_ok in_J8 q282 q283 q94 rfl rfl hb_193 dX2_next_71 (fun a_191 f_192 e_194 e_195 => ?_)
      have h := h a_191 f_192 e_194 e_195
      have hP_196 : f_192.1 a_191 = some (.inr (18, vp_V [.null, .int (0 : Int32), .int (0 : Int32), .int (0 : Int32)])) := by rw [e_195, e_194]; exact wNew_s
      refine ag_dup E1 dX2_next_74 rfl ?_
      refine ag_callI E1 (kJ8_init _ _ _ _ _ _ _ _ _ _ h) q286 q94 q284 q285 rfl hdJ8_init (Nat.le_of_ble_eq_true rfl) (Nat.le_of_ble_eq_true rfl) (As := []) rfl (Nat.le_of_ble_eq_true rfl) dX2_next_75 (fun v_ f_197 hv => ?_) rfl
      obtain ⟨rfl, h⟩ := hv
      refine ag_astore_n E1 (lv' := [(1, .ref a_191), (0, .ref x0)]) dX2_next_78 rfl (Nat.lt_of_lt_of_le (Nat.le_refl _) (Nat.le_of_ble_eq_true rfl)) rfl ?_
      refine ag_sub (lv' := [(0, .ref x0), (1, .ref a_191)]) [1, 0] rfl ?_
      obtain ⟨n, h⟩ := h
      refine tlX2_next_79 E ?_ n _ _ _ h
      · intro x0 x1 f h
        refine ag_aload_n E1 dX2_next_128 rfl 0 rfl ?_
        refine ag_aload_n E1 dX2_next_129 rfl 1 rfl ?_
        obtain ⟨v_248, y_249, y_250, y_251, hP_252, h⟩ := h
        refine ag_callV E1 (ci := 18) (C := RJ8) (T0 := TJ8) (n2 := 4) hP_252 rfl (kJ8_toString _ _ _ _ _ _ _ _ _ _ h) (lw_V q394 q395 q396 q94 q397) ⟨rfl, hdJ8_toString⟩ (Nat.le_of_ble_eq_true rfl) (Nat.le_of_ble_eq_true rfl) (As := []) rfl (Nat.le_of_ble_eq_true rfl) dX2_next_130 (fun v_ f_247 hv => ?_) rfl
        obtain ⟨r_253, rfl, h⟩ := hv
        obtain ⟨v_254, y_255, y_256, y_257, y_258, v_259, y_260, y_261, hP_262, h⟩ := h
        refine ag_putL E1 5 (ci := 12) (C := RX2) (T := TX2) (N := 8) (ty := (.object "java/lang/String")) tyX2 tyX2_ok nmX2 rfl in_X2 (by decide) q241 (fun _ h => h) rfl (by decide +kernel) rfl rfl dX2_next_133 hP_262 (Nat.lt_of_lt_of_le (Nat.le_refl _) (Nat.le_of_ble_eq_true rfl)) rfl (fun f_263 e_264 => ?_)
        have h := h f_263 e_264
        have hP_265 : f_263.1 x0 = some (.inr (12, vp_V [v_254, .int y_255, .int y_256, .int y_257, .int y_258, .ref r_253, .int y_260, .int y_261])) := by rw [e_264]; exact updP_s
        refine ag_goto E1 (tgt := 279) dX2_next_136 (by decide) ?_
        exact ag_xret (gw_vret E rfl ⟨rfl, h⟩ dX2_next_279)
theorem hdX2_next : yX2_next.cls ≠ "java/lang/invoke/MethodHandle" ∧ yX2_next.cls ≠ "java/lang/invoke/VarHandle" ∧ (parseMethodDescriptor yX2_next.desc).map (fun d => d.parameters.length) = some 0 := by decide +kernel
theorem kX2_takes (l : Launch) (D : va_G) (cs : Nat → ClassId) (b : Nat) (H0 : Heap) (ad : Nat → Nat) (vs : Nat → Option Nat) (f : cW) (x0 : Nat) (x1 : Int32) (X : Nat → cW → Prop) (Q : Int32 → cW → Prop) (h : wX2_takes b cs ad vs f x0 x1 X Q) : CONX l D clC (tysC cs) b H0 (XKd b H0 ad vs) yX2_takes cX2_takes 2 (some .boolean) 9 204 [.ref x0, .int x1] f (qI Q) X := by
  refine conx_of (by decide) (Nat.le_of_ble_eq_true rfl) (fun p e R s m below meth c E1 h0 hin0 => ?_)
  have E : EX p R s m ([.ref x0, .int x1] : List Value).toArray meth c cX2_takes 2 RX2 (some .boolean) D cs b H0 (XKd b H0 ad vs) [] 9 204 f.2.1 f.2.2 := ⟨E1, h0⟩
  refine ag_sub (lv' := [(0, .ref x0), (1, .int x1)]) [0, 1] rfl ?_
  refine ag_aload_n E1 dX2_takes_0 rfl 0 rfl ?_
  obtain ⟨v_1, y_2, y_3, y_4, y_5, v_6, y_7, y_8, hP_9, h⟩ := h
  refine ag_getL E1 7 (ci := 12) (C := RX2) (T := TX2) (N := 8) rfl in_X2 (by decide) q243 (fun _ h => h) dX2_takes_1 hP_9 rfl ?_
  refine ag_iload_n E1 dX2_takes_4 rfl 1 rfl ?_
  refine ag_icmp_eq E1 (tgt := 10) dX2_takes_5 (by decide) (fun c_5 => ?_) (fun c_5 => ?_)
  · have h := h.1 c_5
    refine ag_aload_n E1 dX2_takes_10 rfl 0 rfl ?_
    refine ag_callVX E1 (ci := 12) (C := RX2) (T0 := TX2) (n2 := 8) hP_9 rfl (kX2_next _ _ _ _ _ _ _ _ _ _ _ h) (lw_V q269 q271 qs0 q92 q272) ⟨rfl, hdX2_next⟩ (Nat.le_of_ble_eq_true rfl) (Nat.le_of_ble_eq_true rfl) (As := []) rfl (Nat.le_of_ble_eq_true rfl) dX2_takes_11 rfl (fun v_ f_10 hv => ?_) (fun a_ w_ hx => gw_thout E rfl hx)
    obtain ⟨rfl, h⟩ := hv
    refine ag_iconst E1 dX2_takes_14 ki_1 ?_
    exact ag_xret (gw_zret E rfl (Or.inr rfl) ⟨_, rfl, h⟩ dX2_takes_15)
  · have h := h.2 c_5
    refine ag_iconst E1 dX2_takes_8 ki_0 ?_
    exact ag_xret (gw_zret E rfl (Or.inl rfl) ⟨_, rfl, h⟩ dX2_takes_9)
theorem hdX2_takes : yX2_takes.cls ≠ "java/lang/invoke/MethodHandle" ∧ yX2_takes.cls ≠ "java/lang/invoke/VarHandle" ∧ (parseMethodDescriptor yX2_takes.desc).map (fun d => d.parameters.length) = some 1 := by decide +kernel
theorem kX2_opens (l : Launch) (D : va_G) (cs : Nat → ClassId) (b : Nat) (H0 : Heap) (ad : Nat → Nat) (vs : Nat → Option Nat) (f : cW) (x0 : Nat) (X : Nat → cW → Prop) (Q : cW → Prop) (h : wX2_opens b cs ad vs f x0 X Q) : CONX l D clC (tysC cs) b H0 (XKd b H0 ad vs) yX2_opens cX2_opens 1 none 9 204 [.ref x0] f (qV Q) X := by
  refine conx_of (by decide) (Nat.le_of_ble_eq_true rfl) (fun p e R s m below meth c E1 h0 hin0 => ?_)
  have E : EX p R s m ([.ref x0] : List Value).toArray meth c cX2_opens 1 RX2 none D cs b H0 (XKd b H0 ad vs) [] 9 204 f.2.1 f.2.2 := ⟨E1, h0⟩
  refine ag_sub (lv' := [(0, .ref x0)]) [0] rfl ?_
  refine ag_aload_n E1 dX2_opens_0 rfl 0 rfl ?_
  obtain ⟨v_1, y_2, y_3, y_4, y_5, v_6, y_7, y_8, hP_9, h⟩ := h
  refine ag_getL E1 4 (ci := 12) (C := RX2) (T := TX2) (N := 8) rfl in_X2 (by decide) q240 (fun _ h => h) dX2_opens_1 hP_9 rfl ?_
  refine ag_iconst E1 dX2_opens_4 ki_5 ?_
  refine ag_icmp_ne E1 (tgt := 13) dX2_opens_5 (by decide) (fun c_5 => ?_) (fun c_5 => ?_)
  · have h := h.1 c_5
    refine ag_aload_n E1 dX2_opens_13 rfl 0 rfl ?_
    refine ag_dup E1 dX2_opens_14 rfl ?_
    refine ag_getL E1 4 (ci := 12) (C := RX2) (T := TX2) (N := 8) rfl in_X2 (by decide) q240 (fun _ h => h) dX2_opens_15 hP_9 rfl ?_
    refine ag_iconst E1 dX2_opens_18 ki_1 ?_
    refine ag_iadd E1 dX2_opens_19 ?_
    refine ag_putL E1 4 (ci := 12) (C := RX2) (T := TX2) (N := 8) (ty := .int) tyX2 tyX2_ok nmX2 rfl in_X2 (by decide) q240 (fun _ h => h) rfl (by decide +kernel) rfl rfl dX2_opens_20 hP_9 (Nat.lt_of_lt_of_le (Nat.le_refl _) (Nat.le_of_ble_eq_true rfl)) rfl (fun f_10 e_11 => ?_)
    have h := h f_10 e_11
    have hP_12 : f_10.1 x0 = some (.inr (12, vp_V [v_1, .int y_2, .int y_3, .int y_4, .int (y_5 + (1 : Int32)), v_6, .int y_7, .int y_8])) := by rw [e_11]; exact updP_s
    refine ag_aload_n E1 dX2_opens_23 rfl 0 rfl ?_
    refine ag_callVX E1 (ci := 12) (C := RX2) (T0 := TX2) (n2 := 8) hP_12 rfl (kX2_next _ _ _ _ _ _ _ _ _ _ _ h) (lw_V q269 q271 qs0 q92 q272) ⟨rfl, hdX2_next⟩ (Nat.le_of_ble_eq_true rfl) (Nat.le_of_ble_eq_true rfl) (As := []) rfl (Nat.le_of_ble_eq_true rfl) dX2_opens_24 rfl (fun v_ f_13 hv => ?_) (fun a_ w_ hx => gw_thout E rfl hx)
    obtain ⟨rfl, h⟩ := hv
    exact ag_xret (gw_vret E rfl ⟨rfl, h⟩ dX2_opens_27)
  · have h := h.2 c_5
    refine ag_aload_n E1 dX2_opens_8 rfl 0 rfl ?_
    refine ag_callV E1 (ci := 12) (C := RX2) (T0 := TX2) (n2 := 8) hP_9 rfl (kX2_fault _ _ _ _ _ _ _ _ _ _ h) (lw_V q446 q448 qs2 q92 q449) ⟨rfl, hdX2_fault⟩ (Nat.le_of_ble_eq_true rfl) (Nat.le_of_ble_eq_true rfl) (As := []) rfl (Nat.le_of_ble_eq_true rfl) dX2_opens_9 (fun v_ f_14 hv => ?_) rfl
    obtain ⟨r_15, rfl, h⟩ := hv
    exact gw_athrow E rfl h dX2_opens_12
theorem hdX2_opens : yX2_opens.cls ≠ "java/lang/invoke/MethodHandle" ∧ yX2_opens.cls ≠ "java/lang/invoke/VarHandle" ∧ (parseMethodDescriptor yX2_opens.desc).map (fun d => d.parameters.length) = some 0 := by decide +kernel
end
