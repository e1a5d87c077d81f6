/-! their walks (by program) -/
set_option maxRecDepth 100000
set_option maxHeartbeats 4000000
section
variable {p : Program} {l : Launch} {e : Env} {R : Room} {s : State} {m : MethodId} {args : Array Value} {below : List Frame} {meth : Method} {c : Code} {D : va_G} {cs : Nat → ClassId} {b z u n : Nat} {H0 : Heap} {ad : Nat → Nat} {vs : Nat → Option Nat}
theorem hdX2_one : yX2_one.cls ≠ "java/lang/invoke/MethodHandle" ∧ yX2_one.cls ≠ "java/lang/invoke/VarHandle" ∧ (parseMethodDescriptor yX2_one.desc).map (fun d => d.parameters.length) = some 0 := by decide +kernel
theorem hdX2_term : yX2_term.cls ≠ "java/lang/invoke/MethodHandle" ∧ yX2_term.cls ≠ "java/lang/invoke/VarHandle" ∧ (parseMethodDescriptor yX2_term.desc).map (fun d => d.parameters.length) = some 0 := by decide +kernel
theorem hdX2_sum : yX2_sum.cls ≠ "java/lang/invoke/MethodHandle" ∧ yX2_sum.cls ≠ "java/lang/invoke/VarHandle" ∧ (parseMethodDescriptor yX2_sum.desc).map (fun d => d.parameters.length) = some 0 := by decide +kernel
theorem hdX2_not : yX2_not.cls ≠ "java/lang/invoke/MethodHandle" ∧ yX2_not.cls ≠ "java/lang/invoke/VarHandle" ∧ (parseMethodDescriptor yX2_not.desc).map (fun d => d.parameters.length) = some 0 := by decide +kernel
theorem hdX2_both : yX2_both.cls ≠ "java/lang/invoke/MethodHandle" ∧ yX2_both.cls ≠ "java/lang/invoke/VarHandle" ∧ (parseMethodDescriptor yX2_both.desc).map (fun d => d.parameters.length) = some 0 := by decide +kernel
theorem hdX2_either : yX2_either.cls ≠ "java/lang/invoke/MethodHandle" ∧ yX2_either.cls ≠ "java/lang/invoke/VarHandle" ∧ (parseMethodDescriptor yX2_either.desc).map (fun d => d.parameters.length) = some 0 := by decide +kernel
theorem tbX2_one_115 (E : EX p R s m args meth c cX2_one 2 RX2 (some (.object "MarketDays$Node")) D cs b H0 (XKd b H0 ad vs) [] (10 + (n + 1)) (225 + 40 * (n + 1)) z u) {NW : Nat → cW → Nat → (Nat → cW → Prop) → (Nat → cW → Prop) → Prop} (hN : (∀ (f : cW) (a : Nat) (X Q : Nat → cW → Prop), NW 0 f a X Q → CONX l D clC (tysC cs) b H0 (XKd b H0 ad vs) yX2_one cX2_one 2 (some (.object "MarketDays$Node")) (10 + n) (225 + 40 * n) [.ref a] f (qR Q) X) ∧ (∀ (f : cW) (a : Nat) (X Q : Nat → cW → Prop), NW 1 f a X Q → CONX l D clC (tysC cs) b H0 (XKd b H0 ad vs) yX2_term cX2_term 2 (some (.object "MarketDays$Node")) (10 + n) (225 + 40 * n) [.ref a] f (qR Q) X) ∧ (∀ (f : cW) (a : Nat) (X Q : Nat → cW → Prop), NW 2 f a X Q → CONX l D clC (tysC cs) b H0 (XKd b H0 ad vs) yX2_sum cX2_sum 3 (some (.object "MarketDays$Node")) (10 + n) (225 + 40 * n) [.ref a] f (qR Q) X) ∧ (∀ (f : cW) (a : Nat) (X Q : Nat → cW → Prop), NW 3 f a X Q → CONX l D clC (tysC cs) b H0 (XKd b H0 ad vs) yX2_not cX2_not 3 (some (.object "MarketDays$Node")) (10 + n) (225 + 40 * n) [.ref a] f (qR Q) X) ∧ (∀ (f : cW) (a : Nat) (X Q : Nat → cW → Prop), NW 4 f a X Q → CONX l D clC (tysC cs) b H0 (XKd b H0 ad vs) yX2_both cX2_both 2 (some (.object "MarketDays$Node")) (10 + n) (225 + 40 * n) [.ref a] f (qR Q) X) ∧ (∀ (f : cW) (a : Nat) (X Q : Nat → cW → Prop), NW 5 f a X Q → CONX l D clC (tysC cs) b H0 (XKd b H0 ad vs) yX2_either cX2_either 2 (some (.object "MarketDays$Node")) (10 + n) (225 + 40 * n) [.ref a] f (qR Q) X)) {Q : Nat → cW → Prop} {X : Nat → cW → Prop} {K115 : Nat → Int32 → cW → Prop} (hK115 : ∀ (x0 : Nat) (x1 : Int32) (f : cW), K115 x0 x1 f → AGT p l e R s m args below meth c D b 2 z u (qR Q) X 115 [(0, .ref x0), (1, .int x1)] [] f) {K138 : Nat → Int32 → cW → Prop} (hK138 : ∀ (x0 : Nat) (x1 : Int32) (f : cW), K138 x0 x1 f → AGT p l e R s m args below meth c D b 2 z u (qR Q) X 138 [(0, .ref x0), (1, .int x1)] [] f) {K158 : Nat → cW → Prop} (hK158 : ∀ (x0 : Nat) (f : cW), K158 x0 f → AGT p l e R s m args below meth c D b 2 z u (qR Q) X 158 [(0, .ref x0)] [] f) {x0 : Nat} {x1 : Int32} {f : cW} (h : wbX2_one_115 b cs ad vs NW K115 K138 K158 X Q x0 x1 f) : AGT p l e R s m args below meth c D b 2 z u (qR Q) X 115 [(0, .ref x0), (1, .int x1)] [] f := by
  have E1 := E.1
  refine ag_iload_n E1 dX2_one_115 rfl 1 rfl ?_
  refine ag_getsN E1 xk_names (xk_nw q642 rfl) (fun _ h => h) dX2_one_116 ?_
  refine ag_tlen E1 (v := (6 : Int32)) xk_namesT rfl dX2_one_119 ?_
  refine ag_icmp_ge E1 (tgt := 158) dX2_one_120 (by decide) (fun c_120 => ?_) (fun c_120 => ?_)
  · have h := h.1 c_120
    refine ag_sub (lv' := [(0, .ref x0)]) [0] rfl ?_
    exact hK158 _ _ h
  · have h := h.2 c_120
    refine ag_aload_n E1 dX2_one_123 rfl 0 rfl ?_
    refine ag_getsN E1 xk_names (xk_nw q642 rfl) (fun _ h => h) dX2_one_124 ?_
    refine ag_iload_n E1 dX2_one_127 rfl 1 rfl ?_
    obtain ⟨hin_10, h⟩ := h
    refine ag_tq E1 (v := .ref (ad (2 + Int32.toNatClampNeg x1))) xk_namesT hin_10 rfl dX2_one_128 ?_
    obtain ⟨v_12, y_13, y_14, y_15, y_16, v_17, y_18, y_19, hP_20, h⟩ := h
    refine ag_callV E1 (ci := 12) (C := RX2) (T0 := TX2) (n2 := 8) hP_20 rfl (kX2_is _ _ _ _ _ _ _ _ _ _ _ h) (lw_V q575 q577 qs4 q92 q578) ⟨rfl, hdX2_is⟩ (by omega) (by omega) (As := [.ref (ad (2 + Int32.toNatClampNeg x1))]) rfl (Nat.le_of_ble_eq_true rfl) dX2_one_129 (fun v_ f_11 hv => ?_) rfl
    obtain ⟨r_21, rfl, h⟩ := hv
    refine ag_if_ne E1 (tgt := 138) dX2_one_132 (by decide) (fun c_132 => ?_) (fun c_132 => ?_)
    · have h := h.1 c_132
      exact hK138 _ _ _ h
    · have h := h.2 c_132
      refine ag_goto E1 (tgt := 152) dX2_one_135 (by decide) ?_
      refine ag_iincN E1 (lv' := fun x1_22 => [(1, .int x1_22), (0, .ref x0)]) dX2_one_152 1 rfl ki_1 (Nat.lt_of_lt_of_le (Nat.le_refl _) (Nat.le_of_ble_eq_true rfl)) (fun _ => rfl) (fun x1_22 e_x1_22 => ?_)
      have h := h x1_22 e_x1_22
      refine ag_goto E1 (tgt := 115) dX2_one_155 (by decide) ?_
      refine ag_sub (lv' := [(0, .ref x0), (1, .int x1_22)]) [1, 0] rfl ?_
      exact hK115 _ _ _ h
theorem tlX2_one_115 (E : EX p R s m args meth c cX2_one 2 RX2 (some (.object "MarketDays$Node")) D cs b H0 (XKd b H0 ad vs) [] (10 + (n + 1)) (225 + 40 * (n + 1)) z u) {NW : Nat → cW → Nat → (Nat → cW → Prop) → (Nat → cW → Prop) → Prop} (hN : (∀ (f : cW) (a : Nat) (X Q : Nat → cW → Prop), NW 0 f a X Q → CONX l D clC (tysC cs) b H0 (XKd b H0 ad vs) yX2_one cX2_one 2 (some (.object "MarketDays$Node")) (10 + n) (225 + 40 * n) [.ref a] f (qR Q) X) ∧ (∀ (f : cW) (a : Nat) (X Q : Nat → cW → Prop), NW 1 f a X Q → CONX l D clC (tysC cs) b H0 (XKd b H0 ad vs) yX2_term cX2_term 2 (some (.object "MarketDays$Node")) (10 + n) (225 + 40 * n) [.ref a] f (qR Q) X) ∧ (∀ (f : cW) (a : Nat) (X Q : Nat → cW → Prop), NW 2 f a X Q → CONX l D clC (tysC cs) b H0 (XKd b H0 ad vs) yX2_sum cX2_sum 3 (some (.object "MarketDays$Node")) (10 + n) (225 + 40 * n) [.ref a] f (qR Q) X) ∧ (∀ (f : cW) (a : Nat) (X Q : Nat → cW → Prop), NW 3 f a X Q → CONX l D clC (tysC cs) b H0 (XKd b H0 ad vs) yX2_not cX2_not 3 (some (.object "MarketDays$Node")) (10 + n) (225 + 40 * n) [.ref a] f (qR Q) X) ∧ (∀ (f : cW) (a : Nat) (X Q : Nat → cW → Prop), NW 4 f a X Q → CONX l D clC (tysC cs) b H0 (XKd b H0 ad vs) yX2_both cX2_both 2 (some (.object "MarketDays$Node")) (10 + n) (225 + 40 * n) [.ref a] f (qR Q) X) ∧ (∀ (f : cW) (a : Nat) (X Q : Nat → cW → Prop), NW 5 f a X Q → CONX l D clC (tysC cs) b H0 (XKd b H0 ad vs) yX2_either cX2_either 2 (some (.object "MarketDays$Node")) (10 + n) (225 + 40 * n) [.ref a] f (qR Q) X)) {Q : Nat → cW → Prop} {X : Nat → cW → Prop} {K138 : Nat → Int32 → cW → Prop} (hK138 : ∀ (x0 : Nat) (x1 : Int32) (f : cW), K138 x0 x1 f → AGT p l e R s m args below meth c D b 2 z u (qR Q) X 138 [(0, .ref x0), (1, .int x1)] [] f) {K158 : Nat → cW → Prop} (hK158 : ∀ (x0 : Nat) (f : cW), K158 x0 f → AGT p l e R s m args below meth c D b 2 z u (qR Q) X 158 [(0, .ref x0)] [] f) : ∀ (n : Nat) (x0 : Nat) (x1 : Int32) (f : cW), wlX2_one_115 b cs ad vs NW K138 K158 X Q n x0 x1 f → AGT p l e R s m args below meth c D b 2 z u (qR Q) X 115 [(0, .ref x0), (1, .int x1)] [] f := by
  intro n
  induction n with
  | zero => intro _ _ _ h; exact h.elim
  | succ n ih => intro x0 x1 f h; exact tbX2_one_115 E hN ih hK138 hK158 h
theorem k1X2_one (l : Launch) (D : va_G) (cs : Nat → ClassId) (b : Nat) (H0 : Heap) (ad : Nat → Nat) (vs : Nat → Option Nat) (n : Nat) (NW : Nat → cW → Nat → (Nat → cW → Prop) → (Nat → cW → Prop) → Prop) (hN : (∀ (f : cW) (a : Nat) (X Q : Nat → cW → Prop), NW 0 f a X Q → CONX l D clC (tysC cs) b H0 (XKd b H0 ad vs) yX2_one cX2_one 2 (some (.object "MarketDays$Node")) (10 + n) (225 + 40 * n) [.ref a] f (qR Q) X) ∧ (∀ (f : cW) (a : Nat) (X Q : Nat → cW → Prop), NW 1 f a X Q → CONX l D clC (tysC cs) b H0 (XKd b H0 ad vs) yX2_term cX2_term 2 (some (.object "MarketDays$Node")) (10 + n) (225 + 40 * n) [.ref a] f (qR Q) X) ∧ (∀ (f : cW) (a : Nat) (X Q : Nat → cW → Prop), NW 2 f a X Q → CONX l D clC (tysC cs) b H0 (XKd b H0 ad vs) yX2_sum cX2_sum 3 (some (.object "MarketDays$Node")) (10 + n) (225 + 40 * n) [.ref a] f (qR Q) X) ∧ (∀ (f : cW) (a : Nat) (X Q : Nat → cW → Prop), NW 3 f a X Q → CONX l D clC (tysC cs) b H0 (XKd b H0 ad vs) yX2_not cX2_not 3 (some (.object "MarketDays$Node")) (10 + n) (225 + 40 * n) [.ref a] f (qR Q) X) ∧ (∀ (f : cW) (a : Nat) (X Q : Nat → cW → Prop), NW 4 f a X Q → CONX l D clC (tysC cs) b H0 (XKd b H0 ad vs) yX2_both cX2_both 2 (some (.object "MarketDays$Node")) (10 + n) (225 + 40 * n) [.ref a] f (qR Q) X) ∧ (∀ (f : cW) (a : Nat) (X Q : Nat → cW → Prop), NW 5 f a X Q → CONX l D clC (tysC cs) b H0 (XKd b H0 ad vs) yX2_either cX2_either 2 (some (.object "MarketDays$Node")) (10 + n) (225 + 40 * n) [.ref a] f (qR Q) X)) (f : cW) (x0 : Nat) (X Q : Nat → cW → Prop) (h : w1X2_one b cs ad vs NW f x0 X Q) : CONX l D clC (tysC cs) b H0 (XKd b H0 ad vs) yX2_one cX2_one 2 (some (.object "MarketDays$Node")) (10 + (n + 1)) (225 + 40 * (n + 1)) [.ref x0] f (qR Q) X := by
  refine conx_of (by decide) (Nat.le_of_ble_eq_true rfl) (fun p e R s m below meth c E1 h0 hin0 => ?_)
  have E : EX p R s m ([.ref x0] : List Value).toArray meth c cX2_one 2 RX2 (some (.object "MarketDays$Node")) D cs b H0 (XKd b H0 ad vs) [] (10 + (n + 1)) (225 + 40 * (n + 1)) f.2.1 f.2.2 := ⟨E1, h0⟩
  refine ag_sub (lv' := [(0, .ref x0)]) [0] rfl ?_
  refine ag_aload_n E1 dX2_one_0 rfl 0 rfl ?_
  obtain ⟨v_1, y_2, y_3, y_4, y_5, v_6, y_7, y_8, hP_9, h⟩ := h
  refine ag_getL E1 7 (ci := 12) (C := RX2) (T := TX2) (N := 8) rfl in_X2 (by decide) q243 (fun _ h => h) dX2_one_1 hP_9 rfl ?_
  refine ag_bipush E1 dX2_one_4 kb_45 ?_
  refine ag_icmp_ne E1 (tgt := 38) dX2_one_6 (by decide) (fun c_6 => ?_) (fun c_6 => ?_)
  · have h := h.1 c_6
    refine ag_aload_n E1 dX2_one_38 rfl 0 rfl ?_
    refine ag_getL E1 7 (ci := 12) (C := RX2) (T := TX2) (N := 8) rfl in_X2 (by decide) q243 (fun _ h => h) dX2_one_39 hP_9 rfl ?_
    refine ag_bipush E1 dX2_one_42 kb_40 ?_
    refine ag_icmp_ne E1 (tgt := 86) dX2_one_44 (by decide) (fun c_44 => ?_) (fun c_44 => ?_)
    · have h := h.1 c_44
      refine ag_aload_n E1 dX2_one_86 rfl 0 rfl ?_
      refine ag_getL E1 6 (ci := 12) (C := RX2) (T := TX2) (N := 8) rfl in_X2 (by decide) q242 (fun _ h => h) dX2_one_87 hP_9 rfl ?_
      refine ag_iconst E1 dX2_one_90 ki_m1 ?_
      refine ag_icmp_eq E1 (tgt := 113) dX2_one_91 (by decide) (fun c_91 => ?_) (fun c_91 => ?_)
      · have h := h.1 c_91
        refine ag_iconst E1 dX2_one_113 ki_0 ?_
        refine ag_istore_n E1 (lv' := [(1, .int (0 : Int32)), (0, .ref x0)]) dX2_one_114 rfl (Nat.lt_of_lt_of_le (Nat.le_refl _) (Nat.le_of_ble_eq_true rfl)) rfl ?_
        refine ag_sub (lv' := [(0, .ref x0), (1, .int (0 : Int32))]) [1, 0] rfl ?_
        obtain ⟨n, h⟩ := h
        refine tlX2_one_115 E hN ?_ ?_ n _ _ _ h
        · intro x0 x1 f h
          refine ag_aload_n E1 dX2_one_138 rfl 0 rfl ?_
          obtain ⟨v_24, y_25, y_26, y_27, y_28, v_29, y_30, y_31, hP_32, h⟩ := h
          refine ag_callVX E1 (ci := 12) (C := RX2) (T0 := TX2) (n2 := 8) hP_32 rfl (kX2_next _ _ _ _ _ _ _ _ _ _ _ h) (lw_V q269 q271 qs0 q92 q272) ⟨rfl, hdX2_next⟩ (by omega) (by omega) (As := []) rfl (Nat.le_of_ble_eq_true rfl) dX2_one_139 rfl (fun v_ f_23 hv => ?_) (fun a_ w_ hx => gw_thout E rfl hx)
          obtain ⟨rfl, h⟩ := hv
          obtain ⟨hb_35, h⟩ := h
          refine ag_new E1 (ci := 10) (C := RX5) (T := TX5) (N := 2) (fs := [.int (0 : Int32), .int (0 : Int32)]) tyX5 tyX5_ok in_X5 q629 q630 q105 rfl rfl hb_35 dX2_one_142 (fun a_33 f_34 e_36 e_37 => ?_)
          have h := h a_33 f_34 e_36 e_37
          have hP_38 : f_34.1 a_33 = some (.inr (10, vp_V [.int (0 : Int32), .int (0 : Int32)])) := by rw [e_37, e_36]; exact wNew_s
          refine ag_dup E1 dX2_one_145 rfl ?_
          refine ag_iconst E1 dX2_one_146 ki_0 ?_
          refine ag_iload_n E1 dX2_one_147 rfl 1 rfl ?_
          refine ag_callI E1 (kX5_init _ _ _ _ _ _ _ _ _ _ _ _ h) q633 q105 q631 q632 rfl hdX5_init (by omega) (by omega) (As := [.int (0 : Int32), .int x1]) rfl (Nat.le_of_ble_eq_true rfl) dX2_one_148 (fun v_ f_39 hv => ?_) rfl
          obtain ⟨rfl, h⟩ := hv
          exact ag_xret (gw_aret E rfl (Or.inl ⟨_, rfl⟩) (Or.inr ⟨_, rfl⟩) ⟨_, rfl, h⟩ dX2_one_151)
        · intro x0 f h
          refine ag_aload_n E1 dX2_one_158 rfl 0 rfl ?_
          obtain ⟨v_41, y_42, y_43, y_44, y_45, v_46, y_47, y_48, hP_49, h⟩ := h
          refine ag_callV E1 (ci := 12) (C := RX2) (T0 := TX2) (n2 := 8) hP_49 rfl (kX2_fault _ _ _ _ _ _ _ _ _ _ h) (lw_V q446 q448 qs2 q92 q449) ⟨rfl, hdX2_fault⟩ (by omega) (by omega) (As := []) rfl (Nat.le_of_ble_eq_true rfl) dX2_one_159 (fun v_ f_40 hv => ?_) rfl
          obtain ⟨r_50, rfl, h⟩ := hv
          exact gw_athrow E rfl h dX2_one_162
      · have h := h.2 c_91
        refine ag_aload_n E1 dX2_one_94 rfl 0 rfl ?_
        refine ag_getL E1 6 (ci := 12) (C := RX2) (T := TX2) (N := 8) rfl in_X2 (by decide) q242 (fun _ h => h) dX2_one_95 hP_9 rfl ?_
        refine ag_istore_n E1 (lv' := [(1, .int y_7), (0, .ref x0)]) dX2_one_98 rfl (Nat.lt_of_lt_of_le (Nat.le_refl _) (Nat.le_of_ble_eq_true rfl)) rfl ?_
        refine ag_aload_n E1 dX2_one_99 rfl 1 rfl ?_
        refine ag_callVX E1 (ci := 12) (C := RX2) (T0 := TX2) (n2 := 8) hP_9 rfl (kX2_next _ _ _ _ _ _ _ _ _ _ _ h) (lw_V q269 q271 qs0 q92 q272) ⟨rfl, hdX2_next⟩ (by omega) (by omega) (As := []) rfl (Nat.le_of_ble_eq_true rfl) dX2_one_100 rfl (fun v_ f_51 hv => ?_) (fun a_ w_ hx => gw_thout E rfl hx)
        obtain ⟨rfl, h⟩ := hv
        obtain ⟨hb_54, h⟩ := h
        refine ag_new E1 (ci := 10) (C := RX5) (T := TX5) (N := 2) (fs := [.int (0 : Int32), .int (0 : Int32)]) tyX5 tyX5_ok in_X5 q629 q630 q105 rfl rfl hb_54 dX2_one_103 (fun a_52 f_53 e_55 e_56 => ?_)
        have h := h a_52 f_53 e_55 e_56
        have hP_57 : f_53.1 a_52 = some (.inr (10, vp_V [.int (0 : Int32), .int (0 : Int32)])) := by rw [e_56, e_55]; exact wNew_s
        refine ag_dup E1 dX2_one_106 rfl ?_
        refine ag_iload_n E1 dX2_one_107 rfl 0 rfl ?_
        refine ag_iconst E1 dX2_one_108 ki_m1 ?_
        refine ag_callI E1 (kX5_init _ _ _ _ _ _ _ _ _ _ _ _ h) q633 q105 q631 q632 rfl hdX5_init (by omega) (by omega) (As := [.int y_7, .int (-1 : Int32)]) rfl (Nat.le_of_ble_eq_true rfl) dX2_one_109 (fun v_ f_58 hv => ?_) rfl
        obtain ⟨rfl, h⟩ := hv
        exact ag_xret (gw_aret E rfl (Or.inl ⟨_, rfl⟩) (Or.inr ⟨_, rfl⟩) ⟨_, rfl, h⟩ dX2_one_112)
    · have h := h.2 c_44
      refine ag_aload_n E1 dX2_one_47 rfl 0 rfl ?_
      refine ag_callVX E1 (ci := 12) (C := RX2) (T0 := TX2) (n2 := 8) hP_9 rfl (kX2_opens _ _ _ _ _ _ _ _ _ _ _ h) (lw_V q600 q602 qs8 q92 q603) ⟨rfl, hdX2_opens⟩ (by omega) (by omega) (As := []) rfl (Nat.le_of_ble_eq_true rfl) dX2_one_48 rfl (fun v_ f_59 hv => ?_) (fun a_ w_ hx => gw_thout E rfl hx)
      obtain ⟨rfl, h⟩ := hv
      refine ag_aload_n E1 dX2_one_51 rfl 0 rfl ?_
      obtain ⟨v_60, y_61, y_62, y_63, y_64, v_65, y_66, y_67, hP_68, h⟩ := h
      refine ag_callVX E1 (ci := 12) (C := RX2) (T0 := TX2) (n2 := 8) hP_68 rfl (hN.2.2.2.2.2 _ _ _ _ h) (lw_V q587 q589 qs5 q92 q590) ⟨rfl, hdX2_either⟩ (by omega) (by omega) (As := []) rfl (Nat.le_of_ble_eq_true rfl) dX2_one_52 rfl (fun v_ f_69 hv => ?_) (fun a_ w_ hx => gw_thout E rfl hx)
      obtain ⟨r_70, rfl, h⟩ := hv
      refine ag_astore_n E1 (lv' := [(1, .ref r_70), (0, .ref x0)]) dX2_one_55 rfl (Nat.lt_of_lt_of_le (Nat.le_refl _) (Nat.le_of_ble_eq_true rfl)) rfl ?_
      refine ag_aload_n E1 dX2_one_56 rfl 1 rfl ?_
      obtain ⟨v_71, y_72, y_73, y_74, y_75, v_76, y_77, y_78, hP_79, h⟩ := h
      refine ag_getL E1 7 (ci := 12) (C := RX2) (T := TX2) (N := 8) rfl in_X2 (by decide) q243 (fun _ h => h) dX2_one_57 hP_79 rfl ?_
      refine ag_bipush E1 dX2_one_60 kb_41 ?_
      refine ag_icmp_eq E1 (tgt := 70) dX2_one_62 (by decide) (fun c_62 => ?_) (fun c_62 => ?_)
      · have h := h.1 c_62
        refine ag_aload_n E1 dX2_one_70 rfl 1 rfl ?_
        refine ag_dup E1 dX2_one_71 rfl ?_
        refine ag_getL E1 4 (ci := 12) (C := RX2) (T := TX2) (N := 8) rfl in_X2 (by decide) q240 (fun _ h => h) dX2_one_72 hP_79 rfl ?_
        refine ag_iconst E1 dX2_one_75 ki_1 ?_
        refine ag_isub E1 dX2_one_76 ?_
        refine ag_putL E1 4 (ci := 12) (C := RX2) (T := TX2) (N := 8) (ty := .int) tyX2 tyX2_ok nmX2 rfl in_X2 (by decide) q240 (fun _ h => h) rfl (by decide +kernel) rfl rfl dX2_one_77 hP_79 (Nat.lt_of_lt_of_le (Nat.le_refl _) (Nat.le_of_ble_eq_true rfl)) rfl (fun f_80 e_81 => ?_)
        have h := h f_80 e_81
        have hP_82 : f_80.1 x0 = some (.inr (12, vp_V [v_71, .int y_72, .int y_73, .int y_74, .int (y_75 - (1 : Int32)), v_76, .int y_77, .int y_78])) := by rw [e_81]; exact updP_s
        refine ag_aload_n E1 dX2_one_80 rfl 1 rfl ?_
        refine ag_callVX E1 (ci := 12) (C := RX2) (T0 := TX2) (n2 := 8) hP_82 rfl (kX2_next _ _ _ _ _ _ _ _ _ _ _ h) (lw_V q269 q271 qs0 q92 q272) ⟨rfl, hdX2_next⟩ (by omega) (by omega) (As := []) rfl (Nat.le_of_ble_eq_true rfl) dX2_one_81 rfl (fun v_ f_83 hv => ?_) (fun a_ w_ hx => gw_thout E rfl hx)
        obtain ⟨rfl, h⟩ := hv
        refine ag_aload_n E1 dX2_one_84 rfl 0 rfl ?_
        exact ag_xret (gw_aret E rfl (Or.inl ⟨_, rfl⟩) (Or.inr ⟨_, rfl⟩) ⟨_, rfl, h⟩ dX2_one_85)
      · have h := h.2 c_62
        refine ag_aload_n E1 dX2_one_65 rfl 1 rfl ?_
        refine ag_callV E1 (ci := 12) (C := RX2) (T0 := TX2) (n2 := 8) hP_79 rfl (kX2_fault _ _ _ _ _ _ _ _ _ _ h) (lw_V q446 q448 qs2 q92 q449) ⟨rfl, hdX2_fault⟩ (by omega) (by omega) (As := []) rfl (Nat.le_of_ble_eq_true rfl) dX2_one_66 (fun v_ f_84 hv => ?_) rfl
        obtain ⟨r_85, rfl, h⟩ := hv
        exact gw_athrow E rfl h dX2_one_69
  · have h := h.2 c_6
    refine ag_aload_n E1 dX2_one_9 rfl 0 rfl ?_
    refine ag_callVX E1 (ci := 12) (C := RX2) (T0 := TX2) (n2 := 8) hP_9 rfl (kX2_opens _ _ _ _ _ _ _ _ _ _ _ h) (lw_V q600 q602 qs8 q92 q603) ⟨rfl, hdX2_opens⟩ (by omega) (by omega) (As := []) rfl (Nat.le_of_ble_eq_true rfl) dX2_one_10 rfl (fun v_ f_86 hv => ?_) (fun a_ w_ hx => gw_thout E rfl hx)
    obtain ⟨rfl, h⟩ := hv
    refine ag_aload_n E1 dX2_one_13 rfl 0 rfl ?_
    obtain ⟨v_87, y_88, y_89, y_90, y_91, v_92, y_93, y_94, hP_95, h⟩ := h
    refine ag_callVX E1 (ci := 12) (C := RX2) (T0 := TX2) (n2 := 8) hP_95 rfl (hN.1 _ _ _ _ h) (lw_V q625 q627 qs11 q92 q628) ⟨rfl, hdX2_one⟩ (by omega) (by omega) (As := []) rfl (Nat.le_of_ble_eq_true rfl) dX2_one_14 rfl (fun v_ f_96 hv => ?_) (fun a_ w_ hx => gw_thout E rfl hx)
    obtain ⟨r_97, rfl, h⟩ := hv
    refine ag_astore_n E1 (lv' := [(1, .ref r_97), (0, .ref x0)]) dX2_one_17 rfl (Nat.lt_of_lt_of_le (Nat.le_refl _) (Nat.le_of_ble_eq_true rfl)) rfl ?_
    refine ag_aload_n E1 dX2_one_18 rfl 1 rfl ?_
    refine ag_dup E1 dX2_one_19 rfl ?_
    obtain ⟨v_98, y_99, y_100, y_101, y_102, v_103, y_104, y_105, hP_106, h⟩ := h
    refine ag_getL E1 4 (ci := 12) (C := RX2) (T := TX2) (N := 8) rfl in_X2 (by decide) q240 (fun _ h => h) dX2_one_20 hP_106 rfl ?_
    refine ag_iconst E1 dX2_one_23 ki_1 ?_
    refine ag_isub E1 dX2_one_24 ?_
    refine ag_putL E1 4 (ci := 12) (C := RX2) (T := TX2) (N := 8) (ty := .int) tyX2 tyX2_ok nmX2 rfl in_X2 (by decide) q240 (fun _ h => h) rfl (by decide +kernel) rfl rfl dX2_one_25 hP_106 (Nat.lt_of_lt_of_le (Nat.le_refl _) (Nat.le_of_ble_eq_true rfl)) rfl (fun f_107 e_108 => ?_)
    have h := h f_107 e_108
    have hP_109 : f_107.1 x0 = some (.inr (12, vp_V [v_98, .int y_99, .int y_100, .int y_101, .int (y_102 - (1 : Int32)), v_103, .int y_104, .int y_105])) := by rw [e_108]; exact updP_s
    obtain ⟨hb_112, h⟩ := h
    refine ag_new E1 (ci := 9) (C := RX4) (T := TX4) (N := 2) (fs := [.int (0 : Int32), .null]) tyX4 tyX4_ok in_X4 q604 q605 q104 rfl rfl hb_112 dX2_one_28 (fun a_110 f_111 e_113 e_114 => ?_)
    have h := h a_110 f_111 e_113 e_114
    have hP_115 : f_111.1 a_110 = some (.inr (9, vp_V [.int (0 : Int32), .null])) := by rw [e_114, e_113]; exact wNew_s
    refine ag_dup E1 dX2_one_31 rfl ?_
    refine ag_iconst E1 dX2_one_32 ki_0 ?_
    refine ag_aload_n E1 dX2_one_33 rfl 0 rfl ?_
    refine ag_callI E1 (kX4_init _ _ _ _ _ _ _ _ _ _ _ _ h) q608 q104 q606 q607 rfl hdX4_init (by omega) (by omega) (As := [.int (0 : Int32), .ref r_97]) rfl (Nat.le_of_ble_eq_true rfl) dX2_one_34 (fun v_ f_116 hv => ?_) rfl
    obtain ⟨rfl, h⟩ := hv
    exact ag_xret (gw_aret E rfl (Or.inl ⟨_, rfl⟩) (Or.inr ⟨_, rfl⟩) ⟨_, rfl, h⟩ dX2_one_37)
theorem tbX2_term_5 (E : EX p R s m args meth c cX2_term 2 RX2 (some (.object "MarketDays$Node")) D cs b H0 (XKd b H0 ad vs) [] (10 + (n + 1)) (225 + 40 * (n + 1)) z u) {NW : Nat → cW → Nat → (Nat → cW → Prop) → (Nat → cW → Prop) → Prop} (hN : (∀ (f : cW) (a : Nat) (X Q : Nat → cW → Prop), NW 0 f a X Q → CONX l D clC (tysC cs) b H0 (XKd b H0 ad vs) yX2_one cX2_one 2 (some (.object "MarketDays$Node")) (10 + n) (225 + 40 * n) [.ref a] f (qR Q) X) ∧ (∀ (f : cW) (a : Nat) (X Q : Nat → cW → Prop), NW 1 f a X Q → CONX l D clC (tysC cs) b H0 (XKd b H0 ad vs) yX2_term cX2_term 2 (some (.object "MarketDays$Node")) (10 + n) (225 + 40 * n) [.ref a] f (qR Q) X) ∧ (∀ (f : cW) (a : Nat) (X Q : Nat → cW → Prop), NW 2 f a X Q → CONX l D clC (tysC cs) b H0 (XKd b H0 ad vs) yX2_sum cX2_sum 3 (some (.object "MarketDays$Node")) (10 + n) (225 + 40 * n) [.ref a] f (qR Q) X) ∧ (∀ (f : cW) (a : Nat) (X Q : Nat → cW → Prop), NW 3 f a X Q → CONX l D clC (tysC cs) b H0 (XKd b H0 ad vs) yX2_not cX2_not 3 (some (.object "MarketDays$Node")) (10 + n) (225 + 40 * n) [.ref a] f (qR Q) X) ∧ (∀ (f : cW) (a : Nat) (X Q : Nat → cW → Prop), NW 4 f a X Q → CONX l D clC (tysC cs) b H0 (XKd b H0 ad vs) yX2_both cX2_both 2 (some (.object "MarketDays$Node")) (10 + n) (225 + 40 * n) [.ref a] f (qR Q) X) ∧ (∀ (f : cW) (a : Nat) (X Q : Nat → cW → Prop), NW 5 f a X Q → CONX l D clC (tysC cs) b H0 (XKd b H0 ad vs) yX2_either cX2_either 2 (some (.object "MarketDays$Node")) (10 + n) (225 + 40 * n) [.ref a] f (qR Q) X)) {Q : Nat → cW → Prop} {X : Nat → cW → Prop} {K5 : Nat → Nat → cW → Prop} (hK5 : ∀ (x0 : Nat) (x1 : Nat) (f : cW), K5 x0 x1 f → AGT p l e R s m args below meth c D b 2 z u (qR Q) X 5 [(0, .ref x0), (1, .ref x1)] [] f) {x0 : Nat} {x1 : Nat} {f : cW} (h : wbX2_term_5 b cs ad vs NW K5 X Q x0 x1 f) : AGT p l e R s m args below meth c D b 2 z u (qR Q) X 5 [(0, .ref x0), (1, .ref x1)] [] f := by
  have E1 := E.1
  refine ag_aload_n E1 dX2_term_5 rfl 0 rfl ?_
  refine ag_bipush E1 dX2_term_6 kb_42 ?_
  obtain ⟨v_13, y_14, y_15, y_16, y_17, v_18, y_19, y_20, hP_21, h⟩ := h
  refine ag_callVX E1 (ci := 12) (C := RX2) (T0 := TX2) (n2 := 8) hP_21 rfl (kX2_takes _ _ _ _ _ _ _ _ _ _ _ _ h) (lw_V q644 q646 qs12 q92 q647) ⟨rfl, hdX2_takes⟩ (by omega) (by omega) (As := [.int (42 : Int32)]) rfl (Nat.le_of_ble_eq_true rfl) dX2_term_8 rfl (fun v_ f_12 hv => ?_) (fun a_ w_ hx => gw_thout E rfl hx)
  obtain ⟨r_22, rfl, h⟩ := hv
  refine ag_if_eq E1 (tgt := 32) dX2_term_11 (by decide) (fun c_11 => ?_) (fun c_11 => ?_)
  · have h := h.1 c_11
    refine ag_aload_n E1 dX2_term_32 rfl 1 rfl ?_
    exact ag_xret (gw_aret E rfl (Or.inl ⟨_, rfl⟩) (Or.inr ⟨_, rfl⟩) ⟨_, rfl, h⟩ dX2_term_33)
  · have h := h.2 c_11
    obtain ⟨hb_25, h⟩ := h
    refine ag_new E1 (ci := 11) (C := RX6) (T := TX6) (N := 3) (fs := [.int (0 : Int32), .null, .null]) tyX6 tyX6_ok in_X6 q648 q649 q106 rfl rfl hb_25 dX2_term_14 (fun a_23 f_24 e_26 e_27 => ?_)
    have h := h a_23 f_24 e_26 e_27
    have hP_28 : f_24.1 a_23 = some (.inr (11, vp_V [.int (0 : Int32), .null, .null])) := by rw [e_27, e_26]; exact wNew_s
    refine ag_dup E1 dX2_term_17 rfl ?_
    refine ag_bipush E1 dX2_term_18 kb_42 ?_
    refine ag_aload_n E1 dX2_term_20 rfl 1 rfl ?_
    refine ag_aload_n E1 dX2_term_21 rfl 0 rfl ?_
    obtain ⟨v_29, y_30, y_31, y_32, y_33, v_34, y_35, y_36, hP_37, h⟩ := h
    refine ag_callVX E1 (ci := 12) (C := RX2) (T0 := TX2) (n2 := 8) hP_37 rfl (hN.1 _ _ _ _ h) (lw_V q625 q627 qs11 q92 q628) ⟨rfl, hdX2_one⟩ (by omega) (by omega) (As := []) rfl (Nat.le_of_ble_eq_true rfl) dX2_term_22 rfl (fun v_ f_38 hv => ?_) (fun a_ w_ hx => gw_thout E rfl hx)
    obtain ⟨r_39, rfl, h⟩ := hv
    refine ag_callI E1 (kX6_init _ _ _ _ _ _ _ _ _ _ _ _ _ h) q652 q106 q650 q651 rfl hdX6_init (by omega) (by omega) (As := [.int (42 : Int32), .ref x1, .ref r_39]) rfl (Nat.le_of_ble_eq_true rfl) dX2_term_25 (fun v_ f_40 hv => ?_) rfl
    obtain ⟨rfl, h⟩ := hv
    refine ag_astore_n E1 (lv' := [(1, .ref a_23), (0, .ref x0)]) dX2_term_28 rfl (Nat.lt_of_lt_of_le (Nat.le_refl _) (Nat.le_of_ble_eq_true rfl)) rfl ?_
    refine ag_goto E1 (tgt := 5) dX2_term_29 (by decide) ?_
    refine ag_sub (lv' := [(0, .ref x0), (1, .ref a_23)]) [1, 0] rfl ?_
    exact hK5 _ _ _ h
theorem tlX2_term_5 (E : EX p R s m args meth c cX2_term 2 RX2 (some (.object "MarketDays$Node")) D cs b H0 (XKd b H0 ad vs) [] (10 + (n + 1)) (225 + 40 * (n + 1)) z u) {NW : Nat → cW → Nat → (Nat → cW → Prop) → (Nat → cW → Prop) → Prop} (hN : (∀ (f : cW) (a : Nat) (X Q : Nat → cW → Prop), NW 0 f a X Q → CONX l D clC (tysC cs) b H0 (XKd b H0 ad vs) yX2_one cX2_one 2 (some (.object "MarketDays$Node")) (10 + n) (225 + 40 * n) [.ref a] f (qR Q) X) ∧ (∀ (f : cW) (a : Nat) (X Q : Nat → cW → Prop), NW 1 f a X Q → CONX l D clC (tysC cs) b H0 (XKd b H0 ad vs) yX2_term cX2_term 2 (some (.object "MarketDays$Node")) (10 + n) (225 + 40 * n) [.ref a] f (qR Q) X) ∧ (∀ (f : cW) (a : Nat) (X Q : Nat → cW → Prop), NW 2 f a X Q → CONX l D clC (tysC cs) b H0 (XKd b H0 ad vs) yX2_sum cX2_sum 3 (some (.object "MarketDays$Node")) (10 + n) (225 + 40 * n) [.ref a] f (qR Q) X) ∧ (∀ (f : cW) (a : Nat) (X Q : Nat → cW → Prop), NW 3 f a X Q → CONX l D clC (tysC cs) b H0 (XKd b H0 ad vs) yX2_not cX2_not 3 (some (.object "MarketDays$Node")) (10 + n) (225 + 40 * n) [.ref a] f (qR Q) X) ∧ (∀ (f : cW) (a : Nat) (X Q : Nat → cW → Prop), NW 4 f a X Q → CONX l D clC (tysC cs) b H0 (XKd b H0 ad vs) yX2_both cX2_both 2 (some (.object "MarketDays$Node")) (10 + n) (225 + 40 * n) [.ref a] f (qR Q) X) ∧ (∀ (f : cW) (a : Nat) (X Q : Nat → cW → Prop), NW 5 f a X Q → CONX l D clC (tysC cs) b H0 (XKd b H0 ad vs) yX2_either cX2_either 2 (some (.object "MarketDays$Node")) (10 + n) (225 + 40 * n) [.ref a] f (qR Q) X)) {Q : Nat → cW → Prop} {X : Nat → cW → Prop}  : ∀ (n : Nat) (x0 : Nat) (x1 : Nat) (f : cW), wlX2_term_5 b cs ad vs NW  X Q n x0 x1 f → AGT p l e R s m args below meth c D b 2 z u (qR Q) X 5 [(0, .ref x0), (1, .ref x1)] [] f := by
  intro n
  induction n with
  | zero => intro _ _ _ h; exact h.elim
  | succ n ih => intro x0 x1 f h; exact tbX2_term_5 E hN ih h
theorem k1X2_term (l : Launch) (D : va_G) (cs : Nat → ClassId) (b : Nat) (H0 : Heap) (ad : Nat → Nat) (vs : Nat → Option Nat) (n : Nat) (NW : Nat → cW → Nat → (Nat → cW → Prop) → (Nat → cW → Prop) → Prop) (hN : (∀ (f : cW) (a : Nat) (X Q : Nat → cW → Prop), NW 0 f a X Q → CONX l D clC (tysC cs) b H0 (XKd b H0 ad vs) yX2_one cX2_one 2 (some (.object "MarketDays$Node")) (10 + n) (225 + 40 * n) [.ref a] f (qR Q) X) ∧ (∀ (f : cW) (a : Nat) (X Q : Nat → cW → Prop), NW 1 f a X Q → CONX l D clC (tysC cs) b H0 (XKd b H0 ad vs) yX2_term cX2_term 2 (some (.object "MarketDays$Node")) (10 + n) (225 + 40 * n) [.ref a] f (qR Q) X) ∧ (∀ (f : cW) (a : Nat) (X Q : Nat → cW → Prop), NW 2 f a X Q → CONX l D clC (tysC cs) b H0 (XKd b H0 ad vs) yX2_sum cX2_sum 3 (some (.object "MarketDays$Node")) (10 + n) (225 + 40 * n) [.ref a] f (qR Q) X) ∧ (∀ (f : cW) (a : Nat) (X Q : Nat → cW → Prop), NW 3 f a X Q → CONX l D clC (tysC cs) b H0 (XKd b H0 ad vs) yX2_not cX2_not 3 (some (.object "MarketDays$Node")) (10 + n) (225 + 40 * n) [.ref a] f (qR Q) X) ∧ (∀ (f : cW) (a : Nat) (X Q : Nat → cW → Prop), NW 4 f a X Q → CONX l D clC (tysC cs) b H0 (XKd b H0 ad vs) yX2_both cX2_both 2 (some (.object "MarketDays$Node")) (10 + n) (225 + 40 * n) [.ref a] f (qR Q) X) ∧ (∀ (f : cW) (a : Nat) (X Q : Nat → cW → Prop), NW 5 f a X Q → CONX l D clC (tysC cs) b H0 (XKd b H0 ad vs) yX2_either cX2_either 2 (some (.object "MarketDays$Node")) (10 + n) (225 + 40 * n) [.ref a] f (qR Q) X)) (f : cW) (x0 : Nat) (X Q : Nat → cW → Prop) (h : w1X2_term b cs ad vs NW f x0 X Q) : CONX l D clC (tysC cs) b H0 (XKd b H0 ad vs) yX2_term cX2_term 2 (some (.object "MarketDays$Node")) (10 + (n + 1)) (225 + 40 * (n + 1)) [.ref x0] f (qR Q) X := by
  refine conx_of (by decide) (Nat.le_of_ble_eq_true rfl) (fun p e R s m below meth c E1 h0 hin0 => ?_)
  have E : EX p R s m ([.ref x0] : List Value).toArray meth c cX2_term 2 RX2 (some (.object "MarketDays$Node")) D cs b H0 (XKd b H0 ad vs) [] (10 + (n + 1)) (225 + 40 * (n + 1)) f.2.1 f.2.2 := ⟨E1, h0⟩
  refine ag_sub (lv' := [(0, .ref x0)]) [0] rfl ?_
  refine ag_aload_n E1 dX2_term_0 rfl 0 rfl ?_
  obtain ⟨v_1, y_2, y_3, y_4, y_5, v_6, y_7, y_8, hP_9, h⟩ := h
  refine ag_callVX E1 (ci := 12) (C := RX2) (T0 := TX2) (n2 := 8) hP_9 rfl (hN.1 _ _ _ _ h) (lw_V q625 q627 qs11 q92 q628) ⟨rfl, hdX2_one⟩ (by omega) (by omega) (As := []) rfl (Nat.le_of_ble_eq_true rfl) dX2_term_1 rfl (fun v_ f_10 hv => ?_) (fun a_ w_ hx => gw_thout E rfl hx)
  obtain ⟨r_11, rfl, h⟩ := hv
  refine ag_astore_n E1 (lv' := [(1, .ref r_11), (0, .ref x0)]) dX2_term_4 rfl (Nat.lt_of_lt_of_le (Nat.le_refl _) (Nat.le_of_ble_eq_true rfl)) rfl ?_
  refine ag_sub (lv' := [(0, .ref x0), (1, .ref r_11)]) [1, 0] rfl ?_
  obtain ⟨n, h⟩ := h
  exact tlX2_term_5 E hN  n _ _ _ h
theorem tbX2_sum_23 (E : EX p R s m args meth c cX2_sum 3 RX2 (some (.object "MarketDays$Node")) D cs b H0 (XKd b H0 ad vs) [] (10 + (n + 1)) (225 + 40 * (n + 1)) z u) {NW : Nat → cW → Nat → (Nat → cW → Prop) → (Nat → cW → Prop) → Prop} (hN : (∀ (f : cW) (a : Nat) (X Q : Nat → cW → Prop), NW 0 f a X Q → CONX l D clC (tysC cs) b H0 (XKd b H0 ad vs) yX2_one cX2_one 2 (some (.object "MarketDays$Node")) (10 + n) (225 + 40 * n) [.ref a] f (qR Q) X) ∧ (∀ (f : cW) (a : Nat) (X Q : Nat → cW → Prop), NW 1 f a X Q → CONX l D clC (tysC cs) b H0 (XKd b H0 ad vs) yX2_term cX2_term 2 (some (.object "MarketDays$Node")) (10 + n) (225 + 40 * n) [.ref a] f (qR Q) X) ∧ (∀ (f : cW) (a : Nat) (X Q : Nat → cW → Prop), NW 2 f a X Q → CONX l D clC (tysC cs) b H0 (XKd b H0 ad vs) yX2_sum cX2_sum 3 (some (.object "MarketDays$Node")) (10 + n) (225 + 40 * n) [.ref a] f (qR Q) X) ∧ (∀ (f : cW) (a : Nat) (X Q : Nat → cW → Prop), NW 3 f a X Q → CONX l D clC (tysC cs) b H0 (XKd b H0 ad vs) yX2_not cX2_not 3 (some (.object "MarketDays$Node")) (10 + n) (225 + 40 * n) [.ref a] f (qR Q) X) ∧ (∀ (f : cW) (a : Nat) (X Q : Nat → cW → Prop), NW 4 f a X Q → CONX l D clC (tysC cs) b H0 (XKd b H0 ad vs) yX2_both cX2_both 2 (some (.object "MarketDays$Node")) (10 + n) (225 + 40 * n) [.ref a] f (qR Q) X) ∧ (∀ (f : cW) (a : Nat) (X Q : Nat → cW → Prop), NW 5 f a X Q → CONX l D clC (tysC cs) b H0 (XKd b H0 ad vs) yX2_either cX2_either 2 (some (.object "MarketDays$Node")) (10 + n) (225 + 40 * n) [.ref a] f (qR Q) X)) {Q : Nat → cW → Prop} {X : Nat → cW → Prop} {K5 : Nat → Nat → cW → Prop} (hK5 : ∀ (x0 : Nat) (x1 : Nat) (f : cW), K5 x0 x1 f → AGT p l e R s m args below meth c D b 3 z u (qR Q) X 5 [(0, .ref x0), (1, .ref x1)] [] f) {x0 : Nat} {x1 : Nat} {f : cW} (h : wbX2_sum_23 b cs ad vs NW K5 X Q x0 x1 f) : AGT p l e R s m args below meth c D b 3 z u (qR Q) X 23 [(0, .ref x0), (1, .ref x1)] [] f := by
  have E1 := E.1
  refine ag_aload_n E1 dX2_sum_23 rfl 0 rfl ?_
  obtain ⟨v_21, y_22, y_23, y_24, y_25, v_26, y_27, y_28, hP_29, h⟩ := h
  refine ag_getL E1 7 (ci := 12) (C := RX2) (T := TX2) (N := 8) rfl in_X2 (by decide) q243 (fun _ h => h) dX2_sum_24 hP_29 rfl ?_
  refine ag_istore_n E1 (lv' := [(2, .int y_28), (0, .ref x0), (1, .ref x1)]) dX2_sum_27 rfl (Nat.lt_of_lt_of_le (Nat.le_refl _) (Nat.le_of_ble_eq_true rfl)) rfl ?_
  refine ag_aload_n E1 dX2_sum_28 rfl 1 rfl ?_
  refine ag_callVX E1 (ci := 12) (C := RX2) (T0 := TX2) (n2 := 8) hP_29 rfl (kX2_next _ _ _ _ _ _ _ _ _ _ _ h) (lw_V q269 q271 qs0 q92 q272) ⟨rfl, hdX2_next⟩ (by omega) (by omega) (As := []) rfl (Nat.le_of_ble_eq_true rfl) dX2_sum_29 rfl (fun v_ f_30 hv => ?_) (fun a_ w_ hx => gw_thout E rfl hx)
  obtain ⟨rfl, h⟩ := hv
  obtain ⟨hb_33, h⟩ := h
  refine ag_new E1 (ci := 11) (C := RX6) (T := TX6) (N := 3) (fs := [.int (0 : Int32), .null, .null]) tyX6 tyX6_ok in_X6 q648 q649 q106 rfl rfl hb_33 dX2_sum_32 (fun a_31 f_32 e_34 e_35 => ?_)
  have h := h a_31 f_32 e_34 e_35
  have hP_36 : f_32.1 a_31 = some (.inr (11, vp_V [.int (0 : Int32), .null, .null])) := by rw [e_35, e_34]; exact wNew_s
  refine ag_dup E1 dX2_sum_35 rfl ?_
  refine ag_iload_n E1 dX2_sum_36 rfl 0 rfl ?_
  refine ag_aload_n E1 dX2_sum_37 rfl 2 rfl ?_
  refine ag_aload_n E1 dX2_sum_38 rfl 1 rfl ?_
  obtain ⟨v_37, y_38, y_39, y_40, y_41, v_42, y_43, y_44, hP_45, h⟩ := h
  refine ag_callVX E1 (ci := 12) (C := RX2) (T0 := TX2) (n2 := 8) hP_45 rfl (hN.2.1 _ _ _ _ h) (lw_V q621 q623 qs10 q92 q624) ⟨rfl, hdX2_term⟩ (by omega) (by omega) (As := []) rfl (Nat.le_of_ble_eq_true rfl) dX2_sum_39 rfl (fun v_ f_46 hv => ?_) (fun a_ w_ hx => gw_thout E rfl hx)
  obtain ⟨r_47, rfl, h⟩ := hv
  refine ag_callI E1 (kX6_init _ _ _ _ _ _ _ _ _ _ _ _ _ h) q652 q106 q650 q651 rfl hdX6_init (by omega) (by omega) (As := [.int y_28, .ref x1, .ref r_47]) rfl (Nat.le_of_ble_eq_true rfl) dX2_sum_42 (fun v_ f_48 hv => ?_) rfl
  obtain ⟨rfl, h⟩ := hv
  refine ag_astore_n E1 (lv' := [(1, .ref a_31), (2, .int y_28), (0, .ref x0)]) dX2_sum_45 rfl (Nat.lt_of_lt_of_le (Nat.le_refl _) (Nat.le_of_ble_eq_true rfl)) rfl ?_
  refine ag_goto E1 (tgt := 5) dX2_sum_46 (by decide) ?_
  refine ag_sub (lv' := [(0, .ref x0), (1, .ref a_31)]) [2, 0] rfl ?_
  exact hK5 _ _ _ h
theorem tbX2_sum_5 (E : EX p R s m args meth c cX2_sum 3 RX2 (some (.object "MarketDays$Node")) D cs b H0 (XKd b H0 ad vs) [] (10 + (n + 1)) (225 + 40 * (n + 1)) z u) {NW : Nat → cW → Nat → (Nat → cW → Prop) → (Nat → cW → Prop) → Prop} (hN : (∀ (f : cW) (a : Nat) (X Q : Nat → cW → Prop), NW 0 f a X Q → CONX l D clC (tysC cs) b H0 (XKd b H0 ad vs) yX2_one cX2_one 2 (some (.object "MarketDays$Node")) (10 + n) (225 + 40 * n) [.ref a] f (qR Q) X) ∧ (∀ (f : cW) (a : Nat) (X Q : Nat → cW → Prop), NW 1 f a X Q → CONX l D clC (tysC cs) b H0 (XKd b H0 ad vs) yX2_term cX2_term 2 (some (.object "MarketDays$Node")) (10 + n) (225 + 40 * n) [.ref a] f (qR Q) X) ∧ (∀ (f : cW) (a : Nat) (X Q : Nat → cW → Prop), NW 2 f a X Q → CONX l D clC (tysC cs) b H0 (XKd b H0 ad vs) yX2_sum cX2_sum 3 (some (.object "MarketDays$Node")) (10 + n) (225 + 40 * n) [.ref a] f (qR Q) X) ∧ (∀ (f : cW) (a : Nat) (X Q : Nat → cW → Prop), NW 3 f a X Q → CONX l D clC (tysC cs) b H0 (XKd b H0 ad vs) yX2_not cX2_not 3 (some (.object "MarketDays$Node")) (10 + n) (225 + 40 * n) [.ref a] f (qR Q) X) ∧ (∀ (f : cW) (a : Nat) (X Q : Nat → cW → Prop), NW 4 f a X Q → CONX l D clC (tysC cs) b H0 (XKd b H0 ad vs) yX2_both cX2_both 2 (some (.object "MarketDays$Node")) (10 + n) (225 + 40 * n) [.ref a] f (qR Q) X) ∧ (∀ (f : cW) (a : Nat) (X Q : Nat → cW → Prop), NW 5 f a X Q → CONX l D clC (tysC cs) b H0 (XKd b H0 ad vs) yX2_either cX2_either 2 (some (.object "MarketDays$Node")) (10 + n) (225 + 40 * n) [.ref a] f (qR Q) X)) {Q : Nat → cW → Prop} {X : Nat → cW → Prop} {K5 : Nat → Nat → cW → Prop} (hK5 : ∀ (x0 : Nat) (x1 : Nat) (f : cW), K5 x0 x1 f → AGT p l e R s m args below meth c D b 3 z u (qR Q) X 5 [(0, .ref x0), (1, .ref x1)] [] f) {x0 : Nat} {x1 : Nat} {f : cW} (h : wbX2_sum_5 b cs ad vs NW K5 X Q x0 x1 f) : AGT p l e R s m args below meth c D b 3 z u (qR Q) X 5 [(0, .ref x0), (1, .ref x1)] [] f := by
  have E1 := E.1
  refine ag_aload_n E1 dX2_sum_5 rfl 0 rfl ?_
  obtain ⟨v_12, y_13, y_14, y_15, y_16, v_17, y_18, y_19, hP_20, h⟩ := h
  refine ag_getL E1 7 (ci := 12) (C := RX2) (T := TX2) (N := 8) rfl in_X2 (by decide) q243 (fun _ h => h) dX2_sum_6 hP_20 rfl ?_
  refine ag_bipush E1 dX2_sum_9 kb_43 ?_
  refine ag_icmp_eq E1 (tgt := 23) dX2_sum_11 (by decide) (fun c_11 => ?_) (fun c_11 => ?_)
  · have h := h.1 c_11
    exact tbX2_sum_23 E hN hK5 h
  · have h := h.2 c_11
    refine ag_aload_n E1 dX2_sum_14 rfl 0 rfl ?_
    refine ag_getL E1 7 (ci := 12) (C := RX2) (T := TX2) (N := 8) rfl in_X2 (by decide) q243 (fun _ h => h) dX2_sum_15 hP_20 rfl ?_
    refine ag_bipush E1 dX2_sum_18 kb_45 ?_
    refine ag_icmp_ne E1 (tgt := 49) dX2_sum_20 (by decide) (fun c_20 => ?_) (fun c_20 => ?_)
    · have h := h.1 c_20
      refine ag_aload_n E1 dX2_sum_49 rfl 1 rfl ?_
      exact ag_xret (gw_aret E rfl (Or.inl ⟨_, rfl⟩) (Or.inr ⟨_, rfl⟩) ⟨_, rfl, h⟩ dX2_sum_50)
    · have h := h.2 c_20
      exact tbX2_sum_23 E hN hK5 h
theorem tlX2_sum_5 (E : EX p R s m args meth c cX2_sum 3 RX2 (some (.object "MarketDays$Node")) D cs b H0 (XKd b H0 ad vs) [] (10 + (n + 1)) (225 + 40 * (n + 1)) z u) {NW : Nat → cW → Nat → (Nat → cW → Prop) → (Nat → cW → Prop) → Prop} (hN : (∀ (f : cW) (a : Nat) (X Q : Nat → cW → Prop), NW 0 f a X Q → CONX l D clC (tysC cs) b H0 (XKd b H0 ad vs) yX2_one cX2_one 2 (some (.object "MarketDays$Node")) (10 + n) (225 + 40 * n) [.ref a] f (qR Q) X) ∧ (∀ (f : cW) (a : Nat) (X Q : Nat → cW → Prop), NW 1 f a X Q → CONX l D clC (tysC cs) b H0 (XKd b H0 ad vs) yX2_term cX2_term 2 (some (.object "MarketDays$Node")) (10 + n) (225 + 40 * n) [.ref a] f (qR Q) X) ∧ (∀ (f : cW) (a : Nat) (X Q : Nat → cW → Prop), NW 2 f a X Q → CONX l D clC (tysC cs) b H0 (XKd b H0 ad vs) yX2_sum cX2_sum 3 (some (.object "MarketDays$Node")) (10 + n) (225 + 40 * n) [.ref a] f (qR Q) X) ∧ (∀ (f : cW) (a : Nat) (X Q : Nat → cW → Prop), NW 3 f a X Q → CONX l D clC (tysC cs) b H0 (XKd b H0 ad vs) yX2_not cX2_not 3 (some (.object "MarketDays$Node")) (10 + n) (225 + 40 * n) [.ref a] f (qR Q) X) ∧ (∀ (f : cW) (a : Nat) (X Q : Nat → cW → Prop), NW 4 f a X Q → CONX l D clC (tysC cs) b H0 (XKd b H0 ad vs) yX2_both cX2_both 2 (some (.object "MarketDays$Node")) (10 + n) (225 + 40 * n) [.ref a] f (qR Q) X) ∧ (∀ (f : cW) (a : Nat) (X Q : Nat → cW → Prop), NW 5 f a X Q → CONX l D clC (tysC cs) b H0 (XKd b H0 ad vs) yX2_either cX2_either 2 (some (.object "MarketDays$Node")) (10 + n) (225 + 40 * n) [.ref a] f (qR Q) X)) {Q : Nat → cW → Prop} {X : Nat → cW → Prop}  : ∀ (n : Nat) (x0 : Nat) (x1 : Nat) (f : cW), wlX2_sum_5 b cs ad vs NW  X Q n x0 x1 f → AGT p l e R s m args below meth c D b 3 z u (qR Q) X 5 [(0, .ref x0), (1, .ref x1)] [] f := by
  intro n
  induction n with
  | zero => intro _ _ _ h; exact h.elim
  | succ n ih => intro x0 x1 f h; exact tbX2_sum_5 E hN ih h
theorem k1X2_sum (l : Launch) (D : va_G) (cs : Nat → ClassId) (b : Nat) (H0 : Heap) (ad : Nat → Nat) (vs : Nat → Option Nat) (n : Nat) (NW : Nat → cW → Nat → (Nat → cW → Prop) → (Nat → cW → Prop) → Prop) (hN : (∀ (f : cW) (a : Nat) (X Q : Nat → cW → Prop), NW 0 f a X Q → CONX l D clC (tysC cs) b H0 (XKd b H0 ad vs) yX2_one cX2_one 2 (some (.object "MarketDays$Node")) (10 + n) (225 + 40 * n) [.ref a] f (qR Q) X) ∧ (∀ (f : cW) (a : Nat) (X Q : Nat → cW → Prop), NW 1 f a X Q → CONX l D clC (tysC cs) b H0 (XKd b H0 ad vs) yX2_term cX2_term 2 (some (.object "MarketDays$Node")) (10 + n) (225 + 40 * n) [.ref a] f (qR Q) X) ∧ (∀ (f : cW) (a : Nat) (X Q : Nat → cW → Prop), NW 2 f a X Q → CONX l D clC (tysC cs) b H0 (XKd b H0 ad vs) yX2_sum cX2_sum 3 (some (.object "MarketDays$Node")) (10 + n) (225 + 40 * n) [.ref a] f (qR Q) X) ∧ (∀ (f : cW) (a : Nat) (X Q : Nat → cW → Prop), NW 3 f a X Q → CONX l D clC (tysC cs) b H0 (XKd b H0 ad vs) yX2_not cX2_not 3 (some (.object "MarketDays$Node")) (10 + n) (225 + 40 * n) [.ref a] f (qR Q) X) ∧ (∀ (f : cW) (a : Nat) (X Q : Nat → cW → Prop), NW 4 f a X Q → CONX l D clC (tysC cs) b H0 (XKd b H0 ad vs) yX2_both cX2_both 2 (some (.object "MarketDays$Node")) (10 + n) (225 + 40 * n) [.ref a] f (qR Q) X) ∧ (∀ (f : cW) (a : Nat) (X Q : Nat → cW → Prop), NW 5 f a X Q → CONX l D clC (tysC cs) b H0 (XKd b H0 ad vs) yX2_either cX2_either 2 (some (.object "MarketDays$Node")) (10 + n) (225 + 40 * n) [.ref a] f (qR Q) X)) (f : cW) (x0 : Nat) (X Q : Nat → cW → Prop) (h : w1X2_sum b cs ad vs NW f x0 X Q) : CONX l D clC (tysC cs) b H0 (XKd b H0 ad vs) yX2_sum cX2_sum 3 (some (.object "MarketDays$Node")) (10 + (n + 1)) (225 + 40 * (n + 1)) [.ref x0] f (qR Q) X := by
  refine conx_of (by decide) (Nat.le_of_ble_eq_true rfl) (fun p e R s m below meth c E1 h0 hin0 => ?_)
  have E : EX p R s m ([.ref x0] : List Value).toArray meth c cX2_sum 3 RX2 (some (.object "MarketDays$Node")) D cs b H0 (XKd b H0 ad vs) [] (10 + (n + 1)) (225 + 40 * (n + 1)) f.2.1 f.2.2 := ⟨E1, h0⟩
  refine ag_sub (lv' := [(0, .ref x0)]) [0] rfl ?_
  refine ag_aload_n E1 dX2_sum_0 rfl 0 rfl ?_
  obtain ⟨v_1, y_2, y_3, y_4, y_5, v_6, y_7, y_8, hP_9, h⟩ := h
  refine ag_callVX E1 (ci := 12) (C := RX2) (T0 := TX2) (n2 := 8) hP_9 rfl (hN.2.1 _ _ _ _ h) (lw_V q621 q623 qs10 q92 q624) ⟨rfl, hdX2_term⟩ (by omega) (by omega) (As := []) rfl (Nat.le_of_ble_eq_true rfl) dX2_sum_1 rfl (fun v_ f_10 hv => ?_) (fun a_ w_ hx => gw_thout E rfl hx)
  obtain ⟨r_11, rfl, h⟩ := hv
  refine ag_astore_n E1 (lv' := [(1, .ref r_11), (0, .ref x0)]) dX2_sum_4 rfl (Nat.lt_of_lt_of_le (Nat.le_refl _) (Nat.le_of_ble_eq_true rfl)) rfl ?_
  refine ag_sub (lv' := [(0, .ref x0), (1, .ref r_11)]) [1, 0] rfl ?_
  obtain ⟨n, h⟩ := h
  exact tlX2_sum_5 E hN  n _ _ _ h
theorem tbX2_not_63 (E : EX p R s m args meth c cX2_not 3 RX2 (some (.object "MarketDays$Node")) D cs b H0 (XKd b H0 ad vs) [] (10 + (n + 1)) (225 + 40 * (n + 1)) z u) {NW : Nat → cW → Nat → (Nat → cW → Prop) → (Nat → cW → Prop) → Prop} (hN : (∀ (f : cW) (a : Nat) (X Q : Nat → cW → Prop), NW 0 f a X Q → CONX l D clC (tysC cs) b H0 (XKd b H0 ad vs) yX2_one cX2_one 2 (some (.object "MarketDays$Node")) (10 + n) (225 + 40 * n) [.ref a] f (qR Q) X) ∧ (∀ (f : cW) (a : Nat) (X Q : Nat → cW → Prop), NW 1 f a X Q → CONX l D clC (tysC cs) b H0 (XKd b H0 ad vs) yX2_term cX2_term 2 (some (.object "MarketDays$Node")) (10 + n) (225 + 40 * n) [.ref a] f (qR Q) X) ∧ (∀ (f : cW) (a : Nat) (X Q : Nat → cW → Prop), NW 2 f a X Q → CONX l D clC (tysC cs) b H0 (XKd b H0 ad vs) yX2_sum cX2_sum 3 (some (.object "MarketDays$Node")) (10 + n) (225 + 40 * n) [.ref a] f (qR Q) X) ∧ (∀ (f : cW) (a : Nat) (X Q : Nat → cW → Prop), NW 3 f a X Q → CONX l D clC (tysC cs) b H0 (XKd b H0 ad vs) yX2_not cX2_not 3 (some (.object "MarketDays$Node")) (10 + n) (225 + 40 * n) [.ref a] f (qR Q) X) ∧ (∀ (f : cW) (a : Nat) (X Q : Nat → cW → Prop), NW 4 f a X Q → CONX l D clC (tysC cs) b H0 (XKd b H0 ad vs) yX2_both cX2_both 2 (some (.object "MarketDays$Node")) (10 + n) (225 + 40 * n) [.ref a] f (qR Q) X) ∧ (∀ (f : cW) (a : Nat) (X Q : Nat → cW → Prop), NW 5 f a X Q → CONX l D clC (tysC cs) b H0 (XKd b H0 ad vs) yX2_either cX2_either 2 (some (.object "MarketDays$Node")) (10 + n) (225 + 40 * n) [.ref a] f (qR Q) X)) {Q : Nat → cW → Prop} {X : Nat → cW → Prop}  {x0 : Nat} {x1 : Nat} {f : cW} (h : wbX2_not_63 b cs ad vs NW  X Q x0 x1 f) : AGT p l e R s m args below meth c D b 3 z u (qR Q) X 63 [(0, .ref x0), (1, .ref x1)] [] f := by
  have E1 := E.1
  refine ag_aload_n E1 dX2_not_63 rfl 0 rfl ?_
  obtain ⟨v_32, y_33, y_34, y_35, y_36, v_37, y_38, y_39, hP_40, h⟩ := h
  refine ag_getL E1 7 (ci := 12) (C := RX2) (T := TX2) (N := 8) rfl in_X2 (by decide) q243 (fun _ h => h) dX2_not_64 hP_40 rfl ?_
  refine ag_istore_n E1 (lv' := [(2, .int y_39), (0, .ref x0), (1, .ref x1)]) dX2_not_67 rfl (Nat.lt_of_lt_of_le (Nat.le_refl _) (Nat.le_of_ble_eq_true rfl)) rfl ?_
  refine ag_aload_n E1 dX2_not_68 rfl 1 rfl ?_
  refine ag_callVX E1 (ci := 12) (C := RX2) (T0 := TX2) (n2 := 8) hP_40 rfl (kX2_next _ _ _ _ _ _ _ _ _ _ _ h) (lw_V q269 q271 qs0 q92 q272) ⟨rfl, hdX2_next⟩ (by omega) (by omega) (As := []) rfl (Nat.le_of_ble_eq_true rfl) dX2_not_69 rfl (fun v_ f_41 hv => ?_) (fun a_ w_ hx => gw_thout E rfl hx)
  obtain ⟨rfl, h⟩ := hv
  obtain ⟨hb_44, h⟩ := h
  refine ag_new E1 (ci := 11) (C := RX6) (T := TX6) (N := 3) (fs := [.int (0 : Int32), .null, .null]) tyX6 tyX6_ok in_X6 q648 q649 q106 rfl rfl hb_44 dX2_not_72 (fun a_42 f_43 e_45 e_46 => ?_)
  have h := h a_42 f_43 e_45 e_46
  have hP_47 : f_43.1 a_42 = some (.inr (11, vp_V [.int (0 : Int32), .null, .null])) := by rw [e_46, e_45]; exact wNew_s
  refine ag_dup E1 dX2_not_75 rfl ?_
  refine ag_iload_n E1 dX2_not_76 rfl 0 rfl ?_
  refine ag_aload_n E1 dX2_not_77 rfl 2 rfl ?_
  refine ag_aload_n E1 dX2_not_78 rfl 1 rfl ?_
  obtain ⟨v_48, y_49, y_50, y_51, y_52, v_53, y_54, y_55, hP_56, h⟩ := h
  refine ag_callVX E1 (ci := 12) (C := RX2) (T0 := TX2) (n2 := 8) hP_56 rfl (hN.2.2.1 _ _ _ _ h) (lw_V q617 q619 qs9 q92 q620) ⟨rfl, hdX2_sum⟩ (by omega) (by omega) (As := []) rfl (Nat.le_of_ble_eq_true rfl) dX2_not_79 rfl (fun v_ f_57 hv => ?_) (fun a_ w_ hx => gw_thout E rfl hx)
  obtain ⟨r_58, rfl, h⟩ := hv
  refine ag_callI E1 (kX6_init _ _ _ _ _ _ _ _ _ _ _ _ _ h) q652 q106 q650 q651 rfl hdX6_init (by omega) (by omega) (As := [.int y_39, .ref x1, .ref r_58]) rfl (Nat.le_of_ble_eq_true rfl) dX2_not_82 (fun v_ f_59 hv => ?_) rfl
  obtain ⟨rfl, h⟩ := hv
  exact ag_xret (gw_aret E rfl (Or.inl ⟨_, rfl⟩) (Or.inr ⟨_, rfl⟩) ⟨_, rfl, h⟩ dX2_not_85)
theorem k1X2_not (l : Launch) (D : va_G) (cs : Nat → ClassId) (b : Nat) (H0 : Heap) (ad : Nat → Nat) (vs : Nat → Option Nat) (n : Nat) (NW : Nat → cW → Nat → (Nat → cW → Prop) → (Nat → cW → Prop) → Prop) (hN : (∀ (f : cW) (a : Nat) (X Q : Nat → cW → Prop), NW 0 f a X Q → CONX l D clC (tysC cs) b H0 (XKd b H0 ad vs) yX2_one cX2_one 2 (some (.object "MarketDays$Node")) (10 + n) (225 + 40 * n) [.ref a] f (qR Q) X) ∧ (∀ (f : cW) (a : Nat) (X Q : Nat → cW → Prop), NW 1 f a X Q → CONX l D clC (tysC cs) b H0 (XKd b H0 ad vs) yX2_term cX2_term 2 (some (.object "MarketDays$Node")) (10 + n) (225 + 40 * n) [.ref a] f (qR Q) X) ∧ (∀ (f : cW) (a : Nat) (X Q : Nat → cW → Prop), NW 2 f a X Q → CONX l D clC (tysC cs) b H0 (XKd b H0 ad vs) yX2_sum cX2_sum 3 (some (.object "MarketDays$Node")) (10 + n) (225 + 40 * n) [.ref a] f (qR Q) X) ∧ (∀ (f : cW) (a : Nat) (X Q : Nat → cW → Prop), NW 3 f a X Q → CONX l D clC (tysC cs) b H0 (XKd b H0 ad vs) yX2_not cX2_not 3 (some (.object "MarketDays$Node")) (10 + n) (225 + 40 * n) [.ref a] f (qR Q) X) ∧ (∀ (f : cW) (a : Nat) (X Q : Nat → cW → Prop), NW 4 f a X Q → CONX l D clC (tysC cs) b H0 (XKd b H0 ad vs) yX2_both cX2_both 2 (some (.object "MarketDays$Node")) (10 + n) (225 + 40 * n) [.ref a] f (qR Q) X) ∧ (∀ (f : cW) (a : Nat) (X Q : Nat → cW → Prop), NW 5 f a X Q → CONX l D clC (tysC cs) b H0 (XKd b H0 ad vs) yX2_either cX2_either 2 (some (.object "MarketDays$Node")) (10 + n) (225 + 40 * n) [.ref a] f (qR Q) X)) (f : cW) (x0 : Nat) (X Q : Nat → cW → Prop) (h : w1X2_not b cs ad vs NW f x0 X Q) : CONX l D clC (tysC cs) b H0 (XKd b H0 ad vs) yX2_not cX2_not 3 (some (.object "MarketDays$Node")) (10 + (n + 1)) (225 + 40 * (n + 1)) [.ref x0] f (qR Q) X := by
  refine conx_of (by decide) (Nat.le_of_ble_eq_true rfl) (fun p e R s m below meth c E1 h0 hin0 => ?_)
  have E : EX p R s m ([.ref x0] : List Value).toArray meth c cX2_not 3 RX2 (some (.object "MarketDays$Node")) D cs b H0 (XKd b H0 ad vs) [] (10 + (n + 1)) (225 + 40 * (n + 1)) f.2.1 f.2.2 := ⟨E1, h0⟩
  refine ag_sub (lv' := [(0, .ref x0)]) [0] rfl ?_
  refine ag_aload_n E1 dX2_not_0 rfl 0 rfl ?_
  refine ag_ldcS E1 (xk_r 10 rfl) dX2_not_1 ?_
  obtain ⟨v_2, y_3, y_4, y_5, y_6, v_7, y_8, y_9, hP_10, h⟩ := h
  refine ag_callV E1 (ci := 12) (C := RX2) (T0 := TX2) (n2 := 8) hP_10 rfl (kX2_is _ _ _ _ _ _ _ _ _ _ _ h) (lw_V q575 q577 qs4 q92 q578) ⟨rfl, hdX2_is⟩ (by omega) (by omega) (As := [.ref (ad 10)]) rfl (Nat.le_of_ble_eq_true rfl) dX2_not_3 (fun v_ f_1 hv => ?_) rfl
  obtain ⟨r_11, rfl, h⟩ := hv
  refine ag_if_eq E1 (tgt := 38) dX2_not_6 (by decide) (fun c_6 => ?_) (fun c_6 => ?_)
  · have h := h.1 c_6
    refine ag_aload_n E1 dX2_not_38 rfl 0 rfl ?_
    obtain ⟨v_12, y_13, y_14, y_15, y_16, v_17, y_18, y_19, hP_20, h⟩ := h
    refine ag_callVX E1 (ci := 12) (C := RX2) (T0 := TX2) (n2 := 8) hP_20 rfl (hN.2.2.1 _ _ _ _ h) (lw_V q617 q619 qs9 q92 q620) ⟨rfl, hdX2_sum⟩ (by omega) (by omega) (As := []) rfl (Nat.le_of_ble_eq_true rfl) dX2_not_39 rfl (fun v_ f_21 hv => ?_) (fun a_ w_ hx => gw_thout E rfl hx)
    obtain ⟨r_22, rfl, h⟩ := hv
    refine ag_astore_n E1 (lv' := [(1, .ref r_22), (0, .ref x0)]) dX2_not_42 rfl (Nat.lt_of_lt_of_le (Nat.le_refl _) (Nat.le_of_ble_eq_true rfl)) rfl ?_
    refine ag_aload_n E1 dX2_not_43 rfl 1 rfl ?_
    obtain ⟨v_23, y_24, y_25, y_26, y_27, v_28, y_29, y_30, hP_31, h⟩ := h
    refine ag_getL E1 7 (ci := 12) (C := RX2) (T := TX2) (N := 8) rfl in_X2 (by decide) q243 (fun _ h => h) dX2_not_44 hP_31 rfl ?_
    refine ag_bipush E1 dX2_not_47 kb_60 ?_
    refine ag_icmp_eq E1 (tgt := 63) dX2_not_49 (by decide) (fun c_49 => ?_) (fun c_49 => ?_)
    · have h := h.1 c_49
      refine ag_sub (lv' := [(0, .ref x0), (1, .ref r_22)]) [1, 0] rfl ?_
      exact tbX2_not_63 E hN  h
    · have h := h.2 c_49
      refine ag_aload_n E1 dX2_not_52 rfl 1 rfl ?_
      refine ag_getL E1 7 (ci := 12) (C := RX2) (T := TX2) (N := 8) rfl in_X2 (by decide) q243 (fun _ h => h) dX2_not_53 hP_31 rfl ?_
      refine ag_bipush E1 dX2_not_56 kb_61 ?_
      refine ag_icmp_eq E1 (tgt := 63) dX2_not_58 (by decide) (fun c_58 => ?_) (fun c_58 => ?_)
      · have h := h.1 c_58
        refine ag_sub (lv' := [(0, .ref x0), (1, .ref r_22)]) [1, 0] rfl ?_
        exact tbX2_not_63 E hN  h
      · have h := h.2 c_58
        refine ag_aload_n E1 dX2_not_61 rfl 0 rfl ?_
        exact ag_xret (gw_aret E rfl (Or.inl ⟨_, rfl⟩) (Or.inr ⟨_, rfl⟩) ⟨_, rfl, h⟩ dX2_not_62)
  · have h := h.2 c_6
    refine ag_aload_n E1 dX2_not_9 rfl 0 rfl ?_
    obtain ⟨v_61, y_62, y_63, y_64, y_65, v_66, y_67, y_68, hP_69, h⟩ := h
    refine ag_callVX E1 (ci := 12) (C := RX2) (T0 := TX2) (n2 := 8) hP_69 rfl (kX2_opens _ _ _ _ _ _ _ _ _ _ _ h) (lw_V q600 q602 qs8 q92 q603) ⟨rfl, hdX2_opens⟩ (by omega) (by omega) (As := []) rfl (Nat.le_of_ble_eq_true rfl) dX2_not_10 rfl (fun v_ f_60 hv => ?_) (fun a_ w_ hx => gw_thout E rfl hx)
    obtain ⟨rfl, h⟩ := hv
    refine ag_aload_n E1 dX2_not_13 rfl 0 rfl ?_
    obtain ⟨v_70, y_71, y_72, y_73, y_74, v_75, y_76, y_77, hP_78, h⟩ := h
    refine ag_callVX E1 (ci := 12) (C := RX2) (T0 := TX2) (n2 := 8) hP_78 rfl (hN.2.2.2.1 _ _ _ _ h) (lw_V q595 q597 qs7 q92 q598) ⟨rfl, hdX2_not⟩ (by omega) (by omega) (As := []) rfl (Nat.le_of_ble_eq_true rfl) dX2_not_14 rfl (fun v_ f_79 hv => ?_) (fun a_ w_ hx => gw_thout E rfl hx)
    obtain ⟨r_80, rfl, h⟩ := hv
    refine ag_astore_n E1 (lv' := [(1, .ref r_80), (0, .ref x0)]) dX2_not_17 rfl (Nat.lt_of_lt_of_le (Nat.le_refl _) (Nat.le_of_ble_eq_true rfl)) rfl ?_
    refine ag_aload_n E1 dX2_not_18 rfl 1 rfl ?_
    refine ag_dup E1 dX2_not_19 rfl ?_
    obtain ⟨v_81, y_82, y_83, y_84, y_85, v_86, y_87, y_88, hP_89, h⟩ := h
    refine ag_getL E1 4 (ci := 12) (C := RX2) (T := TX2) (N := 8) rfl in_X2 (by decide) q240 (fun _ h => h) dX2_not_20 hP_89 rfl ?_
    refine ag_iconst E1 dX2_not_23 ki_1 ?_
    refine ag_isub E1 dX2_not_24 ?_
    refine ag_putL E1 4 (ci := 12) (C := RX2) (T := TX2) (N := 8) (ty := .int) tyX2 tyX2_ok nmX2 rfl in_X2 (by decide) q240 (fun _ h => h) rfl (by decide +kernel) rfl rfl dX2_not_25 hP_89 (Nat.lt_of_lt_of_le (Nat.le_refl _) (Nat.le_of_ble_eq_true rfl)) rfl (fun f_90 e_91 => ?_)
    have h := h f_90 e_91
    have hP_92 : f_90.1 x0 = some (.inr (12, vp_V [v_81, .int y_82, .int y_83, .int y_84, .int (y_85 - (1 : Int32)), v_86, .int y_87, .int y_88])) := by rw [e_91]; exact updP_s
    obtain ⟨hb_95, h⟩ := h
    refine ag_new E1 (ci := 9) (C := RX4) (T := TX4) (N := 2) (fs := [.int (0 : Int32), .null]) tyX4 tyX4_ok in_X4 q604 q605 q104 rfl rfl hb_95 dX2_not_28 (fun a_93 f_94 e_96 e_97 => ?_)
    have h := h a_93 f_94 e_96 e_97
    have hP_98 : f_94.1 a_93 = some (.inr (9, vp_V [.int (0 : Int32), .null])) := by rw [e_97, e_96]; exact wNew_s
    refine ag_dup E1 dX2_not_31 rfl ?_
    refine ag_iconst E1 dX2_not_32 ki_1 ?_
    refine ag_aload_n E1 dX2_not_33 rfl 0 rfl ?_
    refine ag_callI E1 (kX4_init _ _ _ _ _ _ _ _ _ _ _ _ h) q608 q104 q606 q607 rfl hdX4_init (by omega) (by omega) (As := [.int (1 : Int32), .ref r_80]) rfl (Nat.le_of_ble_eq_true rfl) dX2_not_34 (fun v_ f_99 hv => ?_) rfl
    obtain ⟨rfl, h⟩ := hv
    exact ag_xret (gw_aret E rfl (Or.inl ⟨_, rfl⟩) (Or.inr ⟨_, rfl⟩) ⟨_, rfl, h⟩ dX2_not_37)
theorem tbX2_both_5 (E : EX p R s m args meth c cX2_both 2 RX2 (some (.object "MarketDays$Node")) D cs b H0 (XKd b H0 ad vs) [] (10 + (n + 1)) (225 + 40 * (n + 1)) z u) {NW : Nat → cW → Nat → (Nat → cW → Prop) → (Nat → cW → Prop) → Prop} (hN : (∀ (f : cW) (a : Nat) (X Q : Nat → cW → Prop), NW 0 f a X Q → CONX l D clC (tysC cs) b H0 (XKd b H0 ad vs) yX2_one cX2_one 2 (some (.object "MarketDays$Node")) (10 + n) (225 + 40 * n) [.ref a] f (qR Q) X) ∧ (∀ (f : cW) (a : Nat) (X Q : Nat → cW → Prop), NW 1 f a X Q → CONX l D clC (tysC cs) b H0 (XKd b H0 ad vs) yX2_term cX2_term 2 (some (.object "MarketDays$Node")) (10 + n) (225 + 40 * n) [.ref a] f (qR Q) X) ∧ (∀ (f : cW) (a : Nat) (X Q : Nat → cW → Prop), NW 2 f a X Q → CONX l D clC (tysC cs) b H0 (XKd b H0 ad vs) yX2_sum cX2_sum 3 (some (.object "MarketDays$Node")) (10 + n) (225 + 40 * n) [.ref a] f (qR Q) X) ∧ (∀ (f : cW) (a : Nat) (X Q : Nat → cW → Prop), NW 3 f a X Q → CONX l D clC (tysC cs) b H0 (XKd b H0 ad vs) yX2_not cX2_not 3 (some (.object "MarketDays$Node")) (10 + n) (225 + 40 * n) [.ref a] f (qR Q) X) ∧ (∀ (f : cW) (a : Nat) (X Q : Nat → cW → Prop), NW 4 f a X Q → CONX l D clC (tysC cs) b H0 (XKd b H0 ad vs) yX2_both cX2_both 2 (some (.object "MarketDays$Node")) (10 + n) (225 + 40 * n) [.ref a] f (qR Q) X) ∧ (∀ (f : cW) (a : Nat) (X Q : Nat → cW → Prop), NW 5 f a X Q → CONX l D clC (tysC cs) b H0 (XKd b H0 ad vs) yX2_either cX2_either 2 (some (.object "MarketDays$Node")) (10 + n) (225 + 40 * n) [.ref a] f (qR Q) X)) {Q : Nat → cW → Prop} {X : Nat → cW → Prop} {K5 : Nat → Nat → cW → Prop} (hK5 : ∀ (x0 : Nat) (x1 : Nat) (f : cW), K5 x0 x1 f → AGT p l e R s m args below meth c D b 2 z u (qR Q) X 5 [(0, .ref x0), (1, .ref x1)] [] f) {x0 : Nat} {x1 : Nat} {f : cW} (h : wbX2_both_5 b cs ad vs NW K5 X Q x0 x1 f) : AGT p l e R s m args below meth c D b 2 z u (qR Q) X 5 [(0, .ref x0), (1, .ref x1)] [] f := by
  have E1 := E.1
  refine ag_aload_n E1 dX2_both_5 rfl 0 rfl ?_
  refine ag_ldcS E1 (xk_r 11 rfl) dX2_both_6 ?_
  obtain ⟨v_13, y_14, y_15, y_16, y_17, v_18, y_19, y_20, hP_21, h⟩ := h
  refine ag_callV E1 (ci := 12) (C := RX2) (T0 := TX2) (n2 := 8) hP_21 rfl (kX2_is _ _ _ _ _ _ _ _ _ _ _ h) (lw_V q575 q577 qs4 q92 q578) ⟨rfl, hdX2_is⟩ (by omega) (by omega) (As := [.ref (ad 11)]) rfl (Nat.le_of_ble_eq_true rfl) dX2_both_8 (fun v_ f_12 hv => ?_) rfl
  obtain ⟨r_22, rfl, h⟩ := hv
  refine ag_if_eq E1 (tgt := 36) dX2_both_11 (by decide) (fun c_11 => ?_) (fun c_11 => ?_)
  · have h := h.1 c_11
    refine ag_aload_n E1 dX2_both_36 rfl 1 rfl ?_
    exact ag_xret (gw_aret E rfl (Or.inl ⟨_, rfl⟩) (Or.inr ⟨_, rfl⟩) ⟨_, rfl, h⟩ dX2_both_37)
  · have h := h.2 c_11
    refine ag_aload_n E1 dX2_both_14 rfl 0 rfl ?_
    obtain ⟨v_24, y_25, y_26, y_27, y_28, v_29, y_30, y_31, hP_32, h⟩ := h
    refine ag_callVX E1 (ci := 12) (C := RX2) (T0 := TX2) (n2 := 8) hP_32 rfl (kX2_next _ _ _ _ _ _ _ _ _ _ _ h) (lw_V q269 q271 qs0 q92 q272) ⟨rfl, hdX2_next⟩ (by omega) (by omega) (As := []) rfl (Nat.le_of_ble_eq_true rfl) dX2_both_15 rfl (fun v_ f_23 hv => ?_) (fun a_ w_ hx => gw_thout E rfl hx)
    obtain ⟨rfl, h⟩ := hv
    obtain ⟨hb_35, h⟩ := h
    refine ag_new E1 (ci := 11) (C := RX6) (T := TX6) (N := 3) (fs := [.int (0 : Int32), .null, .null]) tyX6 tyX6_ok in_X6 q648 q649 q106 rfl rfl hb_35 dX2_both_18 (fun a_33 f_34 e_36 e_37 => ?_)
    have h := h a_33 f_34 e_36 e_37
    have hP_38 : f_34.1 a_33 = some (.inr (11, vp_V [.int (0 : Int32), .null, .null])) := by rw [e_37, e_36]; exact wNew_s
    refine ag_dup E1 dX2_both_21 rfl ?_
    refine ag_bipush E1 dX2_both_22 kb_38 ?_
    refine ag_aload_n E1 dX2_both_24 rfl 1 rfl ?_
    refine ag_aload_n E1 dX2_both_25 rfl 0 rfl ?_
    obtain ⟨v_39, y_40, y_41, y_42, y_43, v_44, y_45, y_46, hP_47, h⟩ := h
    refine ag_callVX E1 (ci := 12) (C := RX2) (T0 := TX2) (n2 := 8) hP_47 rfl (hN.2.2.2.1 _ _ _ _ h) (lw_V q595 q597 qs7 q92 q598) ⟨rfl, hdX2_not⟩ (by omega) (by omega) (As := []) rfl (Nat.le_of_ble_eq_true rfl) dX2_both_26 rfl (fun v_ f_48 hv => ?_) (fun a_ w_ hx => gw_thout E rfl hx)
    obtain ⟨r_49, rfl, h⟩ := hv
    refine ag_callI E1 (kX6_init _ _ _ _ _ _ _ _ _ _ _ _ _ h) q652 q106 q650 q651 rfl hdX6_init (by omega) (by omega) (As := [.int (38 : Int32), .ref x1, .ref r_49]) rfl (Nat.le_of_ble_eq_true rfl) dX2_both_29 (fun v_ f_50 hv => ?_) rfl
    obtain ⟨rfl, h⟩ := hv
    refine ag_astore_n E1 (lv' := [(1, .ref a_33), (0, .ref x0)]) dX2_both_32 rfl (Nat.lt_of_lt_of_le (Nat.le_refl _) (Nat.le_of_ble_eq_true rfl)) rfl ?_
    refine ag_goto E1 (tgt := 5) dX2_both_33 (by decide) ?_
    refine ag_sub (lv' := [(0, .ref x0), (1, .ref a_33)]) [1, 0] rfl ?_
    exact hK5 _ _ _ h
theorem tlX2_both_5 (E : EX p R s m args meth c cX2_both 2 RX2 (some (.object "MarketDays$Node")) D cs b H0 (XKd b H0 ad vs) [] (10 + (n + 1)) (225 + 40 * (n + 1)) z u) {NW : Nat → cW → Nat → (Nat → cW → Prop) → (Nat → cW → Prop) → Prop} (hN : (∀ (f : cW) (a : Nat) (X Q : Nat → cW → Prop), NW 0 f a X Q → CONX l D clC (tysC cs) b H0 (XKd b H0 ad vs) yX2_one cX2_one 2 (some (.object "MarketDays$Node")) (10 + n) (225 + 40 * n) [.ref a] f (qR Q) X) ∧ (∀ (f : cW) (a : Nat) (X Q : Nat → cW → Prop), NW 1 f a X Q → CONX l D clC (tysC cs) b H0 (XKd b H0 ad vs) yX2_term cX2_term 2 (some (.object "MarketDays$Node")) (10 + n) (225 + 40 * n) [.ref a] f (qR Q) X) ∧ (∀ (f : cW) (a : Nat) (X Q : Nat → cW → Prop), NW 2 f a X Q → CONX l D clC (tysC cs) b H0 (XKd b H0 ad vs) yX2_sum cX2_sum 3 (some (.object "MarketDays$Node")) (10 + n) (225 + 40 * n) [.ref a] f (qR Q) X) ∧ (∀ (f : cW) (a : Nat) (X Q : Nat → cW → Prop), NW 3 f a X Q → CONX l D clC (tysC cs) b H0 (XKd b H0 ad vs) yX2_not cX2_not 3 (some (.object "MarketDays$Node")) (10 + n) (225 + 40 * n) [.ref a] f (qR Q) X) ∧ (∀ (f : cW) (a : Nat) (X Q : Nat → cW → Prop), NW 4 f a X Q → CONX l D clC (tysC cs) b H0 (XKd b H0 ad vs) yX2_both cX2_both 2 (some (.object "MarketDays$Node")) (10 + n) (225 + 40 * n) [.ref a] f (qR Q) X) ∧ (∀ (f : cW) (a : Nat) (X Q : Nat → cW → Prop), NW 5 f a X Q → CONX l D clC (tysC cs) b H0 (XKd b H0 ad vs) yX2_either cX2_either 2 (some (.object "MarketDays$Node")) (10 + n) (225 + 40 * n) [.ref a] f (qR Q) X)) {Q : Nat → cW → Prop} {X : Nat → cW → Prop}  : ∀ (n : Nat) (x0 : Nat) (x1 : Nat) (f : cW), wlX2_both_5 b cs ad vs NW  X Q n x0 x1 f → AGT p l e R s m args below meth c D b 2 z u (qR Q) X 5 [(0, .ref x0), (1, .ref x1)] [] f := by
  intro n
  induction n with
  | zero => intro _ _ _ h; exact h.elim
  | succ n ih => intro x0 x1 f h; exact tbX2_both_5 E hN ih h
theorem k1X2_both (l : Launch) (D : va_G) (cs : Nat → ClassId) (b : Nat) (H0 : Heap) (ad : Nat → Nat) (vs : Nat → Option Nat) (n : Nat) (NW : Nat → cW → Nat → (Nat → cW → Prop) → (Nat → cW → Prop) → Prop) (hN : (∀ (f : cW) (a : Nat) (X Q : Nat → cW → Prop), NW 0 f a X Q → CONX l D clC (tysC cs) b H0 (XKd b H0 ad vs) yX2_one cX2_one 2 (some (.object "MarketDays$Node")) (10 + n) (225 + 40 * n) [.ref a] f (qR Q) X) ∧ (∀ (f : cW) (a : Nat) (X Q : Nat → cW → Prop), NW 1 f a X Q → CONX l D clC (tysC cs) b H0 (XKd b H0 ad vs) yX2_term cX2_term 2 (some (.object "MarketDays$Node")) (10 + n) (225 + 40 * n) [.ref a] f (qR Q) X) ∧ (∀ (f : cW) (a : Nat) (X Q : Nat → cW → Prop), NW 2 f a X Q → CONX l D clC (tysC cs) b H0 (XKd b H0 ad vs) yX2_sum cX2_sum 3 (some (.object "MarketDays$Node")) (10 + n) (225 + 40 * n) [.ref a] f (qR Q) X) ∧ (∀ (f : cW) (a : Nat) (X Q : Nat → cW → Prop), NW 3 f a X Q → CONX l D clC (tysC cs) b H0 (XKd b H0 ad vs) yX2_not cX2_not 3 (some (.object "MarketDays$Node")) (10 + n) (225 + 40 * n) [.ref a] f (qR Q) X) ∧ (∀ (f : cW) (a : Nat) (X Q : Nat → cW → Prop), NW 4 f a X Q → CONX l D clC (tysC cs) b H0 (XKd b H0 ad vs) yX2_both cX2_both 2 (some (.object "MarketDays$Node")) (10 + n) (225 + 40 * n) [.ref a] f (qR Q) X) ∧ (∀ (f : cW) (a : Nat) (X Q : Nat → cW → Prop), NW 5 f a X Q → CONX l D clC (tysC cs) b H0 (XKd b H0 ad vs) yX2_either cX2_either 2 (some (.object "MarketDays$Node")) (10 + n) (225 + 40 * n) [.ref a] f (qR Q) X)) (f : cW) (x0 : Nat) (X Q : Nat → cW → Prop) (h : w1X2_both b cs ad vs NW f x0 X Q) : CONX l D clC (tysC cs) b H0 (XKd b H0 ad vs) yX2_both cX2_both 2 (some (.object "MarketDays$Node")) (10 + (n + 1)) (225 + 40 * (n + 1)) [.ref x0] f (qR Q) X := by
  refine conx_of (by decide) (Nat.le_of_ble_eq_true rfl) (fun p e R s m below meth c E1 h0 hin0 => ?_)
  have E : EX p R s m ([.ref x0] : List Value).toArray meth c cX2_both 2 RX2 (some (.object "MarketDays$Node")) D cs b H0 (XKd b H0 ad vs) [] (10 + (n + 1)) (225 + 40 * (n + 1)) f.2.1 f.2.2 := ⟨E1, h0⟩
  refine ag_sub (lv' := [(0, .ref x0)]) [0] rfl ?_
  refine ag_aload_n E1 dX2_both_0 rfl 0 rfl ?_
  obtain ⟨v_1, y_2, y_3, y_4, y_5, v_6, y_7, y_8, hP_9, h⟩ := h
  refine ag_callVX E1 (ci := 12) (C := RX2) (T0 := TX2) (n2 := 8) hP_9 rfl (hN.2.2.2.1 _ _ _ _ h) (lw_V q595 q597 qs7 q92 q598) ⟨rfl, hdX2_not⟩ (by omega) (by omega) (As := []) rfl (Nat.le_of_ble_eq_true rfl) dX2_both_1 rfl (fun v_ f_10 hv => ?_) (fun a_ w_ hx => gw_thout E rfl hx)
  obtain ⟨r_11, rfl, h⟩ := hv
  refine ag_astore_n E1 (lv' := [(1, .ref r_11), (0, .ref x0)]) dX2_both_4 rfl (Nat.lt_of_lt_of_le (Nat.le_refl _) (Nat.le_of_ble_eq_true rfl)) rfl ?_
  refine ag_sub (lv' := [(0, .ref x0), (1, .ref r_11)]) [1, 0] rfl ?_
  obtain ⟨n, h⟩ := h
  exact tlX2_both_5 E hN  n _ _ _ h
theorem tbX2_either_5 (E : EX p R s m args meth c cX2_either 2 RX2 (some (.object "MarketDays$Node")) D cs b H0 (XKd b H0 ad vs) [] (10 + (n + 1)) (225 + 40 * (n + 1)) z u) {NW : Nat → cW → Nat → (Nat → cW → Prop) → (Nat → cW → Prop) → Prop} (hN : (∀ (f : cW) (a : Nat) (X Q : Nat → cW → Prop), NW 0 f a X Q → CONX l D clC (tysC cs) b H0 (XKd b H0 ad vs) yX2_one cX2_one 2 (some (.object "MarketDays$Node")) (10 + n) (225 + 40 * n) [.ref a] f (qR Q) X) ∧ (∀ (f : cW) (a : Nat) (X Q : Nat → cW → Prop), NW 1 f a X Q → CONX l D clC (tysC cs) b H0 (XKd b H0 ad vs) yX2_term cX2_term 2 (some (.object "MarketDays$Node")) (10 + n) (225 + 40 * n) [.ref a] f (qR Q) X) ∧ (∀ (f : cW) (a : Nat) (X Q : Nat → cW → Prop), NW 2 f a X Q → CONX l D clC (tysC cs) b H0 (XKd b H0 ad vs) yX2_sum cX2_sum 3 (some (.object "MarketDays$Node")) (10 + n) (225 + 40 * n) [.ref a] f (qR Q) X) ∧ (∀ (f : cW) (a : Nat) (X Q : Nat → cW → Prop), NW 3 f a X Q → CONX l D clC (tysC cs) b H0 (XKd b H0 ad vs) yX2_not cX2_not 3 (some (.object "MarketDays$Node")) (10 + n) (225 + 40 * n) [.ref a] f (qR Q) X) ∧ (∀ (f : cW) (a : Nat) (X Q : Nat → cW → Prop), NW 4 f a X Q → CONX l D clC (tysC cs) b H0 (XKd b H0 ad vs) yX2_both cX2_both 2 (some (.object "MarketDays$Node")) (10 + n) (225 + 40 * n) [.ref a] f (qR Q) X) ∧ (∀ (f : cW) (a : Nat) (X Q : Nat → cW → Prop), NW 5 f a X Q → CONX l D clC (tysC cs) b H0 (XKd b H0 ad vs) yX2_either cX2_either 2 (some (.object "MarketDays$Node")) (10 + n) (225 + 40 * n) [.ref a] f (qR Q) X)) {Q : Nat → cW → Prop} {X : Nat → cW → Prop} {K5 : Nat → Nat → cW → Prop} (hK5 : ∀ (x0 : Nat) (x1 : Nat) (f : cW), K5 x0 x1 f → AGT p l e R s m args below meth c D b 2 z u (qR Q) X 5 [(0, .ref x0), (1, .ref x1)] [] f) {x0 : Nat} {x1 : Nat} {f : cW} (h : wbX2_either_5 b cs ad vs NW K5 X Q x0 x1 f) : AGT p l e R s m args below meth c D b 2 z u (qR Q) X 5 [(0, .ref x0), (1, .ref x1)] [] f := by
  have E1 := E.1
  refine ag_aload_n E1 dX2_either_5 rfl 0 rfl ?_
  refine ag_ldcS E1 (xk_r 12 rfl) dX2_either_6 ?_
  obtain ⟨v_13, y_14, y_15, y_16, y_17, v_18, y_19, y_20, hP_21, h⟩ := h
  refine ag_callV E1 (ci := 12) (C := RX2) (T0 := TX2) (n2 := 8) hP_21 rfl (kX2_is _ _ _ _ _ _ _ _ _ _ _ h) (lw_V q575 q577 qs4 q92 q578) ⟨rfl, hdX2_is⟩ (by omega) (by omega) (As := [.ref (ad 12)]) rfl (Nat.le_of_ble_eq_true rfl) dX2_either_8 (fun v_ f_12 hv => ?_) rfl
  obtain ⟨r_22, rfl, h⟩ := hv
  refine ag_if_eq E1 (tgt := 36) dX2_either_11 (by decide) (fun c_11 => ?_) (fun c_11 => ?_)
  · have h := h.1 c_11
    refine ag_aload_n E1 dX2_either_36 rfl 1 rfl ?_
    exact ag_xret (gw_aret E rfl (Or.inl ⟨_, rfl⟩) (Or.inr ⟨_, rfl⟩) ⟨_, rfl, h⟩ dX2_either_37)
  · have h := h.2 c_11
    refine ag_aload_n E1 dX2_either_14 rfl 0 rfl ?_
    obtain ⟨v_24, y_25, y_26, y_27, y_28, v_29, y_30, y_31, hP_32, h⟩ := h
    refine ag_callVX E1 (ci := 12) (C := RX2) (T0 := TX2) (n2 := 8) hP_32 rfl (kX2_next _ _ _ _ _ _ _ _ _ _ _ h) (lw_V q269 q271 qs0 q92 q272) ⟨rfl, hdX2_next⟩ (by omega) (by omega) (As := []) rfl (Nat.le_of_ble_eq_true rfl) dX2_either_15 rfl (fun v_ f_23 hv => ?_) (fun a_ w_ hx => gw_thout E rfl hx)
    obtain ⟨rfl, h⟩ := hv
    obtain ⟨hb_35, h⟩ := h
    refine ag_new E1 (ci := 11) (C := RX6) (T := TX6) (N := 3) (fs := [.int (0 : Int32), .null, .null]) tyX6 tyX6_ok in_X6 q648 q649 q106 rfl rfl hb_35 dX2_either_18 (fun a_33 f_34 e_36 e_37 => ?_)
    have h := h a_33 f_34 e_36 e_37
    have hP_38 : f_34.1 a_33 = some (.inr (11, vp_V [.int (0 : Int32), .null, .null])) := by rw [e_37, e_36]; exact wNew_s
    refine ag_dup E1 dX2_either_21 rfl ?_
    refine ag_bipush E1 dX2_either_22 kb_124 ?_
    refine ag_aload_n E1 dX2_either_24 rfl 1 rfl ?_
    refine ag_aload_n E1 dX2_either_25 rfl 0 rfl ?_
    obtain ⟨v_39, y_40, y_41, y_42, y_43, v_44, y_45, y_46, hP_47, h⟩ := h
    refine ag_callVX E1 (ci := 12) (C := RX2) (T0 := TX2) (n2 := 8) hP_47 rfl (hN.2.2.2.2.1 _ _ _ _ h) (lw_V q591 q593 qs6 q92 q594) ⟨rfl, hdX2_both⟩ (by omega) (by omega) (As := []) rfl (Nat.le_of_ble_eq_true rfl) dX2_either_26 rfl (fun v_ f_48 hv => ?_) (fun a_ w_ hx => gw_thout E rfl hx)
    obtain ⟨r_49, rfl, h⟩ := hv
    refine ag_callI E1 (kX6_init _ _ _ _ _ _ _ _ _ _ _ _ _ h) q652 q106 q650 q651 rfl hdX6_init (by omega) (by omega) (As := [.int (124 : Int32), .ref x1, .ref r_49]) rfl (Nat.le_of_ble_eq_true rfl) dX2_either_29 (fun v_ f_50 hv => ?_) rfl
    obtain ⟨rfl, h⟩ := hv
    refine ag_astore_n E1 (lv' := [(1, .ref a_33), (0, .ref x0)]) dX2_either_32 rfl (Nat.lt_of_lt_of_le (Nat.le_refl _) (Nat.le_of_ble_eq_true rfl)) rfl ?_
    refine ag_goto E1 (tgt := 5) dX2_either_33 (by decide) ?_
    refine ag_sub (lv' := [(0, .ref x0), (1, .ref a_33)]) [1, 0] rfl ?_
    exact hK5 _ _ _ h
theorem tlX2_either_5 (E : EX p R s m args meth c cX2_either 2 RX2 (some (.object "MarketDays$Node")) D cs b H0 (XKd b H0 ad vs) [] (10 + (n + 1)) (225 + 40 * (n + 1)) z u) {NW : Nat → cW → Nat → (Nat → cW → Prop) → (Nat → cW → Prop) → Prop} (hN : (∀ (f : cW) (a : Nat) (X Q : Nat → cW → Prop), NW 0 f a X Q → CONX l D clC (tysC cs) b H0 (XKd b H0 ad vs) yX2_one cX2_one 2 (some (.object "MarketDays$Node")) (10 + n) (225 + 40 * n) [.ref a] f (qR Q) X) ∧ (∀ (f : cW) (a : Nat) (X Q : Nat → cW → Prop), NW 1 f a X Q → CONX l D clC (tysC cs) b H0 (XKd b H0 ad vs) yX2_term cX2_term 2 (some (.object "MarketDays$Node")) (10 + n) (225 + 40 * n) [.ref a] f (qR Q) X) ∧ (∀ (f : cW) (a : Nat) (X Q : Nat → cW → Prop), NW 2 f a X Q → CONX l D clC (tysC cs) b H0 (XKd b H0 ad vs) yX2_sum cX2_sum 3 (some (.object "MarketDays$Node")) (10 + n) (225 + 40 * n) [.ref a] f (qR Q) X) ∧ (∀ (f : cW) (a : Nat) (X Q : Nat → cW → Prop), NW 3 f a X Q → CONX l D clC (tysC cs) b H0 (XKd b H0 ad vs) yX2_not cX2_not 3 (some (.object "MarketDays$Node")) (10 + n) (225 + 40 * n) [.ref a] f (qR Q) X) ∧ (∀ (f : cW) (a : Nat) (X Q : Nat → cW → Prop), NW 4 f a X Q → CONX l D clC (tysC cs) b H0 (XKd b H0 ad vs) yX2_both cX2_both 2 (some (.object "MarketDays$Node")) (10 + n) (225 + 40 * n) [.ref a] f (qR Q) X) ∧ (∀ (f : cW) (a : Nat) (X Q : Nat → cW → Prop), NW 5 f a X Q → CONX l D clC (tysC cs) b H0 (XKd b H0 ad vs) yX2_either cX2_either 2 (some (.object "MarketDays$Node")) (10 + n) (225 + 40 * n) [.ref a] f (qR Q) X)) {Q : Nat → cW → Prop} {X : Nat → cW → Prop}  : ∀ (n : Nat) (x0 : Nat) (x1 : Nat) (f : cW), wlX2_either_5 b cs ad vs NW  X Q n x0 x1 f → AGT p l e R s m args below meth c D b 2 z u (qR Q) X 5 [(0, .ref x0), (1, .ref x1)] [] f := by
  intro n
  induction n with
  | zero => intro _ _ _ h; exact h.elim
  | succ n ih => intro x0 x1 f h; exact tbX2_either_5 E hN ih h
theorem k1X2_either (l : Launch) (D : va_G) (cs : Nat → ClassId) (b : Nat) (H0 : Heap) (ad : Nat → Nat) (vs : Nat → Option Nat) (n : Nat) (NW : Nat → cW → Nat → (Nat → cW → Prop) → (Nat → cW → Prop) → Prop) (hN : (∀ (f : cW) (a : Nat) (X Q : Nat → cW → Prop), NW 0 f a X Q → CONX l D clC (tysC cs) b H0 (XKd b H0 ad vs) yX2_one cX2_one 2 (some (.object "MarketDays$Node")) (10 + n) (225 + 40 * n) [.ref a] f (qR Q) X) ∧ (∀ (f : cW) (a : Nat) (X Q : Nat → cW → Prop), NW 1 f a X Q → CONX l D clC (tysC cs) b H0 (XKd b H0 ad vs) yX2_term cX2_term 2 (some (.object "MarketDays$Node")) (10 + n) (225 + 40 * n) [.ref a] f (qR Q) X) ∧ (∀ (f : cW) (a : Nat) (X Q : Nat → cW → Prop), NW 2 f a X Q → CONX l D clC (tysC cs) b H0 (XKd b H0 ad vs) yX2_sum cX2_sum 3 (some (.object "MarketDays$Node")) (10 + n) (225 + 40 * n) [.ref a] f (qR Q) X) ∧ (∀ (f : cW) (a : Nat) (X Q : Nat → cW → Prop), NW 3 f a X Q → CONX l D clC (tysC cs) b H0 (XKd b H0 ad vs) yX2_not cX2_not 3 (some (.object "MarketDays$Node")) (10 + n) (225 + 40 * n) [.ref a] f (qR Q) X) ∧ (∀ (f : cW) (a : Nat) (X Q : Nat → cW → Prop), NW 4 f a X Q → CONX l D clC (tysC cs) b H0 (XKd b H0 ad vs) yX2_both cX2_both 2 (some (.object "MarketDays$Node")) (10 + n) (225 + 40 * n) [.ref a] f (qR Q) X) ∧ (∀ (f : cW) (a : Nat) (X Q : Nat → cW → Prop), NW 5 f a X Q → CONX l D clC (tysC cs) b H0 (XKd b H0 ad vs) yX2_either cX2_either 2 (some (.object "MarketDays$Node")) (10 + n) (225 + 40 * n) [.ref a] f (qR Q) X)) (f : cW) (x0 : Nat) (X Q : Nat → cW → Prop) (h : w1X2_either b cs ad vs NW f x0 X Q) : CONX l D clC (tysC cs) b H0 (XKd b H0 ad vs) yX2_either cX2_either 2 (some (.object "MarketDays$Node")) (10 + (n + 1)) (225 + 40 * (n + 1)) [.ref x0] f (qR Q) X := by
  refine conx_of (by decide) (Nat.le_of_ble_eq_true rfl) (fun p e R s m below meth c E1 h0 hin0 => ?_)
  have E : EX p R s m ([.ref x0] : List Value).toArray meth c cX2_either 2 RX2 (some (.object "MarketDays$Node")) D cs b H0 (XKd b H0 ad vs) [] (10 + (n + 1)) (225 + 40 * (n + 1)) f.2.1 f.2.2 := ⟨E1, h0⟩
  refine ag_sub (lv' := [(0, .ref x0)]) [0] rfl ?_
  refine ag_aload_n E1 dX2_either_0 rfl 0 rfl ?_
  obtain ⟨v_1, y_2, y_3, y_4, y_5, v_6, y_7, y_8, hP_9, h⟩ := h
  refine ag_callVX E1 (ci := 12) (C := RX2) (T0 := TX2) (n2 := 8) hP_9 rfl (hN.2.2.2.2.1 _ _ _ _ h) (lw_V q591 q593 qs6 q92 q594) ⟨rfl, hdX2_both⟩ (by omega) (by omega) (As := []) rfl (Nat.le_of_ble_eq_true rfl) dX2_either_1 rfl (fun v_ f_10 hv => ?_) (fun a_ w_ hx => gw_thout E rfl hx)
  obtain ⟨r_11, rfl, h⟩ := hv
  refine ag_astore_n E1 (lv' := [(1, .ref r_11), (0, .ref x0)]) dX2_either_4 rfl (Nat.lt_of_lt_of_le (Nat.le_refl _) (Nat.le_of_ble_eq_true rfl)) rfl ?_
  refine ag_sub (lv' := [(0, .ref x0), (1, .ref r_11)]) [1, 0] rfl ?_
  obtain ⟨n, h⟩ := h
  exact tlX2_either_5 E hN  n _ _ _ h
theorem rd_ok (l : Launch) (D : va_G) (cs : Nat → ClassId) (b : Nat) (H0 : Heap) (ad : Nat → Nat) (vs : Nat → Option Nat) : ∀ n : Nat, (∀ (f : cW) (a : Nat) (X Q : Nat → cW → Prop), wRd b cs ad vs n 0 f a X Q → CONX l D clC (tysC cs) b H0 (XKd b H0 ad vs) yX2_one cX2_one 2 (some (.object "MarketDays$Node")) (10 + n) (225 + 40 * n) [.ref a] f (qR Q) X) ∧ (∀ (f : cW) (a : Nat) (X Q : Nat → cW → Prop), wRd b cs ad vs n 1 f a X Q → CONX l D clC (tysC cs) b H0 (XKd b H0 ad vs) yX2_term cX2_term 2 (some (.object "MarketDays$Node")) (10 + n) (225 + 40 * n) [.ref a] f (qR Q) X) ∧ (∀ (f : cW) (a : Nat) (X Q : Nat → cW → Prop), wRd b cs ad vs n 2 f a X Q → CONX l D clC (tysC cs) b H0 (XKd b H0 ad vs) yX2_sum cX2_sum 3 (some (.object "MarketDays$Node")) (10 + n) (225 + 40 * n) [.ref a] f (qR Q) X) ∧ (∀ (f : cW) (a : Nat) (X Q : Nat → cW → Prop), wRd b cs ad vs n 3 f a X Q → CONX l D clC (tysC cs) b H0 (XKd b H0 ad vs) yX2_not cX2_not 3 (some (.object "MarketDays$Node")) (10 + n) (225 + 40 * n) [.ref a] f (qR Q) X) ∧ (∀ (f : cW) (a : Nat) (X Q : Nat → cW → Prop), wRd b cs ad vs n 4 f a X Q → CONX l D clC (tysC cs) b H0 (XKd b H0 ad vs) yX2_both cX2_both 2 (some (.object "MarketDays$Node")) (10 + n) (225 + 40 * n) [.ref a] f (qR Q) X) ∧ (∀ (f : cW) (a : Nat) (X Q : Nat → cW → Prop), wRd b cs ad vs n 5 f a X Q → CONX l D clC (tysC cs) b H0 (XKd b H0 ad vs) yX2_either cX2_either 2 (some (.object "MarketDays$Node")) (10 + n) (225 + 40 * n) [.ref a] f (qR Q) X) := by
  intro n
  induction n with
  | zero => exact ⟨fun _ _ _ _ h => h.elim, fun _ _ _ _ h => h.elim, fun _ _ _ _ h => h.elim, fun _ _ _ _ h => h.elim, fun _ _ _ _ h => h.elim, fun _ _ _ _ h => h.elim⟩
  | succ n ih => exact ⟨fun f a X Q h => k1X2_one l D cs b H0 ad vs n _ ih f a X Q h, fun f a X Q h => k1X2_term l D cs b H0 ad vs n _ ih f a X Q h, fun f a X Q h => k1X2_sum l D cs b H0 ad vs n _ ih f a X Q h, fun f a X Q h => k1X2_not l D cs b H0 ad vs n _ ih f a X Q h, fun f a X Q h => k1X2_both l D cs b H0 ad vs n _ ih f a X Q h, fun f a X Q h => k1X2_either l D cs b H0 ad vs n _ ih f a X Q h⟩
theorem tbX2_parts_14 (E : EX p R s m args meth c cX2_parts 3 RX2 (some (.array (.object "MarketDays$Node"))) D cs b H0 (XKd b H0 ad vs) [] 75 2806 z u) {Q : Nat → cW → Prop} {X : Nat → cW → Prop} {K14 : Nat → Nat → Int32 → cW → Prop} (hK14 : ∀ (x0 : Nat) (x1 : Nat) (x2 : Int32) (f : cW), K14 x0 x1 x2 f → AGT p l e R s m args below meth c D b 3 z u (qR Q) X 14 [(0, .ref x0), (1, .ref x1), (2, .int x2)] [] f) {K34 : Nat → cW → Prop} (hK34 : ∀ (x0 : Nat) (f : cW), K34 x0 f → AGT p l e R s m args below meth c D b 3 z u (qR Q) X 34 [(0, .ref x0)] [] f) {K59 : Nat → cW → Prop} (hK59 : ∀ (x0 : Nat) (f : cW), K59 x0 f → AGT p l e R s m args below meth c D b 3 z u (qR Q) X 59 [(0, .ref x0)] [] f) {K74 : Nat → Nat → cW → Prop} (hK74 : ∀ (x0 : Nat) (x1 : Nat) (f : cW), K74 x0 x1 f → AGT p l e R s m args below meth c D b 3 z u (qR Q) X 74 [(0, .ref x0), (1, .ref x1)] [] f) {x0 : Nat} {x1 : Nat} {x2 : Int32} {f : cW} (h : wbX2_parts_14 b cs ad vs K14 K34 K59 K74 X Q x0 x1 x2 f) : AGT p l e R s m args below meth c D b 3 z u (qR Q) X 14 [(0, .ref x0), (1, .ref x1), (2, .int x2)] [] f := by
  have E1 := E.1
  refine ag_iload_n E1 dX2_parts_14 rfl 2 rfl ?_
  refine ag_getsN E1 xk_keys (xk_nw q265 rfl) (fun _ h => h) dX2_parts_15 ?_
  refine ag_tlen E1 (v := (2 : Int32)) xk_keysT rfl dX2_parts_18 ?_
  refine ag_icmp_ge E1 (tgt := 74) dX2_parts_19 (by decide) (fun c_19 => ?_) (fun c_19 => ?_)
  · have h := h.1 c_19
    refine ag_sub (lv' := [(0, .ref x0), (1, .ref x1)]) [0, 1] rfl ?_
    exact hK74 _ _ _ h
  · have h := h.2 c_19
    refine ag_aload_n E1 dX2_parts_22 rfl 0 rfl ?_
    refine ag_getsN E1 xk_keys (xk_nw q265 rfl) (fun _ h => h) dX2_parts_23 ?_
    refine ag_iload_n E1 dX2_parts_26 rfl 2 rfl ?_
    obtain ⟨hin_19, h⟩ := h
    refine ag_tq E1 (v := .ref (ad (Int32.toNatClampNeg x2))) xk_keysT hin_19 rfl dX2_parts_27 ?_
    obtain ⟨v_21, y_22, y_23, y_24, y_25, v_26, y_27, y_28, hP_29, h⟩ := h
    refine ag_callV E1 (ci := 12) (C := RX2) (T0 := TX2) (n2 := 8) hP_29 rfl (kX2_is _ _ _ _ _ _ _ _ _ _ _ h) (lw_V q575 q577 qs4 q92 q578) ⟨rfl, hdX2_is⟩ (Nat.le_of_ble_eq_true rfl) (Nat.le_of_ble_eq_true rfl) (As := [.ref (ad (Int32.toNatClampNeg x2))]) rfl (Nat.le_of_ble_eq_true rfl) dX2_parts_28 (fun v_ f_20 hv => ?_) rfl
    obtain ⟨r_30, rfl, h⟩ := hv
    refine ag_if_ne E1 (tgt := 39) dX2_parts_31 (by decide) (fun c_31 => ?_) (fun c_31 => ?_)
    · have h := h.1 c_31
      refine ag_aload_n E1 dX2_parts_39 rfl 0 rfl ?_
      obtain ⟨v_32, y_33, y_34, y_35, y_36, v_37, y_38, y_39, hP_40, h⟩ := h
      refine ag_callVX E1 (ci := 12) (C := RX2) (T0 := TX2) (n2 := 8) hP_40 rfl (kX2_next _ _ _ _ _ _ _ _ _ _ _ h) (lw_V q269 q271 qs0 q92 q272) ⟨rfl, hdX2_next⟩ (Nat.le_of_ble_eq_true rfl) (Nat.le_of_ble_eq_true rfl) (As := []) rfl (Nat.le_of_ble_eq_true rfl) dX2_parts_40 rfl (fun v_ f_31 hv => ?_) (fun a_ w_ hx => gw_thout E rfl hx)
      obtain ⟨rfl, h⟩ := hv
      refine ag_aload_n E1 dX2_parts_43 rfl 1 rfl ?_
      refine ag_iload_n E1 dX2_parts_44 rfl 2 rfl ?_
      refine ag_aload_n E1 dX2_parts_45 rfl 0 rfl ?_
      obtain ⟨v_41, y_42, y_43, y_44, y_45, v_46, y_47, y_48, hP_49, h⟩ := h
      obtain ⟨dn_52, hd_53, h⟩ := h
      refine ag_callVX E1 (ci := 12) (C := RX2) (T0 := TX2) (n2 := 8) hP_49 rfl ((rd_ok _ _ _ _ _ _ _ dn_52).2.2.2.2.2 _ _ _ _ h) (lw_V q587 q589 qs5 q92 q590) ⟨rfl, hdX2_either⟩ (by omega) (by omega) (As := []) rfl (Nat.le_of_ble_eq_true rfl) dX2_parts_46 rfl (fun v_ f_50 hv => ?_) (fun a_ w_ hx => gw_thout E rfl hx)
      obtain ⟨r_51, rfl, h⟩ := hv
      obtain ⟨n_54, c_55, hP_56, h⟩ := h
      obtain ⟨hin_57, h⟩ := h
      obtain ⟨ci_58, cV_59, hv_60, ho_61, h⟩ := h
      refine ag_aastO E1 (t0 := 5) hP_56 rfl hv_60 (nOk_ok ho_61) hin_57 dX2_parts_49 (fun f_62 e_63 => ?_)
      have h := h f_62 e_63
      refine ag_aload_n E1 dX2_parts_50 rfl 0 rfl ?_
      obtain ⟨v_64, y_65, y_66, y_67, y_68, v_69, y_70, y_71, hP_72, h⟩ := h
      refine ag_getL E1 7 (ci := 12) (C := RX2) (T := TX2) (N := 8) rfl in_X2 (by decide) q243 (fun _ h => h) dX2_parts_51 hP_72 rfl ?_
      refine ag_bipush E1 dX2_parts_54 kb_59 ?_
      refine ag_icmp_eq E1 (tgt := 64) dX2_parts_56 (by decide) (fun c_56 => ?_) (fun c_56 => ?_)
      · have h := h.1 c_56
        refine ag_aload_n E1 dX2_parts_64 rfl 0 rfl ?_
        refine ag_callVX E1 (ci := 12) (C := RX2) (T0 := TX2) (n2 := 8) hP_72 rfl (kX2_next _ _ _ _ _ _ _ _ _ _ _ h) (lw_V q269 q271 qs0 q92 q272) ⟨rfl, hdX2_next⟩ (Nat.le_of_ble_eq_true rfl) (Nat.le_of_ble_eq_true rfl) (As := []) rfl (Nat.le_of_ble_eq_true rfl) dX2_parts_65 rfl (fun v_ f_73 hv => ?_) (fun a_ w_ hx => gw_thout E rfl hx)
        obtain ⟨rfl, h⟩ := hv
        refine ag_iincN E1 (lv' := fun x2_74 => [(2, .int x2_74), (0, .ref x0), (1, .ref x1)]) dX2_parts_68 2 rfl ki_1 (Nat.lt_of_lt_of_le (Nat.le_refl _) (Nat.le_of_ble_eq_true rfl)) (fun _ => rfl) (fun x2_74 e_x2_74 => ?_)
        have h := h x2_74 e_x2_74
        refine ag_goto E1 (tgt := 14) dX2_parts_71 (by decide) ?_
        refine ag_sub (lv' := [(0, .ref x0), (1, .ref x1), (2, .int x2_74)]) [1, 2, 0] rfl ?_
        exact hK14 _ _ _ _ h
      · have h := h.2 c_56
        refine ag_sub (lv' := [(0, .ref x0)]) [0] rfl ?_
        exact hK59 _ _ h
    · have h := h.2 c_31
      refine ag_sub (lv' := [(0, .ref x0)]) [0] rfl ?_
      exact hK34 _ _ h
theorem tlX2_parts_14 (E : EX p R s m args meth c cX2_parts 3 RX2 (some (.array (.object "MarketDays$Node"))) D cs b H0 (XKd b H0 ad vs) [] 75 2806 z u) {Q : Nat → cW → Prop} {X : Nat → cW → Prop} {K34 : Nat → cW → Prop} (hK34 : ∀ (x0 : Nat) (f : cW), K34 x0 f → AGT p l e R s m args below meth c D b 3 z u (qR Q) X 34 [(0, .ref x0)] [] f) {K59 : Nat → cW → Prop} (hK59 : ∀ (x0 : Nat) (f : cW), K59 x0 f → AGT p l e R s m args below meth c D b 3 z u (qR Q) X 59 [(0, .ref x0)] [] f) {K74 : Nat → Nat → cW → Prop} (hK74 : ∀ (x0 : Nat) (x1 : Nat) (f : cW), K74 x0 x1 f → AGT p l e R s m args below meth c D b 3 z u (qR Q) X 74 [(0, .ref x0), (1, .ref x1)] [] f) : ∀ (n : Nat) (x0 : Nat) (x1 : Nat) (x2 : Int32) (f : cW), wlX2_parts_14 b cs ad vs K34 K59 K74 X Q n x0 x1 x2 f → AGT p l e R s m args below meth c D b 3 z u (qR Q) X 14 [(0, .ref x0), (1, .ref x1), (2, .int x2)] [] f := by
  intro n
  induction n with
  | zero => intro _ _ _ _ h; exact h.elim
  | succ n ih => intro x0 x1 x2 f h; exact tbX2_parts_14 E ih hK34 hK59 hK74 h
theorem tbX2_parts_108 (E : EX p R s m args meth c cX2_parts 3 RX2 (some (.array (.object "MarketDays$Node"))) D cs b H0 (XKd b H0 ad vs) [] 75 2806 z u) {Q : Nat → cW → Prop} {X : Nat → cW → Prop}  {x0 : Nat} {f : cW} (h : wbX2_parts_108 b cs ad vs  X Q x0 f) : AGT p l e R s m args below meth c D b 3 z u (qR Q) X 108 [(0, .ref x0)] [] f := by
  have E1 := E.1
  refine ag_aload_n E1 dX2_parts_108 rfl 0 rfl ?_
  obtain ⟨v_107, y_108, y_109, y_110, y_111, v_112, y_113, y_114, hP_115, h⟩ := h
  refine ag_callV E1 (ci := 12) (C := RX2) (T0 := TX2) (n2 := 8) hP_115 rfl (kX2_fault _ _ _ _ _ _ _ _ _ _ h) (lw_V q446 q448 qs2 q92 q449) ⟨rfl, hdX2_fault⟩ (Nat.le_of_ble_eq_true rfl) (Nat.le_of_ble_eq_true rfl) (As := []) rfl (Nat.le_of_ble_eq_true rfl) dX2_parts_109 (fun v_ f_106 hv => ?_) rfl
  obtain ⟨r_116, rfl, h⟩ := hv
  exact gw_athrow E rfl h dX2_parts_112
theorem kX2_parts (l : Launch) (D : va_G) (cs : Nat → ClassId) (b : Nat) (H0 : Heap) (ad : Nat → Nat) (vs : Nat → Option Nat) (f : cW) (x0 : Nat) (X : Nat → cW → Prop) (Q : Nat → cW → Prop) (h : wX2_parts b cs ad vs f x0 X Q) : CONX l D clC (tysC cs) b H0 (XKd b H0 ad vs) yX2_parts cX2_parts 3 (some (.array (.object "MarketDays$Node"))) 75 2806 [.ref x0] f (qR Q) X := by
  refine conx_of (by decide) (Nat.le_of_ble_eq_true rfl) (fun p e R s m below meth c E1 h0 hin0 => ?_)
  have E : EX p R s m ([.ref x0] : List Value).toArray meth c cX2_parts 3 RX2 (some (.array (.object "MarketDays$Node"))) D cs b H0 (XKd b H0 ad vs) [] 75 2806 f.2.1 f.2.2 := ⟨E1, h0⟩
  refine ag_sub (lv' := [(0, .ref x0)]) [0] rfl ?_
  refine ag_getsN E1 xk_keys (xk_nw q265 rfl) (fun _ h => h) dX2_parts_0 ?_
  refine ag_tlen E1 (v := (2 : Int32)) xk_keysT rfl dX2_parts_3 ?_
  obtain ⟨hb_3, hb_4, hb_5, h⟩ := h
  refine ag_anew E1 (t0 := 5) q267 (xk_over q268) rfl hb_3 rfl hb_4 hb_5 dX2_parts_4 (fun a_1 f_2 e_6 e_7 => ?_)
  have h := h a_1 f_2 e_6 e_7
  have hP_8 : f_2.1 a_1 = some (.inl (cs 5, (Int32.toNatClampNeg (2 : Int32)), .inr (.inr (.inr (.inr (fun _ => none)))))) := by rw [e_7, e_6]; exact wNew_s
  refine ag_astore_n E1 (lv' := [(1, .ref a_1), (0, .ref x0)]) dX2_parts_7 rfl (Nat.lt_of_lt_of_le (Nat.le_refl _) (Nat.le_of_ble_eq_true rfl)) rfl ?_
  refine ag_aload_n E1 dX2_parts_8 rfl 1 rfl ?_
  obtain ⟨v_10, y_11, y_12, y_13, y_14, v_15, y_16, y_17, hP_18, h⟩ := h
  refine ag_callVX E1 (ci := 12) (C := RX2) (T0 := TX2) (n2 := 8) hP_18 rfl (kX2_next _ _ _ _ _ _ _ _ _ _ _ h) (lw_V q269 q271 qs0 q92 q272) ⟨rfl, hdX2_next⟩ (Nat.le_of_ble_eq_true rfl) (Nat.le_of_ble_eq_true rfl) (As := []) rfl (Nat.le_of_ble_eq_true rfl) dX2_parts_9 rfl (fun v_ f_9 hv => ?_) (fun a_ w_ hx => gw_thout E rfl hx)
  obtain ⟨rfl, h⟩ := hv
  refine ag_iconst E1 dX2_parts_12 ki_0 ?_
  refine ag_istore_n E1 (lv' := [(2, .int (0 : Int32)), (1, .ref a_1), (0, .ref x0)]) dX2_parts_13 rfl (Nat.lt_of_lt_of_le (Nat.le_refl _) (Nat.le_of_ble_eq_true rfl)) rfl ?_
  refine ag_sub (lv' := [(0, .ref x0), (1, .ref a_1), (2, .int (0 : Int32))]) [2, 1, 0] rfl ?_
  obtain ⟨n, h⟩ := h
  refine tlX2_parts_14 E ?_ ?_ ?_ n _ _ _ _ h
  · intro x0 f h
    refine ag_aload_n E1 dX2_parts_34 rfl 0 rfl ?_
    obtain ⟨v_76, y_77, y_78, y_79, y_80, v_81, y_82, y_83, hP_84, h⟩ := h
    refine ag_callV E1 (ci := 12) (C := RX2) (T0 := TX2) (n2 := 8) hP_84 rfl (kX2_fault _ _ _ _ _ _ _ _ _ _ h) (lw_V q446 q448 qs2 q92 q449) ⟨rfl, hdX2_fault⟩ (Nat.le_of_ble_eq_true rfl) (Nat.le_of_ble_eq_true rfl) (As := []) rfl (Nat.le_of_ble_eq_true rfl) dX2_parts_35 (fun v_ f_75 hv => ?_) rfl
    obtain ⟨r_85, rfl, h⟩ := hv
    exact gw_athrow E rfl h dX2_parts_38
  · intro x0 f h
    refine ag_aload_n E1 dX2_parts_59 rfl 0 rfl ?_
    obtain ⟨v_87, y_88, y_89, y_90, y_91, v_92, y_93, y_94, hP_95, h⟩ := h
    refine ag_callV E1 (ci := 12) (C := RX2) (T0 := TX2) (n2 := 8) hP_95 rfl (kX2_fault _ _ _ _ _ _ _ _ _ _ h) (lw_V q446 q448 qs2 q92 q449) ⟨rfl, hdX2_fault⟩ (Nat.le_of_ble_eq_true rfl) (Nat.le_of_ble_eq_true rfl) (As := []) rfl (Nat.le_of_ble_eq_true rfl) dX2_parts_60 (fun v_ f_86 hv => ?_) rfl
    obtain ⟨r_96, rfl, h⟩ := hv
    exact gw_athrow E rfl h dX2_parts_63
  · intro x0 x1 f h
    refine ag_aload_n E1 dX2_parts_74 rfl 0 rfl ?_
    obtain ⟨v_97, y_98, y_99, y_100, y_101, v_102, y_103, y_104, hP_105, h⟩ := h
    refine ag_getL E1 2 (ci := 12) (C := RX2) (T := TX2) (N := 8) rfl in_X2 (by decide) q238 (fun _ h => h) dX2_parts_75 hP_105 rfl ?_
    refine ag_aload_n E1 dX2_parts_78 rfl 0 rfl ?_
    refine ag_getL E1 1 (ci := 12) (C := RX2) (T := TX2) (N := 8) rfl in_X2 (by decide) q237 (fun _ h => h) dX2_parts_79 hP_105 rfl ?_
    refine ag_icmp_lt E1 (tgt := 108) dX2_parts_82 (by decide) (fun c_82 => ?_) (fun c_82 => ?_)
    · have h := h.1 c_82
      refine ag_sub (lv' := [(0, .ref x0)]) [0] rfl ?_
      exact tbX2_parts_108 E  h
    · have h := h.2 c_82
      refine ag_aload_n E1 dX2_parts_85 rfl 0 rfl ?_
      refine ag_getL E1 5 (ci := 12) (C := RX2) (T := TX2) (N := 8) rfl in_X2 (by decide) q241 (fun _ h => h) dX2_parts_86 hP_105 rfl ?_
      rcases h with ⟨e_118, h⟩ | ⟨a_117, e_118, h⟩
      · rw [e_118]
        refine ag_ifnonnullN E1 dX2_parts_89 ?_
        refine ag_aload_n E1 dX2_parts_92 rfl 0 rfl ?_
        refine ag_getL E1 6 (ci := 12) (C := RX2) (T := TX2) (N := 8) rfl in_X2 (by decide) q242 (fun _ h => h) dX2_parts_93 hP_105 rfl ?_
        refine ag_iconst E1 dX2_parts_96 ki_m1 ?_
        refine ag_icmp_ne E1 (tgt := 108) dX2_parts_97 (by decide) (fun c_97 => ?_) (fun c_97 => ?_)
        · have h := h.1 c_97
          refine ag_sub (lv' := [(0, .ref x0)]) [0] rfl ?_
          exact tbX2_parts_108 E  h
        · have h := h.2 c_97
          refine ag_aload_n E1 dX2_parts_100 rfl 0 rfl ?_
          refine ag_getL E1 7 (ci := 12) (C := RX2) (T := TX2) (N := 8) rfl in_X2 (by decide) q243 (fun _ h => h) dX2_parts_101 hP_105 rfl ?_
          refine ag_iconst E1 dX2_parts_104 ki_m1 ?_
          refine ag_icmp_eq E1 (tgt := 113) dX2_parts_105 (by decide) (fun c_105 => ?_) (fun c_105 => ?_)
          · have h := h.1 c_105
            refine ag_aload_n E1 dX2_parts_113 rfl 1 rfl ?_
            exact ag_xret (gw_aret E rfl (Or.inr ⟨_, rfl⟩) (Or.inr ⟨_, rfl⟩) ⟨_, rfl, h⟩ dX2_parts_114)
          · have h := h.2 c_105
            refine ag_sub (lv' := [(0, .ref x0)]) [0] rfl ?_
            exact tbX2_parts_108 E  h
      · rw [e_118]
        refine ag_ifnonnull E1 (tgt := 108) dX2_parts_89 (by decide) ?_
        refine ag_sub (lv' := [(0, .ref x0)]) [0] rfl ?_
        exact tbX2_parts_108 E  h
theorem hdX2_parts : yX2_parts.cls ≠ "java/lang/invoke/MethodHandle" ∧ yX2_parts.cls ≠ "java/lang/invoke/VarHandle" ∧ (parseMethodDescriptor yX2_parts.desc).map (fun d => d.parameters.length) = some 0 := by decide +kernel
theorem kX15_town_c (l : Launch) (D : va_G) (cs : Nat → ClassId) (b : Nat) (H0 : Heap) (ad : Nat → Nat) (vs : Nat → Option Nat) (f : cW) (x0 : Nat) (X : Nat → cW → Prop) (Q : Int32 → cW → Prop) (h : wX15_town_c b cs ad vs f x0 X Q) : CONX l D clC (tysC cs) b H0 (XKd b H0 ad vs) yX15_town cX15_town 1 (some .int) 5 113 [.ref x0] f (qI Q) X := by
  refine conx_of (by decide) (Nat.le_of_ble_eq_true rfl) (fun p e R s m below meth c E1 h0 hin0 => ?_)
  have E : EX p R s m ([.ref x0] : List Value).toArray meth c cX15_town 1 RX15 (some .int) D cs b H0 (XKd b H0 ad vs) [] 5 113 f.2.1 f.2.2 := ⟨E1, h0⟩
  refine ag_sub (lv' := [(0, .ref x0)]) [0] rfl ?_
  refine ag_aload_n E1 dX15_town_0 rfl 0 rfl ?_
  obtain ⟨v_1, hP_2, h⟩ := h
  refine ag_getL E1 0 (ci := 15) (C := RX15) (T := TX15) (N := 1) rfl in_X15 (by decide) q1402 (fun _ h => h) dX15_town_1 hP_2 rfl ?_
  obtain ⟨k_3, e_4, h⟩ := h
  rw [e_4]
  obtain ⟨ht_5, h⟩ := h
  refine ag_instYR E1 (fun hx => (xk_C hx).1 k_3 ht_5) (fun hx => nw_self (xk_nw q1974 rfl hx)) q1410 dX15_town_4 ?_
  refine ag_if_eq E1 (tgt := 21) dX15_town_7 (by decide) (fun c_7 => ?_) (fun c_7 => ?_)
  · have h := h.1 c_7
    obtain ⟨hb_8, h⟩ := h
    refine ag_new E1 (ci := 14) (C := RX14) (T := TX14) (N := 7) (fs := [.null, .null, .null, .null, .null, .int (0 : Int32), .int (0 : Int32)]) tyX14 tyX14_ok in_X14 q1415 q1336 q117 rfl rfl hb_8 dX15_town_21 (fun a_6 f_7 e_9 e_10 => ?_)
    have h := h a_6 f_7 e_9 e_10
    have hP_11 : f_7.1 a_6 = some (.inr (14, vp_V [.null, .null, .null, .null, .null, .int (0 : Int32), .int (0 : Int32)])) := by rw [e_10, e_9]; exact wNew_s
    refine ag_dup E1 dX15_town_24 rfl ?_
    refine ag_bipush E1 dX15_town_25 kb_m13 ?_
    refine ag_callI E1 (kX14_init _ _ _ _ _ _ _ _ _ _ _ h) q1346 q117 q1416 q1345 rfl hdX14_init (Nat.le_of_ble_eq_true rfl) (Nat.le_of_ble_eq_true rfl) (As := [.int (-13 : Int32)]) rfl (Nat.le_of_ble_eq_true rfl) dX15_town_27 (fun v_ f_12 hv => ?_) rfl
    obtain ⟨rfl, h⟩ := hv
    exact gw_athrow E rfl h dX15_town_30
  · have h := h.2 c_7
    refine ag_aload_n E1 dX15_town_10 rfl 0 rfl ?_
    refine ag_getL E1 0 (ci := 15) (C := RX15) (T := TX15) (N := 1) rfl in_X15 (by decide) q1402 (fun _ h => h) dX15_town_11 hP_2 rfl ?_
    obtain ⟨k_13, e_14, h⟩ := h
    rw [e_14]
    obtain ⟨ht_15, h⟩ := h
    refine ag_castYR E1 (fun hx => (xk_C hx).1 k_13 ht_15) (fun hx => nw_self (xk_nw q1974 rfl hx)) q1410 dX15_town_14 ?_
    obtain ⟨ht_17, h⟩ := h
    refine ag_callVR E1 (fun hx => (xk_C hx).1 k_13 ht_17) (kJ18_intValue_s _ _ _ _ _ _ _ _ _ _ h) (lw_V q1411 q1412 q1413 q116 q1414) ⟨rfl, hdJ18_intValue⟩ (Nat.le_of_ble_eq_true rfl) (Nat.le_of_ble_eq_true rfl) (As := []) rfl (Nat.le_of_ble_eq_true rfl) dX15_town_17 rfl (fun v_ f_16 hv => ?_)
    obtain ⟨r_18, rfl, h⟩ := hv
    exact ag_xret (gw_iret E rfl ⟨_, rfl, h⟩ dX15_town_20)
theorem hdX15_town : yX15_town.cls ≠ "java/lang/invoke/MethodHandle" ∧ yX15_town.cls ≠ "java/lang/invoke/VarHandle" ∧ (parseMethodDescriptor yX15_town.desc).map (fun d => d.parameters.length) = some 0 := by decide +kernel
theorem kX15_town_g (l : Launch) (D : va_G) (cs : Nat → ClassId) (b : Nat) (H0 : Heap) (ad : Nat → Nat) (vs : Nat → Option Nat) (f : cW) (x0 : Nat) (X : Nat → cW → Prop) (Q : Int32 → cW → Prop) (h : wX15_town_g b cs ad vs f x0 X Q) : CONX l D clC (tysC cs) b H0 (XKd b H0 ad vs) yX15_town cX15_town 1 (some .int) 5 113 [.ref x0] f (qI Q) X := by
  refine conx_of (by decide) (Nat.le_of_ble_eq_true rfl) (fun p e R s m below meth c E1 h0 hin0 => ?_)
  have E : EX p R s m ([.ref x0] : List Value).toArray meth c cX15_town 1 RX15 (some .int) D cs b H0 (XKd b H0 ad vs) [] 5 113 f.2.1 f.2.2 := ⟨E1, h0⟩
  refine ag_sub (lv' := [(0, .ref x0)]) [0] rfl ?_
  refine ag_aload_n E1 dX15_town_0 rfl 0 rfl ?_
  obtain ⟨v_1, hP_2, h⟩ := h
  refine ag_getL E1 0 (ci := 15) (C := RX15) (T := TX15) (N := 1) rfl in_X15 (by decide) q1402 (fun _ h => h) dX15_town_1 hP_2 rfl ?_
  obtain ⟨a_3, e_4, h⟩ := h
  rw [e_4]
  obtain ⟨ci_5, cV_6, hv_7, ho_8, h⟩ := h
  refine ag_noInt E1 hv_7 ho_8 q1410 dX15_town_4 ?_
  refine ag_if_eq E1 (tgt := 21) dX15_town_7 (by decide) (fun c_7 => ?_) (fun c_7 => ?_)
  · have h := h.1 c_7
    obtain ⟨hb_11, h⟩ := h
    refine ag_new E1 (ci := 14) (C := RX14) (T := TX14) (N := 7) (fs := [.null, .null, .null, .null, .null, .int (0 : Int32), .int (0 : Int32)]) tyX14 tyX14_ok in_X14 q1415 q1336 q117 rfl rfl hb_11 dX15_town_21 (fun a_9 f_10 e_12 e_13 => ?_)
    have h := h a_9 f_10 e_12 e_13
    have hP_14 : f_10.1 a_9 = some (.inr (14, vp_V [.null, .null, .null, .null, .null, .int (0 : Int32), .int (0 : Int32)])) := by rw [e_13, e_12]; exact wNew_s
    refine ag_dup E1 dX15_town_24 rfl ?_
    refine ag_bipush E1 dX15_town_25 kb_m13 ?_
    refine ag_callI E1 (kX14_init _ _ _ _ _ _ _ _ _ _ _ h) q1346 q117 q1416 q1345 rfl hdX14_init (Nat.le_of_ble_eq_true rfl) (Nat.le_of_ble_eq_true rfl) (As := [.int (-13 : Int32)]) rfl (Nat.le_of_ble_eq_true rfl) dX15_town_27 (fun v_ f_15 hv => ?_) rfl
    obtain ⟨rfl, h⟩ := hv
    exact gw_athrow E rfl h dX15_town_30
  · have h := h.2 c_7
    exact h.elim
theorem kX15_giving_c (l : Launch) (D : va_G) (cs : Nat → ClassId) (b : Nat) (H0 : Heap) (ad : Nat → Nat) (vs : Nat → Option Nat) (f : cW) (x0 : Nat) (X : Nat → cW → Prop) (Q : Nat → cW → Prop) (h : wX15_giving_c b cs ad vs f x0 X Q) : CONX l D clC (tysC cs) b H0 (XKd b H0 ad vs) yX15_giving cX15_giving 1 (some (.object "MarketDays$Giving")) 5 113 [.ref x0] f (qR Q) X := by
  refine conx_of (by decide) (Nat.le_of_ble_eq_true rfl) (fun p e R s m below meth c E1 h0 hin0 => ?_)
  have E : EX p R s m ([.ref x0] : List Value).toArray meth c cX15_giving 1 RX15 (some (.object "MarketDays$Giving")) D cs b H0 (XKd b H0 ad vs) [] 5 113 f.2.1 f.2.2 := ⟨E1, h0⟩
  refine ag_sub (lv' := [(0, .ref x0)]) [0] rfl ?_
  refine ag_aload_n E1 dX15_giving_0 rfl 0 rfl ?_
  obtain ⟨v_1, hP_2, h⟩ := h
  refine ag_getL E1 0 (ci := 15) (C := RX15) (T := TX15) (N := 1) rfl in_X15 (by decide) q1402 (fun _ h => h) dX15_giving_1 hP_2 rfl ?_
  obtain ⟨k_3, e_4, h⟩ := h
  rw [e_4]
  obtain ⟨ht_5, h⟩ := h
  refine ag_instNoR E1 (fun hx => (xk_C hx).1 k_3 ht_5) (xk_nc (by decide)) q1421 dX15_giving_4 ?_
  refine ag_if_eq E1 (tgt := 18) dX15_giving_7 (by decide) (fun c_7 => ?_) (fun c_7 => ?_)
  · have h := h.1 c_7
    obtain ⟨hb_8, h⟩ := h
    refine ag_new E1 (ci := 14) (C := RX14) (T := TX14) (N := 7) (fs := [.null, .null, .null, .null, .null, .int (0 : Int32), .int (0 : Int32)]) tyX14 tyX14_ok in_X14 q1415 q1336 q117 rfl rfl hb_8 dX15_giving_18 (fun a_6 f_7 e_9 e_10 => ?_)
    have h := h a_6 f_7 e_9 e_10
    have hP_11 : f_7.1 a_6 = some (.inr (14, vp_V [.null, .null, .null, .null, .null, .int (0 : Int32), .int (0 : Int32)])) := by rw [e_10, e_9]; exact wNew_s
    refine ag_dup E1 dX15_giving_21 rfl ?_
    refine ag_bipush E1 dX15_giving_22 kb_m13 ?_
    refine ag_callI E1 (kX14_init _ _ _ _ _ _ _ _ _ _ _ h) q1346 q117 q1416 q1345 rfl hdX14_init (Nat.le_of_ble_eq_true rfl) (Nat.le_of_ble_eq_true rfl) (As := [.int (-13 : Int32)]) rfl (Nat.le_of_ble_eq_true rfl) dX15_giving_24 (fun v_ f_12 hv => ?_) rfl
    obtain ⟨rfl, h⟩ := hv
    exact gw_athrow E rfl h dX15_giving_27
  · have h := h.2 c_7
    exact h.elim
theorem hdX15_giving : yX15_giving.cls ≠ "java/lang/invoke/MethodHandle" ∧ yX15_giving.cls ≠ "java/lang/invoke/VarHandle" ∧ (parseMethodDescriptor yX15_giving.desc).map (fun d => d.parameters.length) = some 0 := by decide +kernel
theorem kX15_giving_g (l : Launch) (D : va_G) (cs : Nat → ClassId) (b : Nat) (H0 : Heap) (ad : Nat → Nat) (vs : Nat → Option Nat) (f : cW) (x0 : Nat) (X : Nat → cW → Prop) (Q : Nat → cW → Prop) (h : wX15_giving_g b cs ad vs f x0 X Q) : CONX l D clC (tysC cs) b H0 (XKd b H0 ad vs) yX15_giving cX15_giving 1 (some (.object "MarketDays$Giving")) 5 113 [.ref x0] f (qR Q) X := by
  refine conx_of (by decide) (Nat.le_of_ble_eq_true rfl) (fun p e R s m below meth c E1 h0 hin0 => ?_)
  have E : EX p R s m ([.ref x0] : List Value).toArray meth c cX15_giving 1 RX15 (some (.object "MarketDays$Giving")) D cs b H0 (XKd b H0 ad vs) [] 5 113 f.2.1 f.2.2 := ⟨E1, h0⟩
  refine ag_sub (lv' := [(0, .ref x0)]) [0] rfl ?_
  refine ag_aload_n E1 dX15_giving_0 rfl 0 rfl ?_
  obtain ⟨v_1, hP_2, h⟩ := h
  refine ag_getL E1 0 (ci := 15) (C := RX15) (T := TX15) (N := 1) rfl in_X15 (by decide) q1402 (fun _ h => h) dX15_giving_1 hP_2 rfl ?_
  obtain ⟨a_3, e_4, h⟩ := h
  rw [e_4]
  obtain ⟨ci_5, cV_6, hv_7, ho_8, h⟩ := h
  refine ag_instO E1 hv_7 (gOk_ok ho_8) q1421 dX15_giving_4 ?_
  refine ag_if_eq E1 (tgt := 18) dX15_giving_7 (by decide) (fun c_7 => ?_) (fun c_7 => ?_)
  · have h := h.1 c_7
    obtain ⟨hb_11, h⟩ := h
    refine ag_new E1 (ci := 14) (C := RX14) (T := TX14) (N := 7) (fs := [.null, .null, .null, .null, .null, .int (0 : Int32), .int (0 : Int32)]) tyX14 tyX14_ok in_X14 q1415 q1336 q117 rfl rfl hb_11 dX15_giving_18 (fun a_9 f_10 e_12 e_13 => ?_)
    have h := h a_9 f_10 e_12 e_13
    have hP_14 : f_10.1 a_9 = some (.inr (14, vp_V [.null, .null, .null, .null, .null, .int (0 : Int32), .int (0 : Int32)])) := by rw [e_13, e_12]; exact wNew_s
    refine ag_dup E1 dX15_giving_21 rfl ?_
    refine ag_bipush E1 dX15_giving_22 kb_m13 ?_
    refine ag_callI E1 (kX14_init _ _ _ _ _ _ _ _ _ _ _ h) q1346 q117 q1416 q1345 rfl hdX14_init (Nat.le_of_ble_eq_true rfl) (Nat.le_of_ble_eq_true rfl) (As := [.int (-13 : Int32)]) rfl (Nat.le_of_ble_eq_true rfl) dX15_giving_24 (fun v_ f_15 hv => ?_) rfl
    obtain ⟨rfl, h⟩ := hv
    exact gw_athrow E rfl h dX15_giving_27
  · have h := h.2 c_7
    refine ag_aload_n E1 dX15_giving_10 rfl 0 rfl ?_
    refine ag_getL E1 0 (ci := 15) (C := RX15) (T := TX15) (N := 1) rfl in_X15 (by decide) q1402 (fun _ h => h) dX15_giving_11 hP_2 rfl ?_
    obtain ⟨a_16, e_17, h⟩ := h
    rw [e_17]
    obtain ⟨ci_18, cV_19, hv_20, ho_21, h⟩ := h
    refine ag_castO E1 hv_20 (gOk_ok ho_21) q1421 dX15_giving_14 ?_
    exact ag_xret (gw_aret E rfl (Or.inl ⟨_, rfl⟩) (Or.inr ⟨_, rfl⟩) ⟨_, rfl, h⟩ dX15_giving_17)
theorem kX15_town (l : Launch) (D : va_G) (cs : Nat → ClassId) (b : Nat) (H0 : Heap) (ad : Nat → Nat) (vs : Nat → Option Nat) (f : cW) (x0 : Nat) (X : Nat → cW → Prop) (Q : Int32 → cW → Prop) (h : wX15_town b cs ad vs f x0 X Q) : CONX l D clC (tysC cs) b H0 (XKd b H0 ad vs) yX15_town cX15_town 1 (some .int) 5 113 [.ref x0] f (qI Q) X := h.elim (kX15_town_c l D cs b H0 ad vs f x0 X Q) (kX15_town_g l D cs b H0 ad vs f x0 X Q)
theorem kX15_giving (l : Launch) (D : va_G) (cs : Nat → ClassId) (b : Nat) (H0 : Heap) (ad : Nat → Nat) (vs : Nat → Option Nat) (f : cW) (x0 : Nat) (X : Nat → cW → Prop) (Q : Nat → cW → Prop) (h : wX15_giving b cs ad vs f x0 X Q) : CONX l D clC (tysC cs) b H0 (XKd b H0 ad vs) yX15_giving cX15_giving 1 (some (.object "MarketDays$Giving")) 5 113 [.ref x0] f (qR Q) X := h.elim (kX15_giving_c l D cs b H0 ad vs f x0 X Q) (kX15_giving_g l D cs b H0 ad vs f x0 X Q)
theorem kX0_need (l : Launch) (D : va_G) (cs : Nat → ClassId) (b : Nat) (H0 : Heap) (ad : Nat → Nat) (vs : Nat → Option Nat) (f : cW) (x0 : Int32) (x1 : Int32) (X : Nat → cW → Prop) (Q : cW → Prop) (h : wX0_need b cs ad vs f x0 x1 X Q) : CONX l D clC (tysC cs) b H0 (XKd b H0 ad vs) yX0_need cX0_need 2 none 5 113 [.int x0, .int x1] f (qV Q) X := by
  refine conx_of (by decide) (Nat.le_of_ble_eq_true rfl) (fun p e R s m below meth c E1 h0 hin0 => ?_)
  have E : EX p R s m ([.int x0, .int x1] : List Value).toArray meth c cX0_need 2 RX0 none D cs b H0 (XKd b H0 ad vs) [] 5 113 f.2.1 f.2.2 := ⟨E1, h0⟩
  refine ag_sub (lv' := [(0, .int x0), (1, .int x1)]) [0, 1] rfl ?_
  refine ag_iload_n E1 dX0_need_0 rfl 0 rfl ?_
  refine ag_if_ne E1 (tgt := 13) dX0_need_1 (by decide) (fun c_1 => ?_) (fun c_1 => ?_)
  · have h := h.1 c_1
    exact ag_xret (gw_vret E rfl ⟨rfl, h⟩ dX0_need_13)
  · have h := h.2 c_1
    obtain ⟨hb_3, h⟩ := h
    refine ag_new E1 (ci := 14) (C := RX14) (T := TX14) (N := 7) (fs := [.null, .null, .null, .null, .null, .int (0 : Int32), .int (0 : Int32)]) tyX14 tyX14_ok in_X14 q1331 q1336 q117 rfl rfl hb_3 dX0_need_4 (fun a_1 f_2 e_4 e_5 => ?_)
    have h := h a_1 f_2 e_4 e_5
    have hP_6 : f_2.1 a_1 = some (.inr (14, vp_V [.null, .null, .null, .null, .null, .int (0 : Int32), .int (0 : Int32)])) := by rw [e_5, e_4]; exact wNew_s
    refine ag_dup E1 dX0_need_7 rfl ?_
    refine ag_iload_n E1 dX0_need_8 rfl 1 rfl ?_
    refine ag_callI E1 (kX14_init _ _ _ _ _ _ _ _ _ _ _ h) q1346 q117 q1344 q1345 rfl hdX14_init (Nat.le_of_ble_eq_true rfl) (Nat.le_of_ble_eq_true rfl) (As := [.int x1]) rfl (Nat.le_of_ble_eq_true rfl) dX0_need_9 (fun v_ f_7 hv => ?_) rfl
    obtain ⟨rfl, h⟩ := hv
    exact gw_athrow E rfl h dX0_need_12
theorem hdX0_need : yX0_need.cls ≠ "java/lang/invoke/MethodHandle" ∧ yX0_need.cls ≠ "java/lang/invoke/VarHandle" ∧ (parseMethodDescriptor yX0_need.desc).map (fun d => d.parameters.length) = some 2 := by decide +kernel
theorem tbX0_read_9 (E : EX p R s m args meth c cX0_read 3 RX0 (some (.array (.object "MarketDays$Node"))) D cs b H0 (XKd b H0 ad vs) [] 76 2828 z u) {Q : Nat → cW → Prop} {X : Nat → cW → Prop} {K9 : Nat → Nat → Int32 → cW → Prop} (hK9 : ∀ (x0 : Nat) (x1 : Nat) (x2 : Int32) (f : cW), K9 x0 x1 x2 f → AGT p l e R s m args below meth c D b 3 z u (qR Q) X 9 [(0, .ref (ad x0)), (1, .ref x1), (2, .int x2)] [] f) {K30 : Nat → cW → Prop} (hK30 : ∀ (x1 : Nat) (f : cW), K30 x1 f → AGT p l e R s m args below meth c D b 3 z u (qR Q) X 30 [(1, .ref x1)] [] f) {x0 : Nat} {x1 : Nat} {x2 : Int32} {f : cW} (h : wbX0_read_9 b cs ad vs K9 K30 X Q x0 x1 x2 f) : AGT p l e R s m args below meth c D b 3 z u (qR Q) X 9 [(0, .ref (ad x0)), (1, .ref x1), (2, .int x2)] [] f := by
  have E1 := E.1
  refine ag_iload_n E1 dX0_read_9 rfl 2 rfl ?_
  refine ag_aload_n E1 dX0_read_10 rfl 1 rfl ?_
  obtain ⟨n_12, c_13, hP_14, h⟩ := h
  refine ag_alen E1 (t0 := 1) hP_14 rfl rfl dX0_read_11 ?_
  refine ag_icmp_ge E1 (tgt := 30) dX0_read_12 (by decide) (fun c_12 => ?_) (fun c_12 => ?_)
  · have h := h.1 c_12
    refine ag_sub (lv' := [(1, .ref x1)]) [1] rfl ?_
    exact hK30 _ _ h
  · have h := h.2 c_12
    refine ag_aload_n E1 dX0_read_15 rfl 1 rfl ?_
    refine ag_iload_n E1 dX0_read_16 rfl 2 rfl ?_
    refine ag_aload_n E1 dX0_read_17 rfl 0 rfl ?_
    refine ag_iload_n E1 dX0_read_18 rfl 2 rfl ?_
    obtain ⟨ht_16, h⟩ := h
    refine ag_callVR E1 (fun hx => (xk_s x0 ht_16 hx).1) (kJ3_charAt_s _ _ _ _ _ _ _ _ _ _ _ h) (lw_V q192 q193 q194 q88 q195) ⟨rfl, hdJ3_charAt⟩ (Nat.le_of_ble_eq_true rfl) (Nat.le_of_ble_eq_true rfl) (As := [.int x2]) rfl (Nat.le_of_ble_eq_true rfl) dX0_read_19 rfl (fun v_ f_15 hv => ?_)
    obtain ⟨r_17, rfl, h⟩ := hv
    refine ag_i2b E1 dX0_read_22 ?_
    obtain ⟨n_18, c_19, hP_20, h⟩ := h
    obtain ⟨hin_21, h⟩ := h
    refine ag_bast E1 (t0 := 1) hP_20 rfl hin_21 dX0_read_23 ?_
    refine ag_named (fun f_22 e_23 => ?_)
    have h := h f_22 e_23
    refine ag_iincN E1 (lv' := fun x2_24 => [(2, .int x2_24), (0, .ref (ad x0)), (1, .ref x1)]) dX0_read_24 2 rfl ki_1 (Nat.lt_of_lt_of_le (Nat.le_refl _) (Nat.le_of_ble_eq_true rfl)) (fun _ => rfl) (fun x2_24 e_x2_24 => ?_)
    have h := h x2_24 e_x2_24
    refine ag_goto E1 (tgt := 9) dX0_read_27 (by decide) ?_
    refine ag_sub (lv' := [(0, .ref (ad x0)), (1, .ref x1), (2, .int x2_24)]) [1, 2, 0] rfl ?_
    exact hK9 _ _ _ _ h
theorem tlX0_read_9 (E : EX p R s m args meth c cX0_read 3 RX0 (some (.array (.object "MarketDays$Node"))) D cs b H0 (XKd b H0 ad vs) [] 76 2828 z u) {Q : Nat → cW → Prop} {X : Nat → cW → Prop} {K30 : Nat → cW → Prop} (hK30 : ∀ (x1 : Nat) (f : cW), K30 x1 f → AGT p l e R s m args below meth c D b 3 z u (qR Q) X 30 [(1, .ref x1)] [] f) : ∀ (n : Nat) (x0 : Nat) (x1 : Nat) (x2 : Int32) (f : cW), wlX0_read_9 b cs ad vs K30 X Q n x0 x1 x2 f → AGT p l e R s m args below meth c D b 3 z u (qR Q) X 9 [(0, .ref (ad x0)), (1, .ref x1), (2, .int x2)] [] f := by
  intro n
  induction n with
  | zero => intro _ _ _ _ h; exact h.elim
  | succ n ih => intro x0 x1 x2 f h; exact tbX0_read_9 E ih hK30 h
theorem kX0_read (l : Launch) (D : va_G) (cs : Nat → ClassId) (b : Nat) (H0 : Heap) (ad : Nat → Nat) (vs : Nat → Option Nat) (f : cW) (x0 : Nat) (X : Nat → cW → Prop) (Q : Nat → cW → Prop) (h : wX0_read b cs ad vs f x0 X Q) : CONX l D clC (tysC cs) b H0 (XKd b H0 ad vs) yX0_read cX0_read 3 (some (.array (.object "MarketDays$Node"))) 76 2828 [.ref (ad x0)] f (qR Q) X := by
  refine conx_of (by decide) (Nat.le_of_ble_eq_true rfl) (fun p e R s m below meth c E1 h0 hin0 => ?_)
  have E : EX p R s m ([.ref (ad x0)] : List Value).toArray meth c cX0_read 3 RX0 (some (.array (.object "MarketDays$Node"))) D cs b H0 (XKd b H0 ad vs) [] 76 2828 f.2.1 f.2.2 := ⟨E1, h0⟩
  refine ag_sub (lv' := [(0, .ref (ad x0))]) [0] rfl ?_
  refine ag_aload_n E1 dX0_read_0 rfl 0 rfl ?_
  obtain ⟨ht_2, h⟩ := h
  refine ag_callVR E1 (fun hx => (xk_s x0 ht_2 hx).1) (kJ3_length_s _ _ _ _ _ _ _ _ _ _ h) (lw_V q182 q183 q184 q88 q185) ⟨rfl, hdJ3_length⟩ (Nat.le_of_ble_eq_true rfl) (Nat.le_of_ble_eq_true rfl) (As := []) rfl (Nat.le_of_ble_eq_true rfl) dX0_read_1 rfl (fun v_ f_1 hv => ?_)
  obtain ⟨r_3, rfl, h⟩ := hv
  obtain ⟨hb_6, hb_7, hb_8, h⟩ := h
  refine ag_newarr_byte E1 (t0 := 1) q177 rfl hb_6 rfl hb_7 hb_8 dX0_read_4 (fun a_4 f_5 e_9 e_10 => ?_)
  have h := h a_4 f_5 e_9 e_10
  have hP_11 : f_5.1 a_4 = some (.inl (cs 1, (Int32.toNatClampNeg r_3), .inl (fun _ => 0))) := by rw [e_10, e_9]; exact wNew_s
  refine ag_astore_n E1 (lv' := [(1, .ref a_4), (0, .ref (ad x0))]) dX0_read_6 rfl (Nat.lt_of_lt_of_le (Nat.le_refl _) (Nat.le_of_ble_eq_true rfl)) rfl ?_
  refine ag_iconst E1 dX0_read_7 ki_0 ?_
  refine ag_istore_n E1 (lv' := [(2, .int (0 : Int32)), (1, .ref a_4), (0, .ref (ad x0))]) dX0_read_8 rfl (Nat.lt_of_lt_of_le (Nat.le_refl _) (Nat.le_of_ble_eq_true rfl)) rfl ?_
  refine ag_sub (lv' := [(0, .ref (ad x0)), (1, .ref a_4), (2, .int (0 : Int32))]) [2, 1, 0] rfl ?_
  obtain ⟨n, h⟩ := h
  refine tlX0_read_9 E ?_ n _ _ _ _ h
  · intro x1 f h
    obtain ⟨hb_27, h⟩ := h
    refine ag_new E1 (ci := 12) (C := RX2) (T := TX2) (N := 8) (fs := [.null, .int (0 : Int32), .int (0 : Int32), .int (0 : Int32), .int (0 : Int32), .null, .int (0 : Int32), .int (0 : Int32)]) tyX2 tyX2_ok in_X2 q230 q231 q92 rfl rfl hb_27 dX0_read_30 (fun a_25 f_26 e_28 e_29 => ?_)
    have h := h a_25 f_26 e_28 e_29
    have hP_30 : f_26.1 a_25 = some (.inr (12, vp_V [.null, .int (0 : Int32), .int (0 : Int32), .int (0 : Int32), .int (0 : Int32), .null, .int (0 : Int32), .int (0 : Int32)])) := by rw [e_29, e_28]; exact wNew_s
    refine ag_dup E1 dX0_read_33 rfl ?_
    refine ag_aload_n E1 dX0_read_34 rfl 0 rfl ?_
    refine ag_aload_n E1 dX0_read_35 rfl 0 rfl ?_
    obtain ⟨n_31, c_32, hP_33, h⟩ := h
    refine ag_alen E1 (t0 := 1) hP_33 rfl rfl dX0_read_36 ?_
    refine ag_callI E1 (kX2_init _ _ _ _ _ _ _ _ _ _ _ _ h) q234 q92 q232 q233 rfl hdX2_init (Nat.le_of_ble_eq_true rfl) (Nat.le_of_ble_eq_true rfl) (As := [.ref x1, .int (Int32.ofNat n_31)]) rfl (Nat.le_of_ble_eq_true rfl) dX0_read_37 (fun v_ f_34 hv => ?_) rfl
    obtain ⟨rfl, h⟩ := hv
    obtain ⟨v_36, y_37, y_38, y_39, y_40, v_41, y_42, y_43, hP_44, h⟩ := h
    refine ag_callVX E1 (ci := 12) (C := RX2) (T0 := TX2) (n2 := 8) hP_44 rfl (kX2_parts _ _ _ _ _ _ _ _ _ _ _ h) (lw_V q261 q262 q263 q92 q264) ⟨rfl, hdX2_parts⟩ (Nat.le_of_ble_eq_true rfl) (Nat.le_of_ble_eq_true rfl) (As := []) rfl (Nat.le_of_ble_eq_true rfl) dX0_read_40 rfl (fun v_ f_35 hv => ?_) (fun a_ w_ hx => gw_thout E rfl hx)
    obtain ⟨r_45, rfl, h⟩ := hv
    exact ag_xret (gw_aret E rfl (Or.inr ⟨_, rfl⟩) (Or.inr ⟨_, rfl⟩) ⟨_, rfl, h⟩ dX0_read_43)
theorem hdX0_read : yX0_read.cls ≠ "java/lang/invoke/MethodHandle" ∧ yX0_read.cls ≠ "java/lang/invoke/VarHandle" ∧ (parseMethodDescriptor yX0_read.desc).map (fun d => d.parameters.length) = some 1 := by decide +kernel
end
