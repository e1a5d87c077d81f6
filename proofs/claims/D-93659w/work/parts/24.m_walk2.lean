/-! walks of the reference's methods (by program) -/
set_option maxRecDepth 100000
set_option maxHeartbeats 4000000
section
variable {p : Program} {l : Launch} {e : Env} {R : Room} {s : State} {m : MethodId} {args : Array Value} {below : List Frame} {meth : Method} {c : Code} {D : va_G} {cs : Nat → ClassId} {b o z u : Nat} {Z : cP} {H0 : Heap} {XK : State → Prop}
theorem tbX7_judge_32 (E : EM p R s m args meth c cX7_judge 4 (some .long) D cs b H0 XK 6 145 z u) {Q : Int64 → St → Prop}  {x1 : Int32} {x2 : Int32} {x3 : Int32} {f : St} (h : wbX7_judge_32  Q x1 x2 x3 f) : AM p l e R s m args below meth c D cs b 4 o Z z u (pJ Q) 32 [(0, .ref o), (1, .int x1), (2, .int x2), (3, .int x3)] [] f := by
  have E1 := E.1
  refine ag_aload_n E1 dX7_judge_32 rfl 0 rfl ?_
  refine am_callVv E [] (kX7_spreads _ _ _ _ _ _ _ _ _ _ _  _ h) (lw_V q1640 q1642 qs47 q107 q1643) hdX7_spreads (Nat.le_of_ble_eq_true rfl) (Nat.le_of_ble_eq_true rfl) rfl (Nat.le_of_ble_eq_true rfl) dX7_judge_33 rfl (fun f_5 h => ?_)
  refine ag_aload_n E1 dX7_judge_36 rfl 0 rfl ?_
  refine ag_iload_n E1 dX7_judge_37 rfl 1 rfl ?_
  refine ag_iload_n E1 dX7_judge_38 rfl 2 rfl ?_
  refine am_callVv E [.int x1, .int x2] (kX7_laysNow _ _ _ _ _ _ _ _ _ _ _ _ _ _ h) (lw_V q1776 q1778 qs66 q107 q1779) hdX7_laysNow (Nat.le_of_ble_eq_true rfl) (Nat.le_of_ble_eq_true rfl) rfl (Nat.le_of_ble_eq_true rfl) dX7_judge_39 rfl (fun f_6 h => ?_)
  refine ag_iload_n E1 dX7_judge_42 rfl 3 rfl ?_
  refine ag_iconst E1 dX7_judge_43 ki_m1 ?_
  refine ag_icmp_ne E1 (tgt := 62) dX7_judge_44 (by decide) (fun c_44 => ?_) (fun c_44 => ?_)
  · have h := h.1 c_44
    refine ag_aload_n E1 dX7_judge_62 rfl 0 rfl ?_
    refine ag_aload_n E1 dX7_judge_63 rfl 0 rfl ?_
    refine am_geta E 17 (i := 11) (by decide) (by decide) rfl q1467 dX7_judge_64 ?_
    refine ag_iload_n E1 dX7_judge_67 rfl 1 rfl ?_
    obtain ⟨hin, h⟩ := h
    refine am_iald E 17 rfl rfl rfl (by decide) hin dX7_judge_68 ?_
    refine ag_iload_n E1 dX7_judge_69 rfl 3 rfl ?_
    refine am_callVi E [.int (f_6 17 (Int32.toNatClampNeg x1)), .int x3] (kX7_worthIn _ _ _ _ _ _ _ _ _ _ _ _ _ _ h) (lw_V q1804 q1806 qs71 q107 q1807) hdX7_worthIn (Nat.le_of_ble_eq_true rfl) (Nat.le_of_ble_eq_true rfl) rfl (Nat.le_of_ble_eq_true rfl) dX7_judge_70 rfl (fun r_8 f_7 h => ?_)
    refine ag_i2l E1 dX7_judge_73 ?_
    exact am_lret E rfl ⟨_, rfl, h⟩ dX7_judge_74
  · have h := h.2 c_44
    refine ag_aload_n E1 dX7_judge_47 rfl 0 rfl ?_
    refine ag_aload_n E1 dX7_judge_48 rfl 0 rfl ?_
    refine am_geta E 17 (i := 11) (by decide) (by decide) rfl q1467 dX7_judge_49 ?_
    refine ag_iload_n E1 dX7_judge_52 rfl 1 rfl ?_
    obtain ⟨hin, h⟩ := h
    refine am_iald E 17 rfl rfl rfl (by decide) hin dX7_judge_53 ?_
    refine ag_iconst E1 dX7_judge_54 ki_m1 ?_
    refine am_callVi E [.int (f_6 17 (Int32.toNatClampNeg x1)), .int (-1 : Int32)] (kX7_worthAll _ _ _ _ _ _ _ _ _ _ _ _ _ _ h) (lw_V q1800 q1802 qs70 q107 q1803) hdX7_worthAll (Nat.le_of_ble_eq_true rfl) (Nat.le_of_ble_eq_true rfl) rfl (Nat.le_of_ble_eq_true rfl) dX7_judge_55 rfl (fun r_10 f_9 h => ?_)
    refine ag_i2l E1 dX7_judge_58 ?_
    refine ag_goto E1 (tgt := 74) dX7_judge_59 (by decide) ?_
    exact am_lret E rfl ⟨_, rfl, h⟩ dX7_judge_74
theorem kX7_judge (l : Launch) (D : va_G) (cs : Nat → ClassId) (b : Nat) (H0 : Heap) (XK : State → Prop) (o : Nat) (Z : cP) (z u : Nat) (f : St) (x1 : Int32) (x2 : Int32) (x3 : Int32) (Q : Int64 → St → Prop) (h : wX7_judge f x1 x2 x3 Q) : CM l D cs b H0 XK o Z z u yX7_judge cX7_judge 4 (some .long) 6 145 [.ref o, .int x1, .int x2, .int x3] f (pJ Q) := by
  refine cm_of (by decide) rfl (Nat.le_of_ble_eq_true rfl) (fun p e R s m below meth c E => ?_)
  have E1 := E.1
  refine ag_sub (lv' := [(0, .ref o), (1, .int x1), (2, .int x2), (3, .int x3)]) [0, 1, 2, 3] rfl ?_
  refine ag_aload_n E1 dX7_judge_0 rfl 0 rfl ?_
  refine ag_iload_n E1 dX7_judge_1 rfl 1 rfl ?_
  refine am_callVi E [.int x1] (kX7_isGiving _ _ _ _ _ _ _ _ _ _ _ _ _ h) (lw_V q1756 q1758 qs62 q107 q1759) hdX7_isGiving (Nat.le_of_ble_eq_true rfl) (Nat.le_of_ble_eq_true rfl) rfl (Nat.le_of_ble_eq_true rfl) dX7_judge_2 rfl (fun r_2 f_1 h => ?_)
  refine ag_if_eq E1 (tgt := 28) dX7_judge_5 (by decide) (fun c_5 => ?_) (fun c_5 => ?_)
  · have h := h.1 c_5
    refine ag_ldc2 E1 q1720 dX7_judge_28 ?_
    exact am_lret E rfl ⟨_, rfl, h⟩ dX7_judge_31
  · have h := h.2 c_5
    refine ag_iload_n E1 dX7_judge_8 rfl 2 rfl ?_
    refine am_callSi E [.int x2] (kX7_isWeek _ _ _ _ _ _ _ _ _ _ _ _ _ h) (lw_S q1660 q1661 q107 q1662) hdX7_isWeek (Nat.le_of_ble_eq_true rfl) (Nat.le_of_ble_eq_true rfl) rfl (Nat.le_of_ble_eq_true rfl) dX7_judge_9 rfl (fun r_4 f_3 h => ?_)
    refine ag_if_eq E1 (tgt := 28) dX7_judge_12 (by decide) (fun c_12 => ?_) (fun c_12 => ?_)
    · have h := h.1 c_12
      refine ag_ldc2 E1 q1720 dX7_judge_28 ?_
      exact am_lret E rfl ⟨_, rfl, h⟩ dX7_judge_31
    · have h := h.2 c_12
      refine ag_iload_n E1 dX7_judge_15 rfl 3 rfl ?_
      refine ag_iconst E1 dX7_judge_16 ki_m1 ?_
      refine ag_icmp_eq E1 (tgt := 32) dX7_judge_17 (by decide) (fun c_17 => ?_) (fun c_17 => ?_)
      · have h := h.1 c_17
        exact tbX7_judge_32 E  h
      · have h := h.2 c_17
        refine ag_aload_n E1 dX7_judge_20 rfl 0 rfl ?_
        refine ag_iload_n E1 dX7_judge_21 rfl 3 rfl ?_
        refine am_callVi E [.int x3] (kX7_isTown _ _ _ _ _ _ _ _ _ _ _ _ _ h) (lw_V q1632 q1634 qs46 q107 q1635) hdX7_isTown (Nat.le_of_ble_eq_true rfl) (Nat.le_of_ble_eq_true rfl) rfl (Nat.le_of_ble_eq_true rfl) dX7_judge_22 rfl (fun r_12 f_11 h => ?_)
        refine ag_if_ne E1 (tgt := 32) dX7_judge_25 (by decide) (fun c_25 => ?_) (fun c_25 => ?_)
        · have h := h.1 c_25
          exact tbX7_judge_32 E  h
        · have h := h.2 c_25
          refine ag_ldc2 E1 q1720 dX7_judge_28 ?_
          exact am_lret E rfl ⟨_, rfl, h⟩ dX7_judge_31
theorem hdX7_judge : yX7_judge.cls = RX7 ∧ yX7_judge.cls ≠ "java/lang/invoke/MethodHandle" ∧ yX7_judge.cls ≠ "java/lang/invoke/VarHandle" ∧ (parseMethodDescriptor yX7_judge.desc).map (fun d => d.parameters.length) = some 3 := by decide +kernel
theorem kX7_givingTold (l : Launch) (D : va_G) (cs : Nat → ClassId) (b : Nat) (H0 : Heap) (XK : State → Prop) (o : Nat) (Z : cP) (z u : Nat) (f : St) (x1 : Int32) (x2 : Int32) (Q : Int32 → St → Prop) (h : wX7_givingTold f x1 x2 Q) : CM l D cs b H0 XK o Z z u yX7_givingTold cX7_givingTold 3 (some .int) 2 43 [.ref o, .int x1, .int x2] f (pI Q) := by
  refine cm_of (by decide) rfl (Nat.le_of_ble_eq_true rfl) (fun p e R s m below meth c E => ?_)
  have E1 := E.1
  refine ag_sub (lv' := [(0, .ref o), (1, .int x1), (2, .int x2)]) [0, 1, 2] rfl ?_
  refine ag_aload_n E1 dX7_givingTold_0 rfl 0 rfl ?_
  refine ag_iload_n E1 dX7_givingTold_1 rfl 1 rfl ?_
  refine am_callVi E [.int x1] (kX7_isGiving _ _ _ _ _ _ _ _ _ _ _ _ _ h) (lw_V q1756 q1758 qs62 q107 q1759) hdX7_isGiving (Nat.le_of_ble_eq_true rfl) (Nat.le_of_ble_eq_true rfl) rfl (Nat.le_of_ble_eq_true rfl) dX7_givingTold_2 rfl (fun r_2 f_1 h => ?_)
  refine ag_if_ne E1 (tgt := 11) dX7_givingTold_5 (by decide) (fun c_5 => ?_) (fun c_5 => ?_)
  · have h := h.1 c_5
    refine ag_iload_n E1 dX7_givingTold_11 rfl 2 rfl ?_
    refine ag_if_ne E1 (tgt := 24) dX7_givingTold_12 (by decide) (fun c_12 => ?_) (fun c_12 => ?_)
    · have h := h.1 c_12
      refine ag_iload_n E1 dX7_givingTold_24 rfl 2 rfl ?_
      refine ag_iconst E1 dX7_givingTold_25 ki_1 ?_
      refine ag_icmp_ne E1 (tgt := 38) dX7_givingTold_26 (by decide) (fun c_26 => ?_) (fun c_26 => ?_)
      · have h := h.1 c_26
        refine ag_iload_n E1 dX7_givingTold_38 rfl 2 rfl ?_
        refine ag_iconst E1 dX7_givingTold_39 ki_2 ?_
        refine ag_icmp_ne E1 (tgt := 61) dX7_givingTold_40 (by decide) (fun c_40 => ?_) (fun c_40 => ?_)
        · have h := h.1 c_40
          refine ag_bipush E1 dX7_givingTold_61 kb_m7 ?_
          exact am_iret E rfl ⟨_, rfl, h⟩ dX7_givingTold_63
        · have h := h.2 c_40
          refine ag_aload_n E1 dX7_givingTold_43 rfl 0 rfl ?_
          refine am_geta E 17 (i := 11) (by decide) (by decide) rfl q1467 dX7_givingTold_44 ?_
          refine ag_iload_n E1 dX7_givingTold_47 rfl 1 rfl ?_
          obtain ⟨hin, h⟩ := h
          refine am_iald E 17 rfl rfl rfl (by decide) hin dX7_givingTold_48 ?_
          refine ag_iconst E1 dX7_givingTold_49 ki_5 ?_
          refine ag_icmp_ne E1 (tgt := 57) dX7_givingTold_50 (by decide) (fun c_50 => ?_) (fun c_50 => ?_)
          · have h := h.1 c_50
            refine ag_iconst E1 dX7_givingTold_57 ki_1 ?_
            refine ag_goto E1 (tgt := 63) dX7_givingTold_58 (by decide) ?_
            exact am_iret E rfl ⟨_, rfl, h⟩ dX7_givingTold_63
          · have h := h.2 c_50
            refine ag_iconst E1 dX7_givingTold_53 ki_0 ?_
            refine ag_goto E1 (tgt := 63) dX7_givingTold_54 (by decide) ?_
            exact am_iret E rfl ⟨_, rfl, h⟩ dX7_givingTold_63
      · have h := h.2 c_26
        refine ag_aload_n E1 dX7_givingTold_29 rfl 0 rfl ?_
        refine am_geta E 18 (i := 12) (by decide) (by decide) rfl q1468 dX7_givingTold_30 ?_
        refine ag_iload_n E1 dX7_givingTold_33 rfl 1 rfl ?_
        obtain ⟨hin, h⟩ := h
        refine am_iald E 18 rfl rfl rfl (by decide) hin dX7_givingTold_34 ?_
        refine ag_goto E1 (tgt := 63) dX7_givingTold_35 (by decide) ?_
        exact am_iret E rfl ⟨_, rfl, h⟩ dX7_givingTold_63
    · have h := h.2 c_12
      refine ag_aload_n E1 dX7_givingTold_15 rfl 0 rfl ?_
      refine am_geta E 17 (i := 11) (by decide) (by decide) rfl q1467 dX7_givingTold_16 ?_
      refine ag_iload_n E1 dX7_givingTold_19 rfl 1 rfl ?_
      obtain ⟨hin, h⟩ := h
      refine am_iald E 17 rfl rfl rfl (by decide) hin dX7_givingTold_20 ?_
      refine ag_goto E1 (tgt := 63) dX7_givingTold_21 (by decide) ?_
      exact am_iret E rfl ⟨_, rfl, h⟩ dX7_givingTold_63
  · have h := h.2 c_5
    refine ag_bipush E1 dX7_givingTold_8 kb_m5 ?_
    exact am_iret E rfl ⟨_, rfl, h⟩ dX7_givingTold_10
theorem hdX7_givingTold : yX7_givingTold.cls = RX7 ∧ yX7_givingTold.cls ≠ "java/lang/invoke/MethodHandle" ∧ yX7_givingTold.cls ≠ "java/lang/invoke/VarHandle" ∧ (parseMethodDescriptor yX7_givingTold.desc).map (fun d => d.parameters.length) = some 2 := by decide +kernel
theorem kX7_all (l : Launch) (D : va_G) (cs : Nat → ClassId) (b : Nat) (H0 : Heap) (XK : State → Prop) (o : Nat) (Z : cP) (z u : Nat) (f : St)  (Q : Int32 → St → Prop) (h : wX7_all f  Q) : CM l D cs b H0 XK o Z z u yX7_all cX7_all 1 (some .int) 0 0 [.ref o] f (pI Q) := by
  refine cm_of (by decide) rfl (Nat.le_of_ble_eq_true rfl) (fun p e R s m below meth c E => ?_)
  have E1 := E.1
  refine ag_sub (lv' := [(0, .ref o)]) [0] rfl ?_
  refine ag_iconst E1 dX7_all_0 ki_1 ?_
  refine ag_aload_n E1 dX7_all_1 rfl 0 rfl ?_
  refine am_geti E 0 (by decide) rfl q1450 dX7_all_2 ?_
  refine ag_ishl E1 dX7_all_5 ?_
  refine ag_iconst E1 dX7_all_6 ki_1 ?_
  refine ag_isub E1 dX7_all_7 ?_
  exact am_iret E rfl ⟨_, rfl, h⟩ dX7_all_8
theorem hdX7_all : yX7_all.cls = RX7 ∧ yX7_all.cls ≠ "java/lang/invoke/MethodHandle" ∧ yX7_all.cls ≠ "java/lang/invoke/VarHandle" ∧ (parseMethodDescriptor yX7_all.desc).map (fun d => d.parameters.length) = some 0 := by decide +kernel
theorem tbX7_isFree_2 (E : EM p R s m args meth c cX7_isFree 3 (some .boolean) D cs b H0 XK 2 46 z u) {Q : Int32 → St → Prop} {K2 : Int32 → Int32 → St → Prop} (hK2 : ∀ (x1 : Int32) (x2 : Int32) (f : St), K2 x1 x2 f → AM p l e R s m args below meth c D cs b 3 o Z z u (pI Q) 2 [(0, .ref o), (1, .int x1), (2, .int x2)] [] f) {x1 : Int32} {x2 : Int32} {f : St} (h : wbX7_isFree_2 K2 Q x1 x2 f) : AM p l e R s m args below meth c D cs b 3 o Z z u (pI Q) 2 [(0, .ref o), (1, .int x1), (2, .int x2)] [] f := by
  have E1 := E.1
  refine ag_iload_n E1 dX7_isFree_2 rfl 2 rfl ?_
  refine ag_iload_n E1 dX7_isFree_3 rfl 1 rfl ?_
  refine ag_icmp_gt E1 (tgt := 24) dX7_isFree_4 (by decide) (fun c_4 => ?_) (fun c_4 => ?_)
  · have h := h.1 c_4
    refine ag_iconst E1 dX7_isFree_24 ki_1 ?_
    exact am_zret E rfl (Or.inr rfl) ⟨_, rfl, h⟩ dX7_isFree_25
  · have h := h.2 c_4
    refine ag_aload_n E1 dX7_isFree_7 rfl 0 rfl ?_
    refine ag_iload_n E1 dX7_isFree_8 rfl 2 rfl ?_
    refine ag_iload_n E1 dX7_isFree_9 rfl 1 rfl ?_
    refine am_callVi E [.int x2, .int x1] (kX7_doBar _ _ _ _ _ _ _ _ _ _ _ _ _ _ h) (lw_V q1784 q1786 qs68 q107 q1787) hdX7_doBar (Nat.le_of_ble_eq_true rfl) (Nat.le_of_ble_eq_true rfl) rfl (Nat.le_of_ble_eq_true rfl) dX7_isFree_10 rfl (fun r_2 f_1 h => ?_)
    refine ag_if_eq E1 (tgt := 18) dX7_isFree_13 (by decide) (fun c_13 => ?_) (fun c_13 => ?_)
    · have h := h.1 c_13
      refine ag_iincN E1 (lv' := fun x2_3 => [(2, .int x2_3), (0, .ref o), (1, .int x1)]) dX7_isFree_18 2 rfl ki_1 (Nat.lt_of_lt_of_le (Nat.le_refl _) (Nat.le_of_ble_eq_true rfl)) (fun _ => rfl) (fun x2_3 e_x2_3 => ?_)
      have h := h x2_3 e_x2_3
      refine ag_goto E1 (tgt := 2) dX7_isFree_21 (by decide) ?_
      refine ag_sub (lv' := [(0, .ref o), (1, .int x1), (2, .int x2_3)]) [1, 2, 0] rfl ?_
      exact hK2 _ _ _ h
    · have h := h.2 c_13
      refine ag_iconst E1 dX7_isFree_16 ki_0 ?_
      exact am_zret E rfl (Or.inl rfl) ⟨_, rfl, h⟩ dX7_isFree_17
theorem tlX7_isFree_2 (E : EM p R s m args meth c cX7_isFree 3 (some .boolean) D cs b H0 XK 2 46 z u) {Q : Int32 → St → Prop}  : ∀ (n : Nat) (x1 : Int32) (x2 : Int32) (f : St), wlX7_isFree_2  Q n x1 x2 f → AM p l e R s m args below meth c D cs b 3 o Z z u (pI Q) 2 [(0, .ref o), (1, .int x1), (2, .int x2)] [] f := by
  intro n
  induction n with
  | zero => intro _ _ _ h; exact h.elim
  | succ n ih => intro x1 x2 f h; exact tbX7_isFree_2 E ih h
theorem kX7_isFree (l : Launch) (D : va_G) (cs : Nat → ClassId) (b : Nat) (H0 : Heap) (XK : State → Prop) (o : Nat) (Z : cP) (z u : Nat) (f : St) (x1 : Int32) (Q : Int32 → St → Prop) (h : wX7_isFree f x1 Q) : CM l D cs b H0 XK o Z z u yX7_isFree cX7_isFree 3 (some .boolean) 2 46 [.ref o, .int x1] f (pI Q) := by
  refine cm_of (by decide) rfl (Nat.le_of_ble_eq_true rfl) (fun p e R s m below meth c E => ?_)
  have E1 := E.1
  refine ag_sub (lv' := [(0, .ref o), (1, .int x1)]) [0, 1] rfl ?_
  refine ag_iconst E1 dX7_isFree_0 ki_0 ?_
  refine ag_istore_n E1 (lv' := [(2, .int (0 : Int32)), (0, .ref o), (1, .int x1)]) dX7_isFree_1 rfl (Nat.lt_of_lt_of_le (Nat.le_refl _) (Nat.le_of_ble_eq_true rfl)) rfl ?_
  refine ag_sub (lv' := [(0, .ref o), (1, .int x1), (2, .int (0 : Int32))]) [1, 2, 0] rfl ?_
  obtain ⟨n, h⟩ := h
  exact tlX7_isFree_2 E  n _ _ _ h
theorem hdX7_isFree : yX7_isFree.cls = RX7 ∧ yX7_isFree.cls ≠ "java/lang/invoke/MethodHandle" ∧ yX7_isFree.cls ≠ "java/lang/invoke/VarHandle" ∧ (parseMethodDescriptor yX7_isFree.desc).map (fun d => d.parameters.length) = some 1 := by decide +kernel
theorem tbX7_nextWay_118 (E : EM p R s m args meth c cX7_nextWay 6 (some .boolean) D cs b H0 XK 3 68 z u) {Q : Int32 → St → Prop} {K118 : Int32 → Int32 → St → Prop} (hK118 : ∀ (x1 : Int32) (x3 : Int32) (f : St), K118 x1 x3 f → AM p l e R s m args below meth c D cs b 6 o Z z u (pI Q) 118 [(0, .ref o), (1, .int x1), (3, .int x3)] [] f) {K154 : Int32 → Int32 → St → Prop} (hK154 : ∀ (x1 : Int32) (x3 : Int32) (f : St), K154 x1 x3 f → AM p l e R s m args below meth c D cs b 6 o Z z u (pI Q) 154 [(0, .ref o), (1, .int x1), (3, .int x3)] [] f) {x1 : Int32} {x3 : Int32} {f : St} (h : wbX7_nextWay_118 K118 K154 Q x1 x3 f) : AM p l e R s m args below meth c D cs b 6 o Z z u (pI Q) 118 [(0, .ref o), (1, .int x1), (3, .int x3)] [] f := by
  have E1 := E.1
  refine ag_aload_n E1 dX7_nextWay_118 rfl 0 rfl ?_
  refine am_geta E 52 (i := 31) (by decide) (by decide) rfl q1502 dX7_nextWay_119 ?_
  refine ag_iload_n E1 dX7_nextWay_122 rfl 2 rfl ?_
  obtain ⟨hin, h⟩ := h
  refine am_iald E 52 rfl rfl rfl (by decide) hin dX7_nextWay_123 ?_
  refine ag_iconst E1 dX7_nextWay_124 ki_1 ?_
  refine ag_aload_n E1 dX7_nextWay_125 rfl 0 rfl ?_
  refine am_geti E 6 (by decide) rfl q1456 dX7_nextWay_126 ?_
  refine ag_ishl E1 dX7_nextWay_129 ?_
  refine ag_icmp_ge E1 (tgt := 154) dX7_nextWay_130 (by decide) (fun c_130 => ?_) (fun c_130 => ?_)
  · have h := h.1 c_130
    exact hK154 _ _ _ h
  · have h := h.2 c_130
    refine ag_aload_n E1 dX7_nextWay_133 rfl 0 rfl ?_
    refine ag_iload_n E1 dX7_nextWay_134 rfl 2 rfl ?_
    refine am_callVi E [.int x3] (kX7_isFree _ _ _ _ _ _ _ _ _ _ _ _ _ h) (lw_V q1828 q1830 qs75 q107 q1831) hdX7_isFree (Nat.le_of_ble_eq_true rfl) (Nat.le_of_ble_eq_true rfl) rfl (Nat.le_of_ble_eq_true rfl) dX7_nextWay_135 rfl (fun r_3 f_2 h => ?_)
    refine ag_if_ne E1 (tgt := 154) dX7_nextWay_138 (by decide) (fun c_138 => ?_) (fun c_138 => ?_)
    · have h := h.1 c_138
      exact hK154 _ _ _ h
    · have h := h.2 c_138
      refine ag_aload_n E1 dX7_nextWay_141 rfl 0 rfl ?_
      refine am_geta E 52 (i := 31) (by decide) (by decide) rfl q1502 dX7_nextWay_142 ?_
      refine ag_iload_n E1 dX7_nextWay_145 rfl 2 rfl ?_
      refine ag_dup2 E1 dX7_nextWay_146 rfl rfl ?_
      obtain ⟨hin, h⟩ := h
      refine am_iald E 52 rfl rfl rfl (by decide) hin dX7_nextWay_147 ?_
      refine ag_iconst E1 dX7_nextWay_148 ki_1 ?_
      refine ag_ishl E1 dX7_nextWay_149 ?_
      obtain ⟨hin, h⟩ := h
      refine am_iast E 52 rfl rfl rfl (by decide) hin dX7_nextWay_150 (fun f_4 e_f_4 => ?_)
      have h := h f_4 e_f_4
      refine ag_goto E1 (tgt := 118) dX7_nextWay_151 (by decide) ?_
      exact hK118 _ _ _ h
theorem tlX7_nextWay_118 (E : EM p R s m args meth c cX7_nextWay 6 (some .boolean) D cs b H0 XK 3 68 z u) {Q : Int32 → St → Prop} {K154 : Int32 → Int32 → St → Prop} (hK154 : ∀ (x1 : Int32) (x3 : Int32) (f : St), K154 x1 x3 f → AM p l e R s m args below meth c D cs b 6 o Z z u (pI Q) 154 [(0, .ref o), (1, .int x1), (3, .int x3)] [] f) : ∀ (n : Nat) (x1 : Int32) (x3 : Int32) (f : St), wlX7_nextWay_118 K154 Q n x1 x3 f → AM p l e R s m args below meth c D cs b 6 o Z z u (pI Q) 118 [(0, .ref o), (1, .int x1), (3, .int x3)] [] f := by
  intro n
  induction n with
  | zero => intro _ _ _ h; exact h.elim
  | succ n ih => intro x1 x3 f h; exact tbX7_nextWay_118 E ih hK154 h
theorem tbX7_nextWay_208 (E : EM p R s m args meth c cX7_nextWay 6 (some .boolean) D cs b H0 XK 3 68 z u) {Q : Int32 → St → Prop} {K48 : Int32 → Int32 → Int32 → St → Prop} (hK48 : ∀ (x1 : Int32) (x3 : Int32) (x4 : Int32) (f : St), K48 x1 x3 x4 f → AM p l e R s m args below meth c D cs b 6 o Z z u (pI Q) 48 [(0, .ref o), (1, .int x1), (3, .int x3), (4, .int x4)] [] f) {K213 : Int32 → St → Prop} (hK213 : ∀ (x3 : Int32) (f : St), K213 x3 f → AM p l e R s m args below meth c D cs b 6 o Z z u (pI Q) 213 [(0, .ref o), (3, .int x3)] [] f) {x1 : Int32} {x4 : Int32} {t0 : Int32} {t1 : Int32} {f : St} (h : wbX7_nextWay_208 K48 K213 Q x1 x4 t0 t1 f) : AM p l e R s m args below meth c D cs b 6 o Z z u (pI Q) 208 [(0, .ref o), (1, .int x1), (4, .int x4)] [.int t0, .int t1] f := by
  have E1 := E.1
  refine ag_iadd E1 dX7_nextWay_208 ?_
  refine ag_topi (fun x3_6 e_x3_6 => ?_)
  have h := h x3_6 e_x3_6
  refine ag_istore_n E1 (lv' := [(3, .int x3_6), (0, .ref o), (1, .int x1), (4, .int x4)]) dX7_nextWay_209 rfl (Nat.lt_of_lt_of_le (Nat.le_refl _) (Nat.le_of_ble_eq_true rfl)) rfl ?_
  refine ag_goto E1 (tgt := 48) dX7_nextWay_210 (by decide) ?_
  refine ag_sub (lv' := [(0, .ref o), (1, .int x1), (3, .int x3_6), (4, .int x4)]) [1, 2, 0, 3] rfl ?_
  exact hK48 _ _ _ _ h
theorem tbX7_nextWay_196 (E : EM p R s m args meth c cX7_nextWay 6 (some .boolean) D cs b H0 XK 3 68 z u) {Q : Int32 → St → Prop} {K48 : Int32 → Int32 → Int32 → St → Prop} (hK48 : ∀ (x1 : Int32) (x3 : Int32) (x4 : Int32) (f : St), K48 x1 x3 x4 f → AM p l e R s m args below meth c D cs b 6 o Z z u (pI Q) 48 [(0, .ref o), (1, .int x1), (3, .int x3), (4, .int x4)] [] f) {K213 : Int32 → St → Prop} (hK213 : ∀ (x3 : Int32) (f : St), K213 x3 f → AM p l e R s m args below meth c D cs b 6 o Z z u (pI Q) 213 [(0, .ref o), (3, .int x3)] [] f) {x1 : Int32} {x3 : Int32} {x4 : Int32} {t0 : Int32} {t1 : Int32} {f : St} (h : wbX7_nextWay_196 K48 K213 Q x1 x3 x4 t0 t1 f) : AM p l e R s m args below meth c D cs b 6 o Z z u (pI Q) 196 [(0, .ref o), (1, .int x1), (3, .int x3), (4, .int x4)] [.int t0, .int t1, .ref (o + 31)] f := by
  have E1 := E.1
  obtain ⟨hin, h⟩ := h
  refine am_iast E 52 rfl rfl rfl (by decide) hin dX7_nextWay_196 (fun f_5 e_f_5 => ?_)
  have h := h f_5 e_f_5
  refine ag_iload_n E1 dX7_nextWay_197 rfl 2 rfl ?_
  refine ag_iload E1 dX7_nextWay_198 3 rfl ?_
  refine ag_if_eq E1 (tgt := 207) dX7_nextWay_200 (by decide) (fun c_200 => ?_) (fun c_200 => ?_)
  · have h := h.1 c_200
    refine ag_iconst E1 dX7_nextWay_207 ki_m1 ?_
    refine ag_sub (lv' := [(0, .ref o), (1, .int x1), (4, .int x4)]) [0, 1, 3] rfl ?_
    exact tbX7_nextWay_208 E hK48 hK213 h
  · have h := h.2 c_200
    refine ag_iconst E1 dX7_nextWay_203 ki_1 ?_
    refine ag_goto E1 (tgt := 208) dX7_nextWay_204 (by decide) ?_
    refine ag_sub (lv' := [(0, .ref o), (1, .int x1), (4, .int x4)]) [0, 1, 3] rfl ?_
    exact tbX7_nextWay_208 E hK48 hK213 h
theorem tbX7_nextWay_174 (E : EM p R s m args meth c cX7_nextWay 6 (some .boolean) D cs b H0 XK 3 68 z u) {Q : Int32 → St → Prop} {K48 : Int32 → Int32 → Int32 → St → Prop} (hK48 : ∀ (x1 : Int32) (x3 : Int32) (x4 : Int32) (f : St), K48 x1 x3 x4 f → AM p l e R s m args below meth c D cs b 6 o Z z u (pI Q) 48 [(0, .ref o), (1, .int x1), (3, .int x3), (4, .int x4)] [] f) {K213 : Int32 → St → Prop} (hK213 : ∀ (x3 : Int32) (f : St), K213 x3 f → AM p l e R s m args below meth c D cs b 6 o Z z u (pI Q) 213 [(0, .ref o), (3, .int x3)] [] f) {x1 : Int32} {x3 : Int32} {t0 : Int32} {f : St} (h : wbX7_nextWay_174 K48 K213 Q x1 x3 t0 f) : AM p l e R s m args below meth c D cs b 6 o Z z u (pI Q) 174 [(0, .ref o), (1, .int x1), (3, .int x3)] [.int t0] f := by
  have E1 := E.1
  refine ag_istore E1 (lv' := [(4, .int t0), (0, .ref o), (1, .int x1), (3, .int x3)]) dX7_nextWay_174 (Nat.lt_of_lt_of_le (Nat.le_refl _) (Nat.le_of_ble_eq_true rfl)) rfl ?_
  refine ag_aload_n E1 dX7_nextWay_176 rfl 1 rfl ?_
  refine am_geta E 52 (i := 31) (by decide) (by decide) rfl q1502 dX7_nextWay_177 ?_
  refine ag_iload_n E1 dX7_nextWay_180 rfl 3 rfl ?_
  refine ag_iload E1 dX7_nextWay_181 0 rfl ?_
  refine ag_if_eq E1 (tgt := 195) dX7_nextWay_183 (by decide) (fun c_183 => ?_) (fun c_183 => ?_)
  · have h := h.1 c_183
    refine ag_iconst E1 dX7_nextWay_195 ki_0 ?_
    refine ag_sub (lv' := [(0, .ref o), (1, .int x1), (3, .int x3), (4, .int t0)]) [1, 2, 3, 0] rfl ?_
    exact tbX7_nextWay_196 E hK48 hK213 h
  · have h := h.2 c_183
    refine ag_aload_n E1 dX7_nextWay_186 rfl 1 rfl ?_
    refine am_geta E 52 (i := 31) (by decide) (by decide) rfl q1502 dX7_nextWay_187 ?_
    refine ag_iload_n E1 dX7_nextWay_190 rfl 3 rfl ?_
    obtain ⟨hin, h⟩ := h
    refine am_iald E 52 rfl rfl rfl (by decide) hin dX7_nextWay_191 ?_
    refine ag_goto E1 (tgt := 196) dX7_nextWay_192 (by decide) ?_
    refine ag_sub (lv' := [(0, .ref o), (1, .int x1), (3, .int x3), (4, .int t0)]) [1, 2, 3, 0] rfl ?_
    exact tbX7_nextWay_196 E hK48 hK213 h
theorem tbX7_nextWay_154 (E : EM p R s m args meth c cX7_nextWay 6 (some .boolean) D cs b H0 XK 3 68 z u) {Q : Int32 → St → Prop} {K48 : Int32 → Int32 → Int32 → St → Prop} (hK48 : ∀ (x1 : Int32) (x3 : Int32) (x4 : Int32) (f : St), K48 x1 x3 x4 f → AM p l e R s m args below meth c D cs b 6 o Z z u (pI Q) 48 [(0, .ref o), (1, .int x1), (3, .int x3), (4, .int x4)] [] f) {K213 : Int32 → St → Prop} (hK213 : ∀ (x3 : Int32) (f : St), K213 x3 f → AM p l e R s m args below meth c D cs b 6 o Z z u (pI Q) 213 [(0, .ref o), (3, .int x3)] [] f) {x1 : Int32} {x3 : Int32} {f : St} (h : wbX7_nextWay_154 K48 K213 Q x1 x3 f) : AM p l e R s m args below meth c D cs b 6 o Z z u (pI Q) 154 [(0, .ref o), (1, .int x1), (3, .int x3)] [] f := by
  have E1 := E.1
  refine ag_aload_n E1 dX7_nextWay_154 rfl 0 rfl ?_
  refine am_geta E 52 (i := 31) (by decide) (by decide) rfl q1502 dX7_nextWay_155 ?_
  refine ag_iload_n E1 dX7_nextWay_158 rfl 2 rfl ?_
  obtain ⟨hin, h⟩ := h
  refine am_iald E 52 rfl rfl rfl (by decide) hin dX7_nextWay_159 ?_
  refine ag_iconst E1 dX7_nextWay_160 ki_1 ?_
  refine ag_aload_n E1 dX7_nextWay_161 rfl 0 rfl ?_
  refine am_geti E 6 (by decide) rfl q1456 dX7_nextWay_162 ?_
  refine ag_ishl E1 dX7_nextWay_165 ?_
  refine ag_icmp_ge E1 (tgt := 173) dX7_nextWay_166 (by decide) (fun c_166 => ?_) (fun c_166 => ?_)
  · have h := h.1 c_166
    refine ag_iconst E1 dX7_nextWay_173 ki_0 ?_
    exact tbX7_nextWay_174 E hK48 hK213 h
  · have h := h.2 c_166
    refine ag_iconst E1 dX7_nextWay_169 ki_1 ?_
    refine ag_goto E1 (tgt := 174) dX7_nextWay_170 (by decide) ?_
    exact tbX7_nextWay_174 E hK48 hK213 h
theorem tbX7_nextWay_117 (E : EM p R s m args meth c cX7_nextWay 6 (some .boolean) D cs b H0 XK 3 68 z u) {Q : Int32 → St → Prop} {K48 : Int32 → Int32 → Int32 → St → Prop} (hK48 : ∀ (x1 : Int32) (x3 : Int32) (x4 : Int32) (f : St), K48 x1 x3 x4 f → AM p l e R s m args below meth c D cs b 6 o Z z u (pI Q) 48 [(0, .ref o), (1, .int x1), (3, .int x3), (4, .int x4)] [] f) {K213 : Int32 → St → Prop} (hK213 : ∀ (x3 : Int32) (f : St), K213 x3 f → AM p l e R s m args below meth c D cs b 6 o Z z u (pI Q) 213 [(0, .ref o), (3, .int x3)] [] f) {x1 : Int32} {x3 : Int32} {t0 : Int32} {t1 : Int32} {f : St} (h : wbX7_nextWay_117 K48 K213 Q x1 x3 t0 t1 f) : AM p l e R s m args below meth c D cs b 6 o Z z u (pI Q) 117 [(0, .ref o), (1, .int x1), (3, .int x3)] [.int t0, .int t1, .ref (o + 31)] f := by
  have E1 := E.1
  obtain ⟨hin, h⟩ := h
  refine am_iast E 52 rfl rfl rfl (by decide) hin dX7_nextWay_117 (fun f_1 e_f_1 => ?_)
  have h := h f_1 e_f_1
  obtain ⟨n, h⟩ := h
  refine tlX7_nextWay_118 E ?_ n _ _ _ h
  · intro x1 x3 f h
    exact tbX7_nextWay_154 E hK48 hK213 h
theorem tbX7_nextWay_86 (E : EM p R s m args meth c cX7_nextWay 6 (some .boolean) D cs b H0 XK 3 68 z u) {Q : Int32 → St → Prop} {K48 : Int32 → Int32 → Int32 → St → Prop} (hK48 : ∀ (x1 : Int32) (x3 : Int32) (x4 : Int32) (f : St), K48 x1 x3 x4 f → AM p l e R s m args below meth c D cs b 6 o Z z u (pI Q) 48 [(0, .ref o), (1, .int x1), (3, .int x3), (4, .int x4)] [] f) {K213 : Int32 → St → Prop} (hK213 : ∀ (x3 : Int32) (f : St), K213 x3 f → AM p l e R s m args below meth c D cs b 6 o Z z u (pI Q) 213 [(0, .ref o), (3, .int x3)] [] f) {x1 : Int32} {x4 : Int32} {t0 : Int32} {t1 : Int32} {f : St} (h : wbX7_nextWay_86 K48 K213 Q x1 x4 t0 t1 f) : AM p l e R s m args below meth c D cs b 6 o Z z u (pI Q) 86 [(0, .ref o), (1, .int x1), (4, .int x4)] [.int t0, .int t1] f := by
  have E1 := E.1
  refine ag_iadd E1 dX7_nextWay_86 ?_
  refine ag_topi (fun x3_8 e_x3_8 => ?_)
  have h := h x3_8 e_x3_8
  refine ag_istore_n E1 (lv' := [(3, .int x3_8), (0, .ref o), (1, .int x1), (4, .int x4)]) dX7_nextWay_87 rfl (Nat.lt_of_lt_of_le (Nat.le_refl _) (Nat.le_of_ble_eq_true rfl)) rfl ?_
  refine ag_goto E1 (tgt := 48) dX7_nextWay_88 (by decide) ?_
  refine ag_sub (lv' := [(0, .ref o), (1, .int x1), (3, .int x3_8), (4, .int x4)]) [1, 2, 0, 3] rfl ?_
  exact hK48 _ _ _ _ h
theorem tbX7_nextWay_48 (E : EM p R s m args meth c cX7_nextWay 6 (some .boolean) D cs b H0 XK 3 68 z u) {Q : Int32 → St → Prop} {K48 : Int32 → Int32 → Int32 → St → Prop} (hK48 : ∀ (x1 : Int32) (x3 : Int32) (x4 : Int32) (f : St), K48 x1 x3 x4 f → AM p l e R s m args below meth c D cs b 6 o Z z u (pI Q) 48 [(0, .ref o), (1, .int x1), (3, .int x3), (4, .int x4)] [] f) {K213 : Int32 → St → Prop} (hK213 : ∀ (x3 : Int32) (f : St), K213 x3 f → AM p l e R s m args below meth c D cs b 6 o Z z u (pI Q) 213 [(0, .ref o), (3, .int x3)] [] f) {x1 : Int32} {x3 : Int32} {x4 : Int32} {f : St} (h : wbX7_nextWay_48 K48 K213 Q x1 x3 x4 f) : AM p l e R s m args below meth c D cs b 6 o Z z u (pI Q) 48 [(0, .ref o), (1, .int x1), (3, .int x3), (4, .int x4)] [] f := by
  have E1 := E.1
  refine ag_iload_n E1 dX7_nextWay_48 rfl 2 rfl ?_
  refine ag_if_lt E1 (tgt := 213) dX7_nextWay_49 (by decide) (fun c_49 => ?_) (fun c_49 => ?_)
  · have h := h.1 c_49
    refine ag_sub (lv' := [(0, .ref o), (3, .int x3)]) [0, 2] rfl ?_
    exact hK213 _ _ h
  · have h := h.2 c_49
    refine ag_iload_n E1 dX7_nextWay_52 rfl 2 rfl ?_
    refine ag_aload_n E1 dX7_nextWay_53 rfl 0 rfl ?_
    refine am_geti E 0 (by decide) rfl q1450 dX7_nextWay_54 ?_
    refine ag_icmp_ge E1 (tgt := 213) dX7_nextWay_57 (by decide) (fun c_57 => ?_) (fun c_57 => ?_)
    · have h := h.1 c_57
      refine ag_sub (lv' := [(0, .ref o), (3, .int x3)]) [0, 2] rfl ?_
      exact hK213 _ _ h
    · have h := h.2 c_57
      refine ag_iload_n E1 dX7_nextWay_60 rfl 1 rfl ?_
      refine ag_iload_n E1 dX7_nextWay_61 rfl 2 rfl ?_
      refine ag_ishr E1 dX7_nextWay_62 ?_
      refine ag_iconst E1 dX7_nextWay_63 ki_1 ?_
      refine ag_iand E1 dX7_nextWay_64 ?_
      refine ag_if_ne E1 (tgt := 91) dX7_nextWay_65 (by decide) (fun c_65 => ?_) (fun c_65 => ?_)
      · have h := h.1 c_65
        refine ag_aload_n E1 dX7_nextWay_91 rfl 0 rfl ?_
        refine am_geta E 52 (i := 31) (by decide) (by decide) rfl q1502 dX7_nextWay_92 ?_
        refine ag_iload_n E1 dX7_nextWay_95 rfl 2 rfl ?_
        refine ag_aload_n E1 dX7_nextWay_96 rfl 0 rfl ?_
        refine am_geta E 52 (i := 31) (by decide) (by decide) rfl q1502 dX7_nextWay_97 ?_
        refine ag_iload_n E1 dX7_nextWay_100 rfl 2 rfl ?_
        obtain ⟨hin, h⟩ := h
        refine am_iald E 52 rfl rfl rfl (by decide) hin dX7_nextWay_101 ?_
        refine ag_if_ne E1 (tgt := 109) dX7_nextWay_102 (by decide) (fun c_102 => ?_) (fun c_102 => ?_)
        · have h := h.1 c_102
          refine ag_aload_n E1 dX7_nextWay_109 rfl 0 rfl ?_
          refine am_geta E 52 (i := 31) (by decide) (by decide) rfl q1502 dX7_nextWay_110 ?_
          refine ag_iload_n E1 dX7_nextWay_113 rfl 2 rfl ?_
          obtain ⟨hin, h⟩ := h
          refine am_iald E 52 rfl rfl rfl (by decide) hin dX7_nextWay_114 ?_
          refine ag_iconst E1 dX7_nextWay_115 ki_1 ?_
          refine ag_ishl E1 dX7_nextWay_116 ?_
          refine ag_sub (lv' := [(0, .ref o), (1, .int x1), (3, .int x3)]) [0, 1, 2] rfl ?_
          exact tbX7_nextWay_117 E hK48 hK213 h
        · have h := h.2 c_102
          refine ag_iconst E1 dX7_nextWay_105 ki_1 ?_
          refine ag_goto E1 (tgt := 117) dX7_nextWay_106 (by decide) ?_
          refine ag_sub (lv' := [(0, .ref o), (1, .int x1), (3, .int x3)]) [0, 1, 2] rfl ?_
          exact tbX7_nextWay_117 E hK48 hK213 h
      · have h := h.2 c_65
        refine ag_aload_n E1 dX7_nextWay_68 rfl 0 rfl ?_
        refine am_geta E 52 (i := 31) (by decide) (by decide) rfl q1502 dX7_nextWay_69 ?_
        refine ag_iload_n E1 dX7_nextWay_72 rfl 2 rfl ?_
        refine ag_iconst E1 dX7_nextWay_73 ki_0 ?_
        obtain ⟨hin, h⟩ := h
        refine am_iast E 52 rfl rfl rfl (by decide) hin dX7_nextWay_74 (fun f_7 e_f_7 => ?_)
        have h := h f_7 e_f_7
        refine ag_iload_n E1 dX7_nextWay_75 rfl 2 rfl ?_
        refine ag_iload E1 dX7_nextWay_76 3 rfl ?_
        refine ag_if_eq E1 (tgt := 85) dX7_nextWay_78 (by decide) (fun c_78 => ?_) (fun c_78 => ?_)
        · have h := h.1 c_78
          refine ag_iconst E1 dX7_nextWay_85 ki_m1 ?_
          refine ag_sub (lv' := [(0, .ref o), (1, .int x1), (4, .int x4)]) [0, 1, 3] rfl ?_
          exact tbX7_nextWay_86 E hK48 hK213 h
        · have h := h.2 c_78
          refine ag_iconst E1 dX7_nextWay_81 ki_1 ?_
          refine ag_goto E1 (tgt := 86) dX7_nextWay_82 (by decide) ?_
          refine ag_sub (lv' := [(0, .ref o), (1, .int x1), (4, .int x4)]) [0, 1, 3] rfl ?_
          exact tbX7_nextWay_86 E hK48 hK213 h
theorem tlX7_nextWay_48 (E : EM p R s m args meth c cX7_nextWay 6 (some .boolean) D cs b H0 XK 3 68 z u) {Q : Int32 → St → Prop} {K213 : Int32 → St → Prop} (hK213 : ∀ (x3 : Int32) (f : St), K213 x3 f → AM p l e R s m args below meth c D cs b 6 o Z z u (pI Q) 213 [(0, .ref o), (3, .int x3)] [] f) : ∀ (n : Nat) (x1 : Int32) (x3 : Int32) (x4 : Int32) (f : St), wlX7_nextWay_48 K213 Q n x1 x3 x4 f → AM p l e R s m args below meth c D cs b 6 o Z z u (pI Q) 48 [(0, .ref o), (1, .int x1), (3, .int x3), (4, .int x4)] [] f := by
  intro n
  induction n with
  | zero => intro _ _ _ _ h; exact h.elim
  | succ n ih => intro x1 x3 x4 f h; exact tbX7_nextWay_48 E ih hK213 h
theorem tbX7_nextWay_213 (E : EM p R s m args meth c cX7_nextWay 6 (some .boolean) D cs b H0 XK 3 68 z u) {Q : Int32 → St → Prop}  {x3 : Int32} {f : St} (h : wbX7_nextWay_213  Q x3 f) : AM p l e R s m args below meth c D cs b 6 o Z z u (pI Q) 213 [(0, .ref o), (3, .int x3)] [] f := by
  have E1 := E.1
  refine ag_iload_n E1 dX7_nextWay_213 rfl 1 rfl ?_
  refine ag_aload_n E1 dX7_nextWay_214 rfl 0 rfl ?_
  refine am_geti E 0 (by decide) rfl q1450 dX7_nextWay_215 ?_
  refine ag_icmp_ne E1 (tgt := 225) dX7_nextWay_218 (by decide) (fun c_218 => ?_) (fun c_218 => ?_)
  · have h := h.1 c_218
    refine ag_iconst E1 dX7_nextWay_225 ki_0 ?_
    exact am_zret E rfl (Or.inl rfl) ⟨_, rfl, h⟩ dX7_nextWay_226
  · have h := h.2 c_218
    refine ag_iconst E1 dX7_nextWay_221 ki_1 ?_
    refine ag_goto E1 (tgt := 226) dX7_nextWay_222 (by decide) ?_
    exact am_zret E rfl (Or.inr rfl) ⟨_, rfl, h⟩ dX7_nextWay_226
theorem tbX7_nextWay_25 (E : EM p R s m args meth c cX7_nextWay 6 (some .boolean) D cs b H0 XK 3 68 z u) {Q : Int32 → St → Prop} {K25 : Int32 → Int32 → Int32 → Int32 → St → Prop} (hK25 : ∀ (x1 : Int32) (x3 : Int32) (x4 : Int32) (x5 : Int32) (f : St), K25 x1 x3 x4 x5 f → AM p l e R s m args below meth c D cs b 6 o Z z u (pI Q) 25 [(0, .ref o), (1, .int x1), (3, .int x3), (4, .int x4), (5, .int x5)] [] f) {K48 : Int32 → Int32 → Int32 → St → Prop} (hK48 : ∀ (x1 : Int32) (x3 : Int32) (x4 : Int32) (f : St), K48 x1 x3 x4 f → AM p l e R s m args below meth c D cs b 6 o Z z u (pI Q) 48 [(0, .ref o), (1, .int x1), (3, .int x3), (4, .int x4)] [] f) {x1 : Int32} {x3 : Int32} {x4 : Int32} {x5 : Int32} {f : St} (h : wbX7_nextWay_25 K25 K48 Q x1 x3 x4 x5 f) : AM p l e R s m args below meth c D cs b 6 o Z z u (pI Q) 25 [(0, .ref o), (1, .int x1), (3, .int x3), (4, .int x4), (5, .int x5)] [] f := by
  have E1 := E.1
  refine ag_iload E1 dX7_nextWay_25 4 rfl ?_
  refine ag_aload_n E1 dX7_nextWay_27 rfl 0 rfl ?_
  refine am_geti E 0 (by decide) rfl q1450 dX7_nextWay_28 ?_
  refine ag_icmp_ge E1 (tgt := 48) dX7_nextWay_31 (by decide) (fun c_31 => ?_) (fun c_31 => ?_)
  · have h := h.1 c_31
    refine ag_sub (lv' := [(0, .ref o), (1, .int x1), (3, .int x3), (4, .int x4)]) [0, 1, 2, 3] rfl ?_
    exact hK48 _ _ _ _ h
  · have h := h.2 c_31
    refine ag_aload_n E1 dX7_nextWay_34 rfl 0 rfl ?_
    refine am_geta E 52 (i := 31) (by decide) (by decide) rfl q1502 dX7_nextWay_35 ?_
    refine ag_iload E1 dX7_nextWay_38 4 rfl ?_
    refine ag_iconst E1 dX7_nextWay_40 ki_0 ?_
    obtain ⟨hin, h⟩ := h
    refine am_iast E 52 rfl rfl rfl (by decide) hin dX7_nextWay_41 (fun f_9 e_f_9 => ?_)
    have h := h f_9 e_f_9
    refine ag_iincN E1 (lv' := fun x5_10 => [(5, .int x5_10), (0, .ref o), (1, .int x1), (3, .int x3), (4, .int x4)]) dX7_nextWay_42 4 rfl ki_1 (Nat.lt_of_lt_of_le (Nat.le_refl _) (Nat.le_of_ble_eq_true rfl)) (fun _ => rfl) (fun x5_10 e_x5_10 => ?_)
    have h := h x5_10 e_x5_10
    refine ag_goto E1 (tgt := 25) dX7_nextWay_45 (by decide) ?_
    refine ag_sub (lv' := [(0, .ref o), (1, .int x1), (3, .int x3), (4, .int x4), (5, .int x5_10)]) [1, 2, 3, 4, 0] rfl ?_
    exact hK25 _ _ _ _ _ h
theorem tlX7_nextWay_25 (E : EM p R s m args meth c cX7_nextWay 6 (some .boolean) D cs b H0 XK 3 68 z u) {Q : Int32 → St → Prop} {K48 : Int32 → Int32 → Int32 → St → Prop} (hK48 : ∀ (x1 : Int32) (x3 : Int32) (x4 : Int32) (f : St), K48 x1 x3 x4 f → AM p l e R s m args below meth c D cs b 6 o Z z u (pI Q) 48 [(0, .ref o), (1, .int x1), (3, .int x3), (4, .int x4)] [] f) : ∀ (n : Nat) (x1 : Int32) (x3 : Int32) (x4 : Int32) (x5 : Int32) (f : St), wlX7_nextWay_25 K48 Q n x1 x3 x4 x5 f → AM p l e R s m args below meth c D cs b 6 o Z z u (pI Q) 25 [(0, .ref o), (1, .int x1), (3, .int x3), (4, .int x4), (5, .int x5)] [] f := by
  intro n
  induction n with
  | zero => intro _ _ _ _ _ h; exact h.elim
  | succ n ih => intro x1 x3 x4 x5 f h; exact tbX7_nextWay_25 E ih hK48 h
theorem tbX7_nextWay_14 (E : EM p R s m args meth c cX7_nextWay 6 (some .boolean) D cs b H0 XK 3 68 z u) {Q : Int32 → St → Prop}  {x1 : Int32} {x2 : Int32} {t0 : Int32} {f : St} (h : wbX7_nextWay_14  Q x1 x2 t0 f) : AM p l e R s m args below meth c D cs b 6 o Z z u (pI Q) 14 [(0, .ref o), (1, .int x1), (2, .int x2)] [.int t0] f := by
  have E1 := E.1
  refine ag_istore_n E1 (lv' := [(3, .int t0), (0, .ref o), (1, .int x1), (2, .int x2)]) dX7_nextWay_14 rfl (Nat.lt_of_lt_of_le (Nat.le_refl _) (Nat.le_of_ble_eq_true rfl)) rfl ?_
  refine ag_iload_n E1 dX7_nextWay_15 rfl 3 rfl ?_
  refine ag_istore E1 (lv' := [(4, .int x2), (3, .int t0), (0, .ref o), (1, .int x1), (2, .int x2)]) dX7_nextWay_16 (Nat.lt_of_lt_of_le (Nat.le_refl _) (Nat.le_of_ble_eq_true rfl)) rfl ?_
  refine ag_iload_n E1 dX7_nextWay_18 rfl 4 rfl ?_
  refine ag_if_eq E1 (tgt := 48) dX7_nextWay_19 (by decide) (fun c_19 => ?_) (fun c_19 => ?_)
  · have h := h.1 c_19
    refine ag_sub (lv' := [(0, .ref o), (1, .int x1), (3, .int t0), (4, .int x2)]) [2, 3, 1, 0] rfl ?_
    obtain ⟨n, h⟩ := h
    refine tlX7_nextWay_48 E ?_ n _ _ _ _ h
    · intro x3 f h
      exact tbX7_nextWay_213 E  h
  · have h := h.2 c_19
    refine ag_iconst E1 dX7_nextWay_22 ki_0 ?_
    refine ag_istore E1 (lv' := [(5, .int (0 : Int32)), (4, .int x2), (3, .int t0), (0, .ref o), (1, .int x1), (2, .int x2)]) dX7_nextWay_23 (Nat.lt_of_lt_of_le (Nat.le_refl _) (Nat.le_of_ble_eq_true rfl)) rfl ?_
    refine ag_sub (lv' := [(0, .ref o), (1, .int x1), (3, .int t0), (4, .int x2), (5, .int (0 : Int32))]) [3, 4, 2, 1, 0] rfl ?_
    obtain ⟨n, h⟩ := h
    refine tlX7_nextWay_25 E ?_ n _ _ _ _ _ h
    · intro x1 x3 x4 f h
      obtain ⟨n, h⟩ := h
      refine tlX7_nextWay_48 E ?_ n _ _ _ _ h
      · intro x3 f h
        exact tbX7_nextWay_213 E  h
theorem kX7_nextWay (l : Launch) (D : va_G) (cs : Nat → ClassId) (b : Nat) (H0 : Heap) (XK : State → Prop) (o : Nat) (Z : cP) (z u : Nat) (f : St) (x1 : Int32) (x2 : Int32) (Q : Int32 → St → Prop) (h : wX7_nextWay f x1 x2 Q) : CM l D cs b H0 XK o Z z u yX7_nextWay cX7_nextWay 6 (some .boolean) 3 68 [.ref o, .int x1, .int x2] f (pI Q) := by
  refine cm_of (by decide) rfl (Nat.le_of_ble_eq_true rfl) (fun p e R s m below meth c E => ?_)
  have E1 := E.1
  refine ag_sub (lv' := [(0, .ref o), (1, .int x1), (2, .int x2)]) [0, 1, 2] rfl ?_
  refine ag_iload_n E1 dX7_nextWay_0 rfl 2 rfl ?_
  refine ag_if_eq E1 (tgt := 8) dX7_nextWay_1 (by decide) (fun c_1 => ?_) (fun c_1 => ?_)
  · have h := h.1 c_1
    refine ag_aload_n E1 dX7_nextWay_8 rfl 0 rfl ?_
    refine am_geti E 0 (by decide) rfl q1450 dX7_nextWay_9 ?_
    refine ag_iconst E1 dX7_nextWay_12 ki_1 ?_
    refine ag_isub E1 dX7_nextWay_13 ?_
    exact tbX7_nextWay_14 E  h
  · have h := h.2 c_1
    refine ag_iconst E1 dX7_nextWay_4 ki_0 ?_
    refine ag_goto E1 (tgt := 14) dX7_nextWay_5 (by decide) ?_
    exact tbX7_nextWay_14 E  h
theorem hdX7_nextWay : yX7_nextWay.cls = RX7 ∧ yX7_nextWay.cls ≠ "java/lang/invoke/MethodHandle" ∧ yX7_nextWay.cls ≠ "java/lang/invoke/VarHandle" ∧ (parseMethodDescriptor yX7_nextWay.desc).map (fun d => d.parameters.length) = some 2 := by decide +kernel
theorem tbX7_can_16 (E : EM p R s m args meth c cX7_can 3 (some .int) D cs b H0 XK 4 93 z u) {Q : Int32 → St → Prop} {K16 : Int32 → Int32 → St → Prop} (hK16 : ∀ (x1 : Int32) (x2 : Int32) (f : St), K16 x1 x2 f → AM p l e R s m args below meth c D cs b 3 o Z z u (pI Q) 16 [(0, .ref o), (1, .int x1), (2, .int x2)] [] f) {x1 : Int32} {x2 : Int32} {f : St} (h : wbX7_can_16 K16 Q x1 x2 f) : AM p l e R s m args below meth c D cs b 3 o Z z u (pI Q) 16 [(0, .ref o), (1, .int x1), (2, .int x2)] [] f := by
  have E1 := E.1
  refine ag_iload_n E1 dX7_can_16 rfl 2 rfl ?_
  refine ag_if_eq E1 (tgt := 42) dX7_can_17 (by decide) (fun c_17 => ?_) (fun c_17 => ?_)
  · have h := h.1 c_17
    refine ag_iload_n E1 dX7_can_42 rfl 1 rfl ?_
    exact am_iret E rfl ⟨_, rfl, h⟩ dX7_can_43
  · have h := h.2 c_17
    refine ag_iload_n E1 dX7_can_20 rfl 1 rfl ?_
    refine ag_ldc E1 q1684 dX7_can_21 ?_
    refine ag_icmp_ge E1 (tgt := 42) dX7_can_23 (by decide) (fun c_23 => ?_) (fun c_23 => ?_)
    · have h := h.1 c_23
      refine ag_iload_n E1 dX7_can_42 rfl 1 rfl ?_
      exact am_iret E rfl ⟨_, rfl, h⟩ dX7_can_43
    · have h := h.2 c_23
      refine ag_iincN E1 (lv' := fun x1_6 => [(1, .int x1_6), (0, .ref o), (2, .int x2)]) dX7_can_26 1 rfl ki_1 (Nat.lt_of_lt_of_le (Nat.le_refl _) (Nat.le_of_ble_eq_true rfl)) (fun _ => rfl) (fun x1_6 e_x1_6 => ?_)
      have h := h x1_6 e_x1_6
      refine ag_aload_n E1 dX7_can_29 rfl 1 rfl ?_
      refine ag_aload_n E1 dX7_can_30 rfl 1 rfl ?_
      refine am_callVi E [] (kX7_all _ _ _ _ _ _ _ _ _ _ _  _ h) (lw_V q1820 q1822 qs73 q107 q1823) hdX7_all (Nat.le_of_ble_eq_true rfl) (Nat.le_of_ble_eq_true rfl) rfl (Nat.le_of_ble_eq_true rfl) dX7_can_31 rfl (fun r_8 f_7 h => ?_)
      refine ag_iconst E1 dX7_can_34 ki_0 ?_
      refine am_callVi E [.int r_8, .int (0 : Int32)] (kX7_nextWay _ _ _ _ _ _ _ _ _ _ _ _ _ _ h) (lw_V q1824 q1826 qs74 q107 q1827) hdX7_nextWay (Nat.le_of_ble_eq_true rfl) (Nat.le_of_ble_eq_true rfl) rfl (Nat.le_of_ble_eq_true rfl) dX7_can_35 rfl (fun r_10 f_9 h => ?_)
      refine ag_istore_n E1 (lv' := [(2, .int r_10), (1, .int x1_6), (0, .ref o)]) dX7_can_38 rfl (Nat.lt_of_lt_of_le (Nat.le_refl _) (Nat.le_of_ble_eq_true rfl)) rfl ?_
      refine ag_goto E1 (tgt := 16) dX7_can_39 (by decide) ?_
      refine ag_sub (lv' := [(0, .ref o), (1, .int x1_6), (2, .int r_10)]) [2, 1, 0] rfl ?_
      exact hK16 _ _ _ h
theorem tlX7_can_16 (E : EM p R s m args meth c cX7_can 3 (some .int) D cs b H0 XK 4 93 z u) {Q : Int32 → St → Prop}  : ∀ (n : Nat) (x1 : Int32) (x2 : Int32) (f : St), wlX7_can_16  Q n x1 x2 f → AM p l e R s m args below meth c D cs b 3 o Z z u (pI Q) 16 [(0, .ref o), (1, .int x1), (2, .int x2)] [] f := by
  intro n
  induction n with
  | zero => intro _ _ _ h; exact h.elim
  | succ n ih => intro x1 x2 f h; exact tbX7_can_16 E ih h
theorem kX7_can (l : Launch) (D : va_G) (cs : Nat → ClassId) (b : Nat) (H0 : Heap) (XK : State → Prop) (o : Nat) (Z : cP) (z u : Nat) (f : St)  (Q : Int32 → St → Prop) (h : wX7_can f  Q) : CM l D cs b H0 XK o Z z u yX7_can cX7_can 3 (some .int) 4 93 [.ref o] f (pI Q) := by
  refine cm_of (by decide) rfl (Nat.le_of_ble_eq_true rfl) (fun p e R s m below meth c E => ?_)
  have E1 := E.1
  refine ag_sub (lv' := [(0, .ref o)]) [0] rfl ?_
  refine ag_aload_n E1 dX7_can_0 rfl 0 rfl ?_
  refine am_callVv E [] (kX7_looks _ _ _ _ _ _ _ _ _ _ _  _ h) (lw_V q1772 q1774 qs65 q107 q1775) hdX7_looks (Nat.le_of_ble_eq_true rfl) (Nat.le_of_ble_eq_true rfl) rfl (Nat.le_of_ble_eq_true rfl) dX7_can_1 rfl (fun f_1 h => ?_)
  refine ag_iconst E1 dX7_can_4 ki_0 ?_
  refine ag_istore_n E1 (lv' := [(1, .int (0 : Int32)), (0, .ref o)]) dX7_can_5 rfl (Nat.lt_of_lt_of_le (Nat.le_refl _) (Nat.le_of_ble_eq_true rfl)) rfl ?_
  refine ag_aload_n E1 dX7_can_6 rfl 1 rfl ?_
  refine ag_aload_n E1 dX7_can_7 rfl 1 rfl ?_
  refine am_callVi E [] (kX7_all _ _ _ _ _ _ _ _ _ _ _  _ h) (lw_V q1820 q1822 qs73 q107 q1823) hdX7_all (Nat.le_of_ble_eq_true rfl) (Nat.le_of_ble_eq_true rfl) rfl (Nat.le_of_ble_eq_true rfl) dX7_can_8 rfl (fun r_3 f_2 h => ?_)
  refine ag_iconst E1 dX7_can_11 ki_1 ?_
  refine am_callVi E [.int r_3, .int (1 : Int32)] (kX7_nextWay _ _ _ _ _ _ _ _ _ _ _ _ _ _ h) (lw_V q1824 q1826 qs74 q107 q1827) hdX7_nextWay (Nat.le_of_ble_eq_true rfl) (Nat.le_of_ble_eq_true rfl) rfl (Nat.le_of_ble_eq_true rfl) dX7_can_12 rfl (fun r_5 f_4 h => ?_)
  refine ag_istore_n E1 (lv' := [(2, .int r_5), (1, .int (0 : Int32)), (0, .ref o)]) dX7_can_15 rfl (Nat.lt_of_lt_of_le (Nat.le_refl _) (Nat.le_of_ble_eq_true rfl)) rfl ?_
  refine ag_sub (lv' := [(0, .ref o), (1, .int (0 : Int32)), (2, .int r_5)]) [2, 1, 0] rfl ?_
  obtain ⟨n, h⟩ := h
  exact tlX7_can_16 E  n _ _ _ h
theorem hdX7_can : yX7_can.cls = RX7 ∧ yX7_can.cls ≠ "java/lang/invoke/MethodHandle" ∧ yX7_can.cls ≠ "java/lang/invoke/VarHandle" ∧ (parseMethodDescriptor yX7_can.desc).map (fun d => d.parameters.length) = some 0 := by decide +kernel
theorem tbX7_dayIn_2 (E : EM p R s m args meth c cX7_dayIn 2 (some .int) D cs b H0 XK 0 0 z u) {Q : Int32 → St → Prop} {K2 : Int32 → Int32 → St → Prop} (hK2 : ∀ (x0 : Int32) (x1 : Int32) (f : St), K2 x0 x1 f → AM p l e R s m args below meth c D cs b 2 o Z z u (pI Q) 2 [(0, .int x0), (1, .int x1)] [] f) {x0 : Int32} {x1 : Int32} {f : St} (h : wbX7_dayIn_2 K2 Q x0 x1 f) : AM p l e R s m args below meth c D cs b 2 o Z z u (pI Q) 2 [(0, .int x0), (1, .int x1)] [] f := by
  have E1 := E.1
  refine ag_iload_n E1 dX7_dayIn_2 rfl 0 rfl ?_
  refine ag_iload_n E1 dX7_dayIn_3 rfl 1 rfl ?_
  refine ag_ishr E1 dX7_dayIn_4 ?_
  refine ag_iconst E1 dX7_dayIn_5 ki_1 ?_
  refine ag_icmp_eq E1 (tgt := 15) dX7_dayIn_6 (by decide) (fun c_6 => ?_) (fun c_6 => ?_)
  · have h := h.1 c_6
    refine ag_iload_n E1 dX7_dayIn_15 rfl 1 rfl ?_
    exact am_iret E rfl ⟨_, rfl, h⟩ dX7_dayIn_16
  · have h := h.2 c_6
    refine ag_iincN E1 (lv' := fun x1_1 => [(1, .int x1_1), (0, .int x0)]) dX7_dayIn_9 1 rfl ki_1 (Nat.lt_of_lt_of_le (Nat.le_refl _) (Nat.le_of_ble_eq_true rfl)) (fun _ => rfl) (fun x1_1 e_x1_1 => ?_)
    have h := h x1_1 e_x1_1
    refine ag_goto E1 (tgt := 2) dX7_dayIn_12 (by decide) ?_
    refine ag_sub (lv' := [(0, .int x0), (1, .int x1_1)]) [1, 0] rfl ?_
    exact hK2 _ _ _ h
theorem tlX7_dayIn_2 (E : EM p R s m args meth c cX7_dayIn 2 (some .int) D cs b H0 XK 0 0 z u) {Q : Int32 → St → Prop}  : ∀ (n : Nat) (x0 : Int32) (x1 : Int32) (f : St), wlX7_dayIn_2  Q n x0 x1 f → AM p l e R s m args below meth c D cs b 2 o Z z u (pI Q) 2 [(0, .int x0), (1, .int x1)] [] f := by
  intro n
  induction n with
  | zero => intro _ _ _ h; exact h.elim
  | succ n ih => intro x0 x1 f h; exact tbX7_dayIn_2 E ih h
theorem kX7_dayIn (l : Launch) (D : va_G) (cs : Nat → ClassId) (b : Nat) (H0 : Heap) (XK : State → Prop) (o : Nat) (Z : cP) (z u : Nat) (f : St) (x0 : Int32) (Q : Int32 → St → Prop) (h : wX7_dayIn f x0 Q) : CM l D cs b H0 XK o Z z u yX7_dayIn cX7_dayIn 2 (some .int) 0 0 [.int x0] f (pI Q) := by
  refine cm_of (by decide) rfl (Nat.le_of_ble_eq_true rfl) (fun p e R s m below meth c E => ?_)
  have E1 := E.1
  refine ag_sub (lv' := [(0, .int x0)]) [0] rfl ?_
  refine ag_iconst E1 dX7_dayIn_0 ki_0 ?_
  refine ag_istore_n E1 (lv' := [(1, .int (0 : Int32)), (0, .int x0)]) dX7_dayIn_1 rfl (Nat.lt_of_lt_of_le (Nat.le_refl _) (Nat.le_of_ble_eq_true rfl)) rfl ?_
  refine ag_sub (lv' := [(0, .int x0), (1, .int (0 : Int32))]) [1, 0] rfl ?_
  obtain ⟨n, h⟩ := h
  exact tlX7_dayIn_2 E  n _ _ _ h
theorem hdX7_dayIn : yX7_dayIn.cls ≠ "java/lang/invoke/MethodHandle" ∧ yX7_dayIn.cls ≠ "java/lang/invoke/VarHandle" ∧ (parseMethodDescriptor yX7_dayIn.desc).map (fun d => d.parameters.length) = some 1 := by decide +kernel
theorem kX7_keptWorth (l : Launch) (D : va_G) (cs : Nat → ClassId) (b : Nat) (H0 : Heap) (XK : State → Prop) (o : Nat) (Z : cP) (z u : Nat) (f : St) (x1 : Int32) (x2 : Int32) (x3 : Int32) (x4 : Int32) (Q : Int32 → St → Prop) (h : wX7_keptWorth f x1 x2 x3 x4 Q) : CM l D cs b H0 XK o Z z u yX7_keptWorth cX7_keptWorth 6 (some .int) 3 71 [.ref o, .int x1, .int x2, .int x3, .int x4] f (pI Q) := by
  refine cm_of (by decide) rfl (Nat.le_of_ble_eq_true rfl) (fun p e R s m below meth c E => ?_)
  have E1 := E.1
  refine ag_sub (lv' := [(0, .ref o), (1, .int x1), (2, .int x2), (3, .int x3), (4, .int x4)]) [0, 1, 2, 3, 4] rfl ?_
  refine ag_iload_n E1 dX7_keptWorth_0 rfl 1 rfl ?_
  refine ag_bipush E1 dX7_keptWorth_1 kb_7 ?_
  refine ag_imul E1 dX7_keptWorth_3 ?_
  refine ag_iload_n E1 dX7_keptWorth_4 rfl 2 rfl ?_
  refine ag_iadd E1 dX7_keptWorth_5 ?_
  refine ag_bipush E1 dX7_keptWorth_6 kb_100 ?_
  refine ag_imul E1 dX7_keptWorth_8 ?_
  refine ag_iload_n E1 dX7_keptWorth_9 rfl 3 rfl ?_
  refine ag_iadd E1 dX7_keptWorth_10 ?_
  refine ag_bipush E1 dX7_keptWorth_11 kb_7 ?_
  refine ag_imul E1 dX7_keptWorth_13 ?_
  refine ag_iload E1 dX7_keptWorth_14 4 rfl ?_
  refine ag_iadd E1 dX7_keptWorth_16 ?_
  refine ag_topi (fun x5_1 e_x5_1 => ?_)
  have h := h x5_1 e_x5_1
  refine ag_istore E1 (lv' := [(5, .int x5_1), (0, .ref o), (1, .int x1), (2, .int x2), (3, .int x3), (4, .int x4)]) dX7_keptWorth_17 (Nat.lt_of_lt_of_le (Nat.le_refl _) (Nat.le_of_ble_eq_true rfl)) rfl ?_
  refine ag_aload_n E1 dX7_keptWorth_19 rfl 1 rfl ?_
  refine am_geta E 54 (i := 33) (by decide) (by decide) rfl q1504 dX7_keptWorth_20 ?_
  refine ag_iload E1 dX7_keptWorth_23 0 rfl ?_
  obtain ⟨hin, h⟩ := h
  refine am_zald E 54 rfl rfl rfl (by decide) hin dX7_keptWorth_25 ?_
  refine ag_if_ne E1 (tgt := 53) dX7_keptWorth_26 (by decide) (fun c_26 => ?_) (fun c_26 => ?_)
  · have h := h.1 c_26
    refine ag_aload_n E1 dX7_keptWorth_53 rfl 1 rfl ?_
    refine am_geta E 53 (i := 32) (by decide) (by decide) rfl q1503 dX7_keptWorth_54 ?_
    refine ag_iload E1 dX7_keptWorth_57 0 rfl ?_
    obtain ⟨hin, h⟩ := h
    refine am_iald E 53 rfl rfl rfl (by decide) hin dX7_keptWorth_59 ?_
    exact am_iret E rfl ⟨_, rfl, h⟩ dX7_keptWorth_60
  · have h := h.2 c_26
    refine ag_aload_n E1 dX7_keptWorth_29 rfl 1 rfl ?_
    refine am_geta E 53 (i := 32) (by decide) (by decide) rfl q1503 dX7_keptWorth_30 ?_
    refine ag_iload E1 dX7_keptWorth_33 0 rfl ?_
    refine ag_aload_n E1 dX7_keptWorth_35 rfl 1 rfl ?_
    refine ag_iload_n E1 dX7_keptWorth_36 rfl 2 rfl ?_
    refine ag_iload_n E1 dX7_keptWorth_37 rfl 3 rfl ?_
    refine ag_iload_n E1 dX7_keptWorth_38 rfl 4 rfl ?_
    refine ag_iload E1 dX7_keptWorth_39 5 rfl ?_
    refine am_callVi E [.int x1, .int x2, .int x3, .int x4] (kX7_worthBy _ _ _ _ _ _ _ _ _ _ _ _ _ _ _ _ h) (lw_V q1740 q1742 qs60 q107 q1743) hdX7_worthBy (Nat.le_of_ble_eq_true rfl) (Nat.le_of_ble_eq_true rfl) rfl (Nat.le_of_ble_eq_true rfl) dX7_keptWorth_41 rfl (fun r_3 f_2 h => ?_)
    obtain ⟨hin, h⟩ := h
    refine am_iast E 53 rfl rfl rfl (by decide) hin dX7_keptWorth_44 (fun f_4 e_f_4 => ?_)
    have h := h f_4 e_f_4
    refine ag_aload_n E1 dX7_keptWorth_45 rfl 1 rfl ?_
    refine am_geta E 54 (i := 33) (by decide) (by decide) rfl q1504 dX7_keptWorth_46 ?_
    refine ag_iload E1 dX7_keptWorth_49 0 rfl ?_
    refine ag_iconst E1 dX7_keptWorth_51 ki_1 ?_
    obtain ⟨hin, h⟩ := h
    refine am_zast E 54 rfl rfl rfl (by decide) (show vz (1 : Int32) from Or.inr rfl) hin dX7_keptWorth_52 (fun f_5 e_f_5 => ?_)
    have h := h f_5 e_f_5
    refine ag_aload_n E1 dX7_keptWorth_53 rfl 1 rfl ?_
    refine am_geta E 53 (i := 32) (by decide) (by decide) rfl q1503 dX7_keptWorth_54 ?_
    refine ag_iload E1 dX7_keptWorth_57 0 rfl ?_
    obtain ⟨hin, h⟩ := h
    refine am_iald E 53 rfl rfl rfl (by decide) hin dX7_keptWorth_59 ?_
    exact am_iret E rfl ⟨_, rfl, h⟩ dX7_keptWorth_60
theorem hdX7_keptWorth : yX7_keptWorth.cls = RX7 ∧ yX7_keptWorth.cls ≠ "java/lang/invoke/MethodHandle" ∧ yX7_keptWorth.cls ≠ "java/lang/invoke/VarHandle" ∧ (parseMethodDescriptor yX7_keptWorth.desc).map (fun d => d.parameters.length) = some 4 := by decide +kernel
theorem tbX7_worthWay_141 (E : EM p R s m args meth c cX7_worthWay 8 (some .int) D cs b H0 XK 4 96 z u) {Q : Int32 → St → Prop} {K49 : Int32 → Int32 → Int32 → Int32 → Int32 → Int32 → Int32 → St → Prop} (hK49 : ∀ (x1 : Int32) (x2 : Int32) (x3 : Int32) (x4 : Int32) (x5 : Int32) (x6 : Int32) (x7 : Int32) (f : St), K49 x1 x2 x3 x4 x5 x6 x7 f → AM p l e R s m args below meth c D cs b 8 o Z z u (pI Q) 49 [(0, .ref o), (1, .int x1), (2, .int x2), (3, .int x3), (4, .int x4), (5, .int x5), (6, .int x6), (7, .int x7)] [] f) {K150 : Int32 → Int32 → Int32 → Int32 → Int32 → St → Prop} (hK150 : ∀ (x1 : Int32) (x2 : Int32) (x3 : Int32) (x5 : Int32) (x6 : Int32) (f : St), K150 x1 x2 x3 x5 x6 f → AM p l e R s m args below meth c D cs b 8 o Z z u (pI Q) 150 [(0, .ref o), (1, .int x1), (2, .int x2), (3, .int x3), (5, .int x5), (6, .int x6)] [] f) {x1 : Int32} {x2 : Int32} {x3 : Int32} {x4 : Int32} {x5 : Int32} {x7 : Int32} {t0 : Int32} {t1 : Int32} {f : St} (h : wbX7_worthWay_141 K49 K150 Q x1 x2 x3 x4 x5 x7 t0 t1 f) : AM p l e R s m args below meth c D cs b 8 o Z z u (pI Q) 141 [(0, .ref o), (1, .int x1), (2, .int x2), (3, .int x3), (4, .int x4), (5, .int x5), (7, .int x7)] [.int t0, .int t1] f := by
  have E1 := E.1
  refine ag_iadd E1 dX7_worthWay_141 ?_
  refine ag_topi (fun x6_4 e_x6_4 => ?_)
  have h := h x6_4 e_x6_4
  refine ag_istore E1 (lv' := [(6, .int x6_4), (0, .ref o), (1, .int x1), (2, .int x2), (3, .int x3), (4, .int x4), (5, .int x5), (7, .int x7)]) dX7_worthWay_142 (Nat.lt_of_lt_of_le (Nat.le_refl _) (Nat.le_of_ble_eq_true rfl)) rfl ?_
  refine ag_iincN E1 (lv' := fun x7_5 => [(7, .int x7_5), (6, .int x6_4), (0, .ref o), (1, .int x1), (2, .int x2), (3, .int x3), (4, .int x4), (5, .int x5)]) dX7_worthWay_144 7 rfl ki_1 (Nat.lt_of_lt_of_le (Nat.le_refl _) (Nat.le_of_ble_eq_true rfl)) (fun _ => rfl) (fun x7_5 e_x7_5 => ?_)
  have h := h x7_5 e_x7_5
  refine ag_goto E1 (tgt := 49) dX7_worthWay_147 (by decide) ?_
  refine ag_sub (lv' := [(0, .ref o), (1, .int x1), (2, .int x2), (3, .int x3), (4, .int x4), (5, .int x5), (6, .int x6_4), (7, .int x7_5)]) [2, 3, 4, 5, 6, 7, 1, 0] rfl ?_
  exact hK49 _ _ _ _ _ _ _ _ h
theorem tbX7_worthWay_140 (E : EM p R s m args meth c cX7_worthWay 8 (some .int) D cs b H0 XK 4 96 z u) {Q : Int32 → St → Prop} {K49 : Int32 → Int32 → Int32 → Int32 → Int32 → Int32 → Int32 → St → Prop} (hK49 : ∀ (x1 : Int32) (x2 : Int32) (x3 : Int32) (x4 : Int32) (x5 : Int32) (x6 : Int32) (x7 : Int32) (f : St), K49 x1 x2 x3 x4 x5 x6 x7 f → AM p l e R s m args below meth c D cs b 8 o Z z u (pI Q) 49 [(0, .ref o), (1, .int x1), (2, .int x2), (3, .int x3), (4, .int x4), (5, .int x5), (6, .int x6), (7, .int x7)] [] f) {K150 : Int32 → Int32 → Int32 → Int32 → Int32 → St → Prop} (hK150 : ∀ (x1 : Int32) (x2 : Int32) (x3 : Int32) (x5 : Int32) (x6 : Int32) (f : St), K150 x1 x2 x3 x5 x6 f → AM p l e R s m args below meth c D cs b 8 o Z z u (pI Q) 150 [(0, .ref o), (1, .int x1), (2, .int x2), (3, .int x3), (5, .int x5), (6, .int x6)] [] f) {x1 : Int32} {x2 : Int32} {x3 : Int32} {x4 : Int32} {x5 : Int32} {x7 : Int32} {t0 : Int32} {f : St} (h : wbX7_worthWay_140 K49 K150 Q x1 x2 x3 x4 x5 x7 t0 f) : AM p l e R s m args below meth c D cs b 8 o Z z u (pI Q) 140 [(0, .ref o), (1, .int x1), (2, .int x2), (3, .int x3), (4, .int x4), (5, .int x5), (7, .int x7)] [.int t0] f := by
  have E1 := E.1
  refine ag_iconst E1 dX7_worthWay_140 ki_0 ?_
  exact tbX7_worthWay_141 E hK49 hK150 h
theorem tbX7_worthWay_110 (E : EM p R s m args meth c cX7_worthWay 8 (some .int) D cs b H0 XK 4 96 z u) {Q : Int32 → St → Prop} {K49 : Int32 → Int32 → Int32 → Int32 → Int32 → Int32 → Int32 → St → Prop} (hK49 : ∀ (x1 : Int32) (x2 : Int32) (x3 : Int32) (x4 : Int32) (x5 : Int32) (x6 : Int32) (x7 : Int32) (f : St), K49 x1 x2 x3 x4 x5 x6 x7 f → AM p l e R s m args below meth c D cs b 8 o Z z u (pI Q) 49 [(0, .ref o), (1, .int x1), (2, .int x2), (3, .int x3), (4, .int x4), (5, .int x5), (6, .int x6), (7, .int x7)] [] f) {K150 : Int32 → Int32 → Int32 → Int32 → Int32 → St → Prop} (hK150 : ∀ (x1 : Int32) (x2 : Int32) (x3 : Int32) (x5 : Int32) (x6 : Int32) (f : St), K150 x1 x2 x3 x5 x6 f → AM p l e R s m args below meth c D cs b 8 o Z z u (pI Q) 150 [(0, .ref o), (1, .int x1), (2, .int x2), (3, .int x3), (5, .int x5), (6, .int x6)] [] f) {x1 : Int32} {x2 : Int32} {x3 : Int32} {x4 : Int32} {x6 : Int32} {x7 : Int32} {t0 : Int32} {f : St} (h : wbX7_worthWay_110 K49 K150 Q x1 x2 x3 x4 x6 x7 t0 f) : AM p l e R s m args below meth c D cs b 8 o Z z u (pI Q) 110 [(0, .ref o), (1, .int x1), (2, .int x2), (3, .int x3), (4, .int x4), (6, .int x6), (7, .int x7)] [.int t0] f := by
  have E1 := E.1
  refine ag_istore E1 (lv' := [(5, .int t0), (0, .ref o), (1, .int x1), (2, .int x2), (3, .int x3), (4, .int x4), (6, .int x6), (7, .int x7)]) dX7_worthWay_110 (Nat.lt_of_lt_of_le (Nat.le_refl _) (Nat.le_of_ble_eq_true rfl)) rfl ?_
  refine ag_iload E1 dX7_worthWay_112 6 rfl ?_
  refine ag_iload E1 dX7_worthWay_114 7 rfl ?_
  refine ag_iload_n E1 dX7_worthWay_116 rfl 3 rfl ?_
  refine ag_icmp_eq E1 (tgt := 140) dX7_worthWay_117 (by decide) (fun c_117 => ?_) (fun c_117 => ?_)
  · have h := h.1 c_117
    refine ag_sub (lv' := [(0, .ref o), (1, .int x1), (2, .int x2), (3, .int x3), (4, .int x4), (5, .int t0), (7, .int x7)]) [1, 2, 3, 4, 5, 0, 7] rfl ?_
    exact tbX7_worthWay_140 E hK49 hK150 h
  · have h := h.2 c_117
    refine ag_aload_n E1 dX7_worthWay_120 rfl 1 rfl ?_
    refine am_geta E 52 (i := 31) (by decide) (by decide) rfl q1502 dX7_worthWay_121 ?_
    refine ag_iload E1 dX7_worthWay_124 7 rfl ?_
    obtain ⟨hin, h⟩ := h
    refine am_iald E 52 rfl rfl rfl (by decide) hin dX7_worthWay_126 ?_
    refine ag_aload_n E1 dX7_worthWay_127 rfl 1 rfl ?_
    refine am_geta E 52 (i := 31) (by decide) (by decide) rfl q1502 dX7_worthWay_128 ?_
    refine ag_iload_n E1 dX7_worthWay_131 rfl 3 rfl ?_
    obtain ⟨hin, h⟩ := h
    refine am_iald E 52 rfl rfl rfl (by decide) hin dX7_worthWay_132 ?_
    refine ag_icmp_ne E1 (tgt := 140) dX7_worthWay_133 (by decide) (fun c_133 => ?_) (fun c_133 => ?_)
    · have h := h.1 c_133
      refine ag_sub (lv' := [(0, .ref o), (1, .int x1), (2, .int x2), (3, .int x3), (4, .int x4), (5, .int t0), (7, .int x7)]) [1, 2, 3, 4, 5, 0, 7] rfl ?_
      exact tbX7_worthWay_140 E hK49 hK150 h
    · have h := h.2 c_133
      refine ag_iconst E1 dX7_worthWay_136 ki_1 ?_
      refine ag_goto E1 (tgt := 141) dX7_worthWay_137 (by decide) ?_
      refine ag_sub (lv' := [(0, .ref o), (1, .int x1), (2, .int x2), (3, .int x3), (4, .int x4), (5, .int t0), (7, .int x7)]) [1, 2, 3, 4, 5, 0, 7] rfl ?_
      exact tbX7_worthWay_141 E hK49 hK150 h
theorem tbX7_worthWay_108 (E : EM p R s m args meth c cX7_worthWay 8 (some .int) D cs b H0 XK 4 96 z u) {Q : Int32 → St → Prop} {K49 : Int32 → Int32 → Int32 → Int32 → Int32 → Int32 → Int32 → St → Prop} (hK49 : ∀ (x1 : Int32) (x2 : Int32) (x3 : Int32) (x4 : Int32) (x5 : Int32) (x6 : Int32) (x7 : Int32) (f : St), K49 x1 x2 x3 x4 x5 x6 x7 f → AM p l e R s m args below meth c D cs b 8 o Z z u (pI Q) 49 [(0, .ref o), (1, .int x1), (2, .int x2), (3, .int x3), (4, .int x4), (5, .int x5), (6, .int x6), (7, .int x7)] [] f) {K150 : Int32 → Int32 → Int32 → Int32 → Int32 → St → Prop} (hK150 : ∀ (x1 : Int32) (x2 : Int32) (x3 : Int32) (x5 : Int32) (x6 : Int32) (f : St), K150 x1 x2 x3 x5 x6 f → AM p l e R s m args below meth c D cs b 8 o Z z u (pI Q) 150 [(0, .ref o), (1, .int x1), (2, .int x2), (3, .int x3), (5, .int x5), (6, .int x6)] [] f) {x1 : Int32} {x2 : Int32} {x3 : Int32} {x4 : Int32} {x5 : Int32} {x6 : Int32} {x7 : Int32} {f : St} (h : wbX7_worthWay_108 K49 K150 Q x1 x2 x3 x4 x5 x6 x7 f) : AM p l e R s m args below meth c D cs b 8 o Z z u (pI Q) 108 [(0, .ref o), (1, .int x1), (2, .int x2), (3, .int x3), (4, .int x4), (5, .int x5), (6, .int x6), (7, .int x7)] [] f := by
  have E1 := E.1
  refine ag_iload E1 dX7_worthWay_108 5 rfl ?_
  refine ag_sub (lv' := [(0, .ref o), (1, .int x1), (2, .int x2), (3, .int x3), (4, .int x4), (6, .int x6), (7, .int x7)]) [0, 1, 2, 3, 4, 6, 7] rfl ?_
  exact tbX7_worthWay_110 E hK49 hK150 h
theorem tbX7_worthWay_49 (E : EM p R s m args meth c cX7_worthWay 8 (some .int) D cs b H0 XK 4 96 z u) {Q : Int32 → St → Prop} {K49 : Int32 → Int32 → Int32 → Int32 → Int32 → Int32 → Int32 → St → Prop} (hK49 : ∀ (x1 : Int32) (x2 : Int32) (x3 : Int32) (x4 : Int32) (x5 : Int32) (x6 : Int32) (x7 : Int32) (f : St), K49 x1 x2 x3 x4 x5 x6 x7 f → AM p l e R s m args below meth c D cs b 8 o Z z u (pI Q) 49 [(0, .ref o), (1, .int x1), (2, .int x2), (3, .int x3), (4, .int x4), (5, .int x5), (6, .int x6), (7, .int x7)] [] f) {K150 : Int32 → Int32 → Int32 → Int32 → Int32 → St → Prop} (hK150 : ∀ (x1 : Int32) (x2 : Int32) (x3 : Int32) (x5 : Int32) (x6 : Int32) (f : St), K150 x1 x2 x3 x5 x6 f → AM p l e R s m args below meth c D cs b 8 o Z z u (pI Q) 150 [(0, .ref o), (1, .int x1), (2, .int x2), (3, .int x3), (5, .int x5), (6, .int x6)] [] f) {x1 : Int32} {x2 : Int32} {x3 : Int32} {x4 : Int32} {x5 : Int32} {x6 : Int32} {x7 : Int32} {f : St} (h : wbX7_worthWay_49 K49 K150 Q x1 x2 x3 x4 x5 x6 x7 f) : AM p l e R s m args below meth c D cs b 8 o Z z u (pI Q) 49 [(0, .ref o), (1, .int x1), (2, .int x2), (3, .int x3), (4, .int x4), (5, .int x5), (6, .int x6), (7, .int x7)] [] f := by
  have E1 := E.1
  refine ag_iload E1 dX7_worthWay_49 7 rfl ?_
  refine ag_aload_n E1 dX7_worthWay_51 rfl 0 rfl ?_
  refine am_geti E 0 (by decide) rfl q1450 dX7_worthWay_52 ?_
  refine ag_icmp_ge E1 (tgt := 150) dX7_worthWay_55 (by decide) (fun c_55 => ?_) (fun c_55 => ?_)
  · have h := h.1 c_55
    refine ag_sub (lv' := [(0, .ref o), (1, .int x1), (2, .int x2), (3, .int x3), (5, .int x5), (6, .int x6)]) [0, 1, 2, 3, 5, 6] rfl ?_
    exact hK150 _ _ _ _ _ _ h
  · have h := h.2 c_55
    refine ag_iload E1 dX7_worthWay_58 7 rfl ?_
    refine ag_iload_n E1 dX7_worthWay_60 rfl 2 rfl ?_
    refine ag_icmp_eq E1 (tgt := 108) dX7_worthWay_61 (by decide) (fun c_61 => ?_) (fun c_61 => ?_)
    · have h := h.1 c_61
      exact tbX7_worthWay_108 E hK49 hK150 h
    · have h := h.2 c_61
      refine ag_aload_n E1 dX7_worthWay_64 rfl 0 rfl ?_
      refine am_geta E 52 (i := 31) (by decide) (by decide) rfl q1502 dX7_worthWay_65 ?_
      refine ag_iload E1 dX7_worthWay_68 7 rfl ?_
      obtain ⟨hin, h⟩ := h
      refine am_iald E 52 rfl rfl rfl (by decide) hin dX7_worthWay_70 ?_
      refine ag_iload E1 dX7_worthWay_71 4 rfl ?_
      refine ag_icmp_ne E1 (tgt := 108) dX7_worthWay_73 (by decide) (fun c_73 => ?_) (fun c_73 => ?_)
      · have h := h.1 c_73
        exact tbX7_worthWay_108 E hK49 hK150 h
      · have h := h.2 c_73
        refine ag_aload_n E1 dX7_worthWay_76 rfl 0 rfl ?_
        refine am_geta E 39 (i := 25) (by decide) (by decide) rfl q1489 dX7_worthWay_77 ?_
        refine ag_bipush E1 dX7_worthWay_80 kb_6 ?_
        refine ag_iload_n E1 dX7_worthWay_82 rfl 2 rfl ?_
        refine ag_imul E1 dX7_worthWay_83 ?_
        refine ag_iload E1 dX7_worthWay_84 7 rfl ?_
        refine ag_iadd E1 dX7_worthWay_86 ?_
        obtain ⟨hin, h⟩ := h
        refine am_iald E 39 rfl rfl rfl (by decide) hin dX7_worthWay_87 ?_
        refine ag_iload E1 dX7_worthWay_88 5 rfl ?_
        refine ag_icmp_ge E1 (tgt := 108) dX7_worthWay_90 (by decide) (fun c_90 => ?_) (fun c_90 => ?_)
        · have h := h.1 c_90
          exact tbX7_worthWay_108 E hK49 hK150 h
        · have h := h.2 c_90
          refine ag_aload_n E1 dX7_worthWay_93 rfl 0 rfl ?_
          refine am_geta E 39 (i := 25) (by decide) (by decide) rfl q1489 dX7_worthWay_94 ?_
          refine ag_bipush E1 dX7_worthWay_97 kb_6 ?_
          refine ag_iload_n E1 dX7_worthWay_99 rfl 2 rfl ?_
          refine ag_imul E1 dX7_worthWay_100 ?_
          refine ag_iload E1 dX7_worthWay_101 7 rfl ?_
          refine ag_iadd E1 dX7_worthWay_103 ?_
          obtain ⟨hin, h⟩ := h
          refine am_iald E 39 rfl rfl rfl (by decide) hin dX7_worthWay_104 ?_
          refine ag_goto E1 (tgt := 110) dX7_worthWay_105 (by decide) ?_
          refine ag_sub (lv' := [(0, .ref o), (1, .int x1), (2, .int x2), (3, .int x3), (4, .int x4), (6, .int x6), (7, .int x7)]) [0, 1, 2, 3, 4, 6, 7] rfl ?_
          exact tbX7_worthWay_110 E hK49 hK150 h
theorem tlX7_worthWay_49 (E : EM p R s m args meth c cX7_worthWay 8 (some .int) D cs b H0 XK 4 96 z u) {Q : Int32 → St → Prop} {K150 : Int32 → Int32 → Int32 → Int32 → Int32 → St → Prop} (hK150 : ∀ (x1 : Int32) (x2 : Int32) (x3 : Int32) (x5 : Int32) (x6 : Int32) (f : St), K150 x1 x2 x3 x5 x6 f → AM p l e R s m args below meth c D cs b 8 o Z z u (pI Q) 150 [(0, .ref o), (1, .int x1), (2, .int x2), (3, .int x3), (5, .int x5), (6, .int x6)] [] f) : ∀ (n : Nat) (x1 : Int32) (x2 : Int32) (x3 : Int32) (x4 : Int32) (x5 : Int32) (x6 : Int32) (x7 : Int32) (f : St), wlX7_worthWay_49 K150 Q n x1 x2 x3 x4 x5 x6 x7 f → AM p l e R s m args below meth c D cs b 8 o Z z u (pI Q) 49 [(0, .ref o), (1, .int x1), (2, .int x2), (3, .int x3), (4, .int x4), (5, .int x5), (6, .int x6), (7, .int x7)] [] f := by
  intro n
  induction n with
  | zero => intro _ _ _ _ _ _ _ _ h; exact h.elim
  | succ n ih => intro x1 x2 x3 x4 x5 x6 x7 f h; exact tbX7_worthWay_49 E ih hK150 h
theorem tbX7_worthWay_4 (E : EM p R s m args meth c cX7_worthWay 8 (some .int) D cs b H0 XK 4 96 z u) {Q : Int32 → St → Prop} {K4 : Int32 → Int32 → St → Prop} (hK4 : ∀ (x1 : Int32) (x2 : Int32) (f : St), K4 x1 x2 f → AM p l e R s m args below meth c D cs b 8 o Z z u (pI Q) 4 [(0, .ref o), (1, .int x1), (2, .int x2)] [] f) {x1 : Int32} {x2 : Int32} {f : St} (h : wbX7_worthWay_4 K4 Q x1 x2 f) : AM p l e R s m args below meth c D cs b 8 o Z z u (pI Q) 4 [(0, .ref o), (1, .int x1), (2, .int x2)] [] f := by
  have E1 := E.1
  refine ag_iload_n E1 dX7_worthWay_4 rfl 2 rfl ?_
  refine ag_aload_n E1 dX7_worthWay_5 rfl 0 rfl ?_
  refine am_geti E 0 (by decide) rfl q1450 dX7_worthWay_6 ?_
  refine ag_icmp_ge E1 (tgt := 169) dX7_worthWay_9 (by decide) (fun c_9 => ?_) (fun c_9 => ?_)
  · have h := h.1 c_9
    refine ag_iload_n E1 dX7_worthWay_169 rfl 1 rfl ?_
    exact am_iret E rfl ⟨_, rfl, h⟩ dX7_worthWay_170
  · have h := h.2 c_9
    refine ag_aload_n E1 dX7_worthWay_12 rfl 0 rfl ?_
    refine am_geta E 52 (i := 31) (by decide) (by decide) rfl q1502 dX7_worthWay_13 ?_
    refine ag_iload_n E1 dX7_worthWay_16 rfl 2 rfl ?_
    obtain ⟨hin, h⟩ := h
    refine am_iald E 52 rfl rfl rfl (by decide) hin dX7_worthWay_17 ?_
    refine am_callSi E [.int (f 52 (Int32.toNatClampNeg x2))] (kX7_dayIn _ _ _ _ _ _ _ _ _ _ _ _ _ h) (lw_S q1840 q1841 q107 q1842) hdX7_dayIn (Nat.le_of_ble_eq_true rfl) (Nat.le_of_ble_eq_true rfl) rfl (Nat.le_of_ble_eq_true rfl) dX7_worthWay_18 rfl (fun r_2 f_1 h => ?_)
    refine ag_istore_n E1 (lv' := [(3, .int r_2), (0, .ref o), (1, .int x1), (2, .int x2)]) dX7_worthWay_21 rfl (Nat.lt_of_lt_of_le (Nat.le_refl _) (Nat.le_of_ble_eq_true rfl)) rfl ?_
    refine ag_iconst E1 dX7_worthWay_22 ki_1 ?_
    refine ag_iload_n E1 dX7_worthWay_23 rfl 0 rfl ?_
    refine ag_aload_n E1 dX7_worthWay_24 rfl 1 rfl ?_
    refine am_geti E 6 (by decide) rfl q1456 dX7_worthWay_25 ?_
    refine ag_iadd E1 dX7_worthWay_28 ?_
    refine ag_iconst E1 dX7_worthWay_29 ki_1 ?_
    refine ag_isub E1 dX7_worthWay_30 ?_
    refine ag_aload_n E1 dX7_worthWay_31 rfl 1 rfl ?_
    refine am_geti E 6 (by decide) rfl q1456 dX7_worthWay_32 ?_
    obtain ⟨hne, h⟩ := h
    refine ag_irem E1 dX7_worthWay_35 hne ?_
    refine ag_ishl E1 dX7_worthWay_36 ?_
    refine ag_topi (fun x4_3 e_x4_3 => ?_)
    have h := h x4_3 e_x4_3
    refine ag_istore E1 (lv' := [(4, .int x4_3), (3, .int r_2), (0, .ref o), (1, .int x1), (2, .int x2)]) dX7_worthWay_37 (Nat.lt_of_lt_of_le (Nat.le_refl _) (Nat.le_of_ble_eq_true rfl)) rfl ?_
    refine ag_bipush E1 dX7_worthWay_39 kb_99 ?_
    refine ag_istore E1 (lv' := [(5, .int (99 : Int32)), (4, .int x4_3), (3, .int r_2), (0, .ref o), (1, .int x1), (2, .int x2)]) dX7_worthWay_41 (Nat.lt_of_lt_of_le (Nat.le_refl _) (Nat.le_of_ble_eq_true rfl)) rfl ?_
    refine ag_iconst E1 dX7_worthWay_43 ki_0 ?_
    refine ag_istore E1 (lv' := [(6, .int (0 : Int32)), (5, .int (99 : Int32)), (4, .int x4_3), (3, .int r_2), (0, .ref o), (1, .int x1), (2, .int x2)]) dX7_worthWay_44 (Nat.lt_of_lt_of_le (Nat.le_refl _) (Nat.le_of_ble_eq_true rfl)) rfl ?_
    refine ag_iconst E1 dX7_worthWay_46 ki_0 ?_
    refine ag_istore E1 (lv' := [(7, .int (0 : Int32)), (6, .int (0 : Int32)), (5, .int (99 : Int32)), (4, .int x4_3), (3, .int r_2), (0, .ref o), (1, .int x1), (2, .int x2)]) dX7_worthWay_47 (Nat.lt_of_lt_of_le (Nat.le_refl _) (Nat.le_of_ble_eq_true rfl)) rfl ?_
    refine ag_sub (lv' := [(0, .ref o), (1, .int x1), (2, .int x2), (3, .int r_2), (4, .int x4_3), (5, .int (99 : Int32)), (6, .int (0 : Int32)), (7, .int (0 : Int32))]) [5, 6, 7, 4, 3, 2, 1, 0] rfl ?_
    obtain ⟨n, h⟩ := h
    refine tlX7_worthWay_49 E ?_ n _ _ _ _ _ _ _ _ h
    · intro x1 x2 x3 x5 x6 f h
      refine ag_iload_n E1 dX7_worthWay_150 rfl 1 rfl ?_
      refine ag_aload_n E1 dX7_worthWay_151 rfl 0 rfl ?_
      refine ag_iload_n E1 dX7_worthWay_152 rfl 2 rfl ?_
      refine ag_iload_n E1 dX7_worthWay_153 rfl 3 rfl ?_
      refine ag_iload E1 dX7_worthWay_154 4 rfl ?_
      refine ag_iload E1 dX7_worthWay_156 5 rfl ?_
      refine am_callVi E [.int x2, .int x3, .int x5, .int x6] (kX7_keptWorth _ _ _ _ _ _ _ _ _ _ _ _ _ _ _ _ h) (lw_V q1843 q1845 qs77 q107 q1846) hdX7_keptWorth (Nat.le_of_ble_eq_true rfl) (Nat.le_of_ble_eq_true rfl) rfl (Nat.le_of_ble_eq_true rfl) dX7_worthWay_158 rfl (fun r_7 f_6 h => ?_)
      refine ag_iadd E1 dX7_worthWay_161 ?_
      refine ag_topi (fun x1_8 e_x1_8 => ?_)
      have h := h x1_8 e_x1_8
      refine ag_istore_n E1 (lv' := [(1, .int x1_8), (0, .ref o), (2, .int x2), (3, .int x3), (5, .int x5), (6, .int x6)]) dX7_worthWay_162 rfl (Nat.lt_of_lt_of_le (Nat.le_refl _) (Nat.le_of_ble_eq_true rfl)) rfl ?_
      refine ag_iincN E1 (lv' := fun x2_9 => [(2, .int x2_9), (1, .int x1_8), (0, .ref o), (3, .int x3), (5, .int x5), (6, .int x6)]) dX7_worthWay_163 2 rfl ki_1 (Nat.lt_of_lt_of_le (Nat.le_refl _) (Nat.le_of_ble_eq_true rfl)) (fun _ => rfl) (fun x2_9 e_x2_9 => ?_)
      have h := h x2_9 e_x2_9
      refine ag_goto E1 (tgt := 4) dX7_worthWay_166 (by decide) ?_
      refine ag_sub (lv' := [(0, .ref o), (1, .int x1_8), (2, .int x2_9)]) [2, 1, 0] rfl ?_
      exact hK4 _ _ _ h
theorem tlX7_worthWay_4 (E : EM p R s m args meth c cX7_worthWay 8 (some .int) D cs b H0 XK 4 96 z u) {Q : Int32 → St → Prop}  : ∀ (n : Nat) (x1 : Int32) (x2 : Int32) (f : St), wlX7_worthWay_4  Q n x1 x2 f → AM p l e R s m args below meth c D cs b 8 o Z z u (pI Q) 4 [(0, .ref o), (1, .int x1), (2, .int x2)] [] f := by
  intro n
  induction n with
  | zero => intro _ _ _ h; exact h.elim
  | succ n ih => intro x1 x2 f h; exact tbX7_worthWay_4 E ih h
theorem kX7_worthWay (l : Launch) (D : va_G) (cs : Nat → ClassId) (b : Nat) (H0 : Heap) (XK : State → Prop) (o : Nat) (Z : cP) (z u : Nat) (f : St)  (Q : Int32 → St → Prop) (h : wX7_worthWay f  Q) : CM l D cs b H0 XK o Z z u yX7_worthWay cX7_worthWay 8 (some .int) 4 96 [.ref o] f (pI Q) := by
  refine cm_of (by decide) rfl (Nat.le_of_ble_eq_true rfl) (fun p e R s m below meth c E => ?_)
  have E1 := E.1
  refine ag_sub (lv' := [(0, .ref o)]) [0] rfl ?_
  refine ag_iconst E1 dX7_worthWay_0 ki_0 ?_
  refine ag_istore_n E1 (lv' := [(1, .int (0 : Int32)), (0, .ref o)]) dX7_worthWay_1 rfl (Nat.lt_of_lt_of_le (Nat.le_refl _) (Nat.le_of_ble_eq_true rfl)) rfl ?_
  refine ag_iconst E1 dX7_worthWay_2 ki_0 ?_
  refine ag_istore_n E1 (lv' := [(2, .int (0 : Int32)), (1, .int (0 : Int32)), (0, .ref o)]) dX7_worthWay_3 rfl (Nat.lt_of_lt_of_le (Nat.le_refl _) (Nat.le_of_ble_eq_true rfl)) rfl ?_
  refine ag_sub (lv' := [(0, .ref o), (1, .int (0 : Int32)), (2, .int (0 : Int32))]) [2, 1, 0] rfl ?_
  obtain ⟨n, h⟩ := h
  exact tlX7_worthWay_4 E  n _ _ _ h
theorem hdX7_worthWay : yX7_worthWay.cls = RX7 ∧ yX7_worthWay.cls ≠ "java/lang/invoke/MethodHandle" ∧ yX7_worthWay.cls ≠ "java/lang/invoke/VarHandle" ∧ (parseMethodDescriptor yX7_worthWay.desc).map (fun d => d.parameters.length) = some 0 := by decide +kernel
theorem tbX7_others_51 (E : EM p R s m args meth c cX7_others 4 (some .int) D cs b H0 XK 1 21 z u) {Q : Int32 → St → Prop} {K4 : Int32 → Int32 → Int32 → St → Prop} (hK4 : ∀ (x1 : Int32) (x2 : Int32) (x3 : Int32) (f : St), K4 x1 x2 x3 f → AM p l e R s m args below meth c D cs b 4 o Z z u (pI Q) 4 [(0, .ref o), (1, .int x1), (2, .int x2), (3, .int x3)] [] f) {x1 : Int32} {x3 : Int32} {t0 : Int32} {t1 : Int32} {f : St} (h : wbX7_others_51 K4 Q x1 x3 t0 t1 f) : AM p l e R s m args below meth c D cs b 4 o Z z u (pI Q) 51 [(0, .ref o), (1, .int x1), (3, .int x3)] [.int t0, .int t1] f := by
  have E1 := E.1
  refine ag_iadd E1 dX7_others_51 ?_
  refine ag_topi (fun x2_1 e_x2_1 => ?_)
  have h := h x2_1 e_x2_1
  refine ag_istore_n E1 (lv' := [(2, .int x2_1), (0, .ref o), (1, .int x1), (3, .int x3)]) dX7_others_52 rfl (Nat.lt_of_lt_of_le (Nat.le_refl _) (Nat.le_of_ble_eq_true rfl)) rfl ?_
  refine ag_iincN E1 (lv' := fun x3_2 => [(3, .int x3_2), (2, .int x2_1), (0, .ref o), (1, .int x1)]) dX7_others_53 3 rfl ki_1 (Nat.lt_of_lt_of_le (Nat.le_refl _) (Nat.le_of_ble_eq_true rfl)) (fun _ => rfl) (fun x3_2 e_x3_2 => ?_)
  have h := h x3_2 e_x3_2
  refine ag_goto E1 (tgt := 4) dX7_others_56 (by decide) ?_
  refine ag_sub (lv' := [(0, .ref o), (1, .int x1), (2, .int x2_1), (3, .int x3_2)]) [2, 3, 1, 0] rfl ?_
  exact hK4 _ _ _ _ h
theorem tbX7_others_50 (E : EM p R s m args meth c cX7_others 4 (some .int) D cs b H0 XK 1 21 z u) {Q : Int32 → St → Prop} {K4 : Int32 → Int32 → Int32 → St → Prop} (hK4 : ∀ (x1 : Int32) (x2 : Int32) (x3 : Int32) (f : St), K4 x1 x2 x3 f → AM p l e R s m args below meth c D cs b 4 o Z z u (pI Q) 4 [(0, .ref o), (1, .int x1), (2, .int x2), (3, .int x3)] [] f) {x1 : Int32} {x3 : Int32} {t0 : Int32} {f : St} (h : wbX7_others_50 K4 Q x1 x3 t0 f) : AM p l e R s m args below meth c D cs b 4 o Z z u (pI Q) 50 [(0, .ref o), (1, .int x1), (3, .int x3)] [.int t0] f := by
  have E1 := E.1
  refine ag_iconst E1 dX7_others_50 ki_1 ?_
  exact tbX7_others_51 E hK4 h
theorem tbX7_others_4 (E : EM p R s m args meth c cX7_others 4 (some .int) D cs b H0 XK 1 21 z u) {Q : Int32 → St → Prop} {K4 : Int32 → Int32 → Int32 → St → Prop} (hK4 : ∀ (x1 : Int32) (x2 : Int32) (x3 : Int32) (f : St), K4 x1 x2 x3 f → AM p l e R s m args below meth c D cs b 4 o Z z u (pI Q) 4 [(0, .ref o), (1, .int x1), (2, .int x2), (3, .int x3)] [] f) {x1 : Int32} {x2 : Int32} {x3 : Int32} {f : St} (h : wbX7_others_4 K4 Q x1 x2 x3 f) : AM p l e R s m args below meth c D cs b 4 o Z z u (pI Q) 4 [(0, .ref o), (1, .int x1), (2, .int x2), (3, .int x3)] [] f := by
  have E1 := E.1
  refine ag_iload_n E1 dX7_others_4 rfl 3 rfl ?_
  refine ag_aload_n E1 dX7_others_5 rfl 0 rfl ?_
  refine am_geti E 0 (by decide) rfl q1450 dX7_others_6 ?_
  refine ag_icmp_ge E1 (tgt := 59) dX7_others_9 (by decide) (fun c_9 => ?_) (fun c_9 => ?_)
  · have h := h.1 c_9
    refine ag_iload_n E1 dX7_others_59 rfl 2 rfl ?_
    exact am_iret E rfl ⟨_, rfl, h⟩ dX7_others_60
  · have h := h.2 c_9
    refine ag_iload_n E1 dX7_others_12 rfl 2 rfl ?_
    refine ag_iload_n E1 dX7_others_13 rfl 3 rfl ?_
    refine ag_aload_n E1 dX7_others_14 rfl 0 rfl ?_
    refine am_geta E 18 (i := 12) (by decide) (by decide) rfl q1468 dX7_others_15 ?_
    refine ag_iload_n E1 dX7_others_18 rfl 1 rfl ?_
    obtain ⟨hin, h⟩ := h
    refine am_iald E 18 rfl rfl rfl (by decide) hin dX7_others_19 ?_
    refine ag_icmp_ge E1 (tgt := 50) dX7_others_20 (by decide) (fun c_20 => ?_) (fun c_20 => ?_)
    · have h := h.1 c_20
      refine ag_sub (lv' := [(0, .ref o), (1, .int x1), (3, .int x3)]) [0, 1, 3] rfl ?_
      exact tbX7_others_50 E hK4 h
    · have h := h.2 c_20
      refine ag_aload_n E1 dX7_others_23 rfl 0 rfl ?_
      refine am_geta E 19 (i := 13) (by decide) (by decide) rfl q1469 dX7_others_24 ?_
      refine ag_bipush E1 dX7_others_27 kb_6 ?_
      refine ag_iload_n E1 dX7_others_29 rfl 1 rfl ?_
      refine ag_imul E1 dX7_others_30 ?_
      refine ag_iload_n E1 dX7_others_31 rfl 3 rfl ?_
      refine ag_iadd E1 dX7_others_32 ?_
      obtain ⟨hin, h⟩ := h
      refine am_iald E 19 rfl rfl rfl (by decide) hin dX7_others_33 ?_
      refine ag_aload_n E1 dX7_others_34 rfl 0 rfl ?_
      refine am_geta E 52 (i := 31) (by decide) (by decide) rfl q1502 dX7_others_35 ?_
      refine ag_iload_n E1 dX7_others_38 rfl 3 rfl ?_
      obtain ⟨hin, h⟩ := h
      refine am_iald E 52 rfl rfl rfl (by decide) hin dX7_others_39 ?_
      refine am_callSi E [.int (f 52 (Int32.toNatClampNeg x3))] (kX7_dayIn _ _ _ _ _ _ _ _ _ _ _ _ _ h) (lw_S q1840 q1841 q107 q1842) hdX7_dayIn (Nat.le_of_ble_eq_true rfl) (Nat.le_of_ble_eq_true rfl) rfl (Nat.le_of_ble_eq_true rfl) dX7_others_40 rfl (fun r_4 f_3 h => ?_)
      refine ag_icmp_ne E1 (tgt := 50) dX7_others_43 (by decide) (fun c_43 => ?_) (fun c_43 => ?_)
      · have h := h.1 c_43
        refine ag_sub (lv' := [(0, .ref o), (1, .int x1), (3, .int x3)]) [0, 1, 3] rfl ?_
        exact tbX7_others_50 E hK4 h
      · have h := h.2 c_43
        refine ag_iconst E1 dX7_others_46 ki_0 ?_
        refine ag_goto E1 (tgt := 51) dX7_others_47 (by decide) ?_
        refine ag_sub (lv' := [(0, .ref o), (1, .int x1), (3, .int x3)]) [0, 1, 3] rfl ?_
        exact tbX7_others_51 E hK4 h
theorem tlX7_others_4 (E : EM p R s m args meth c cX7_others 4 (some .int) D cs b H0 XK 1 21 z u) {Q : Int32 → St → Prop}  : ∀ (n : Nat) (x1 : Int32) (x2 : Int32) (x3 : Int32) (f : St), wlX7_others_4  Q n x1 x2 x3 f → AM p l e R s m args below meth c D cs b 4 o Z z u (pI Q) 4 [(0, .ref o), (1, .int x1), (2, .int x2), (3, .int x3)] [] f := by
  intro n
  induction n with
  | zero => intro _ _ _ _ h; exact h.elim
  | succ n ih => intro x1 x2 x3 f h; exact tbX7_others_4 E ih h
theorem kX7_others (l : Launch) (D : va_G) (cs : Nat → ClassId) (b : Nat) (H0 : Heap) (XK : State → Prop) (o : Nat) (Z : cP) (z u : Nat) (f : St) (x1 : Int32) (Q : Int32 → St → Prop) (h : wX7_others f x1 Q) : CM l D cs b H0 XK o Z z u yX7_others cX7_others 4 (some .int) 1 21 [.ref o, .int x1] f (pI Q) := by
  refine cm_of (by decide) rfl (Nat.le_of_ble_eq_true rfl) (fun p e R s m below meth c E => ?_)
  have E1 := E.1
  refine ag_sub (lv' := [(0, .ref o), (1, .int x1)]) [0, 1] rfl ?_
  refine ag_iconst E1 dX7_others_0 ki_0 ?_
  refine ag_istore_n E1 (lv' := [(2, .int (0 : Int32)), (0, .ref o), (1, .int x1)]) dX7_others_1 rfl (Nat.lt_of_lt_of_le (Nat.le_refl _) (Nat.le_of_ble_eq_true rfl)) rfl ?_
  refine ag_iconst E1 dX7_others_2 ki_0 ?_
  refine ag_istore_n E1 (lv' := [(3, .int (0 : Int32)), (2, .int (0 : Int32)), (0, .ref o), (1, .int x1)]) dX7_others_3 rfl (Nat.lt_of_lt_of_le (Nat.le_refl _) (Nat.le_of_ble_eq_true rfl)) rfl ?_
  refine ag_sub (lv' := [(0, .ref o), (1, .int x1), (2, .int (0 : Int32)), (3, .int (0 : Int32))]) [2, 3, 1, 0] rfl ?_
  obtain ⟨n, h⟩ := h
  exact tlX7_others_4 E  n _ _ _ _ h
theorem hdX7_others : yX7_others.cls = RX7 ∧ yX7_others.cls ≠ "java/lang/invoke/MethodHandle" ∧ yX7_others.cls ≠ "java/lang/invoke/VarHandle" ∧ (parseMethodDescriptor yX7_others.desc).map (fun d => d.parameters.length) = some 1 := by decide +kernel
theorem tbX7_keeps_15 (E : EM p R s m args meth c cX7_keeps 2 none D cs b H0 XK 1 21 z u) {Q : St → Prop} {K15 : Int32 → St → Prop} (hK15 : ∀ (x1 : Int32) (f : St), K15 x1 f → AM p l e R s m args below meth c D cs b 2 o Z z u (pV Q) 15 [(0, .ref o), (1, .int x1)] [] f) {x1 : Int32} {f : St} (h : wbX7_keeps_15 K15 Q x1 f) : AM p l e R s m args below meth c D cs b 2 o Z z u (pV Q) 15 [(0, .ref o), (1, .int x1)] [] f := by
  have E1 := E.1
  refine ag_iload_n E1 dX7_keeps_15 rfl 1 rfl ?_
  refine ag_aload_n E1 dX7_keeps_16 rfl 0 rfl ?_
  refine am_geti E 0 (by decide) rfl q1450 dX7_keeps_17 ?_
  refine ag_icmp_ge E1 (tgt := 44) dX7_keeps_20 (by decide) (fun c_20 => ?_) (fun c_20 => ?_)
  · have h := h.1 c_20
    exact am_vret E rfl ⟨rfl, h⟩ dX7_keeps_44
  · have h := h.2 c_20
    refine ag_aload_n E1 dX7_keeps_23 rfl 0 rfl ?_
    refine am_geta E 22 (i := 14) (by decide) (by decide) rfl q1472 dX7_keeps_24 ?_
    refine ag_iload_n E1 dX7_keeps_27 rfl 1 rfl ?_
    refine ag_aload_n E1 dX7_keeps_28 rfl 0 rfl ?_
    refine am_geta E 52 (i := 31) (by decide) (by decide) rfl q1502 dX7_keeps_29 ?_
    refine ag_iload_n E1 dX7_keeps_32 rfl 1 rfl ?_
    obtain ⟨hin, h⟩ := h
    refine am_iald E 52 rfl rfl rfl (by decide) hin dX7_keeps_33 ?_
    refine am_callSi E [.int (f 52 (Int32.toNatClampNeg x1))] (kX7_dayIn _ _ _ _ _ _ _ _ _ _ _ _ _ h) (lw_S q1840 q1841 q107 q1842) hdX7_dayIn (Nat.le_of_ble_eq_true rfl) (Nat.le_of_ble_eq_true rfl) rfl (Nat.le_of_ble_eq_true rfl) dX7_keeps_34 rfl (fun r_4 f_3 h => ?_)
    obtain ⟨hin, h⟩ := h
    refine am_iast E 22 rfl rfl rfl (by decide) hin dX7_keeps_37 (fun f_5 e_f_5 => ?_)
    have h := h f_5 e_f_5
    refine ag_iincN E1 (lv' := fun x1_6 => [(1, .int x1_6), (0, .ref o)]) dX7_keeps_38 1 rfl ki_1 (Nat.lt_of_lt_of_le (Nat.le_refl _) (Nat.le_of_ble_eq_true rfl)) (fun _ => rfl) (fun x1_6 e_x1_6 => ?_)
    have h := h x1_6 e_x1_6
    refine ag_goto E1 (tgt := 15) dX7_keeps_41 (by decide) ?_
    refine ag_sub (lv' := [(0, .ref o), (1, .int x1_6)]) [1, 0] rfl ?_
    exact hK15 _ _ h
theorem tlX7_keeps_15 (E : EM p R s m args meth c cX7_keeps 2 none D cs b H0 XK 1 21 z u) {Q : St → Prop}  : ∀ (n : Nat) (x1 : Int32) (f : St), wlX7_keeps_15  Q n x1 f → AM p l e R s m args below meth c D cs b 2 o Z z u (pV Q) 15 [(0, .ref o), (1, .int x1)] [] f := by
  intro n
  induction n with
  | zero => intro _ _ h; exact h.elim
  | succ n ih => intro x1 f h; exact tbX7_keeps_15 E ih h
theorem kX7_keeps (l : Launch) (D : va_G) (cs : Nat → ClassId) (b : Nat) (H0 : Heap) (XK : State → Prop) (o : Nat) (Z : cP) (z u : Nat) (f : St)  (Q : St → Prop) (h : wX7_keeps f  Q) : CM l D cs b H0 XK o Z z u yX7_keeps cX7_keeps 2 none 1 21 [.ref o] f (pV Q) := by
  refine cm_of (by decide) rfl (Nat.le_of_ble_eq_true rfl) (fun p e R s m below meth c E => ?_)
  have E1 := E.1
  refine ag_sub (lv' := [(0, .ref o)]) [0] rfl ?_
  refine ag_aload_n E1 dX7_keeps_0 rfl 0 rfl ?_
  refine ag_iconst E1 dX7_keeps_1 ki_1 ?_
  refine am_puti E 20 (by decide) rfl q1470 rfl (ty := .boolean) (by decide +kernel) (vz_nar (show vz (1 : Int32) from Or.inr rfl)) (vz_fit (show vz (1 : Int32) from Or.inr rfl)) dX7_keeps_2 (fun f_1 e_f_1 => ?_)
  have h := h f_1 e_f_1
  refine ag_aload_n E1 dX7_keeps_5 rfl 0 rfl ?_
  refine ag_aload_n E1 dX7_keeps_6 rfl 0 rfl ?_
  refine am_geti E 0 (by decide) rfl q1450 dX7_keeps_7 ?_
  refine am_puti E 21 (by decide) rfl q1471 rfl (ty := .int) (by decide +kernel) rfl rfl dX7_keeps_10 (fun f_2 e_f_2 => ?_)
  have h := h f_2 e_f_2
  refine ag_iconst E1 dX7_keeps_13 ki_0 ?_
  refine ag_istore_n E1 (lv' := [(1, .int (0 : Int32)), (0, .ref o)]) dX7_keeps_14 rfl (Nat.lt_of_lt_of_le (Nat.le_refl _) (Nat.le_of_ble_eq_true rfl)) rfl ?_
  refine ag_sub (lv' := [(0, .ref o), (1, .int (0 : Int32))]) [1, 0] rfl ?_
  obtain ⟨n, h⟩ := h
  exact tlX7_keeps_15 E  n _ _ h
theorem hdX7_keeps : yX7_keeps.cls = RX7 ∧ yX7_keeps.cls ≠ "java/lang/invoke/MethodHandle" ∧ yX7_keeps.cls ≠ "java/lang/invoke/VarHandle" ∧ (parseMethodDescriptor yX7_keeps.desc).map (fun d => d.parameters.length) = some 0 := by decide +kernel
theorem tbX7_find_37 (E : EM p R s m args meth c cX7_find 6 (some .long) D cs b H0 XK 5 123 z u) {Q : Int64 → St → Prop} {K37 : Int32 → Int32 → Int32 → St → Prop} (hK37 : ∀ (x1 : Int32) (x2 : Int32) (x3 : Int32) (f : St), K37 x1 x2 x3 f → AM p l e R s m args below meth c D cs b 6 o Z z u (pJ Q) 37 [(0, .ref o), (1, .int x1), (2, .int x2), (3, .int x3)] [] f) {K62 : Int32 → Int32 → St → Prop} (hK62 : ∀ (x1 : Int32) (x2 : Int32) (f : St), K62 x1 x2 f → AM p l e R s m args below meth c D cs b 6 o Z z u (pJ Q) 62 [(0, .ref o), (1, .int x1), (2, .int x2)] [] f) {x1 : Int32} {x2 : Int32} {x3 : Int32} {f : St} (h : wbX7_find_37 K37 K62 Q x1 x2 x3 f) : AM p l e R s m args below meth c D cs b 6 o Z z u (pJ Q) 37 [(0, .ref o), (1, .int x1), (2, .int x2), (3, .int x3)] [] f := by
  have E1 := E.1
  refine ag_iload_n E1 dX7_find_37 rfl 3 rfl ?_
  refine ag_sipush E1 dX7_find_38 ks_29400 ?_
  refine ag_icmp_ge E1 (tgt := 62) dX7_find_41 (by decide) (fun c_41 => ?_) (fun c_41 => ?_)
  · have h := h.1 c_41
    refine ag_sub (lv' := [(0, .ref o), (1, .int x1), (2, .int x2)]) [0, 1, 2] rfl ?_
    exact hK62 _ _ _ h
  · have h := h.2 c_41
    refine ag_iload_n E1 dX7_find_44 rfl 1 rfl ?_
    refine ag_iconst E1 dX7_find_45 ki_2 ?_
    refine ag_icmp_ne E1 (tgt := 62) dX7_find_46 (by decide) (fun c_46 => ?_) (fun c_46 => ?_)
    · have h := h.1 c_46
      refine ag_sub (lv' := [(0, .ref o), (1, .int x1), (2, .int x2)]) [0, 1, 2] rfl ?_
      exact hK62 _ _ _ h
    · have h := h.2 c_46
      refine ag_aload_n E1 dX7_find_49 rfl 0 rfl ?_
      refine am_geta E 54 (i := 33) (by decide) (by decide) rfl q1504 dX7_find_50 ?_
      refine ag_iload_n E1 dX7_find_53 rfl 3 rfl ?_
      refine ag_iconst E1 dX7_find_54 ki_0 ?_
      obtain ⟨hin, h⟩ := h
      refine am_zast E 54 rfl rfl rfl (by decide) (show vz (0 : Int32) from Or.inl rfl) hin dX7_find_55 (fun f_5 e_f_5 => ?_)
      have h := h f_5 e_f_5
      refine ag_iincN E1 (lv' := fun x3_6 => [(3, .int x3_6), (0, .ref o), (1, .int x1), (2, .int x2)]) dX7_find_56 3 rfl ki_1 (Nat.lt_of_lt_of_le (Nat.le_refl _) (Nat.le_of_ble_eq_true rfl)) (fun _ => rfl) (fun x3_6 e_x3_6 => ?_)
      have h := h x3_6 e_x3_6
      refine ag_goto E1 (tgt := 37) dX7_find_59 (by decide) ?_
      refine ag_sub (lv' := [(0, .ref o), (1, .int x1), (2, .int x2), (3, .int x3_6)]) [1, 2, 3, 0] rfl ?_
      exact hK37 _ _ _ _ h
theorem tlX7_find_37 (E : EM p R s m args meth c cX7_find 6 (some .long) D cs b H0 XK 5 123 z u) {Q : Int64 → St → Prop} {K62 : Int32 → Int32 → St → Prop} (hK62 : ∀ (x1 : Int32) (x2 : Int32) (f : St), K62 x1 x2 f → AM p l e R s m args below meth c D cs b 6 o Z z u (pJ Q) 62 [(0, .ref o), (1, .int x1), (2, .int x2)] [] f) : ∀ (n : Nat) (x1 : Int32) (x2 : Int32) (x3 : Int32) (f : St), wlX7_find_37 K62 Q n x1 x2 x3 f → AM p l e R s m args below meth c D cs b 6 o Z z u (pJ Q) 37 [(0, .ref o), (1, .int x1), (2, .int x2), (3, .int x3)] [] f := by
  intro n
  induction n with
  | zero => intro _ _ _ _ h; exact h.elim
  | succ n ih => intro x1 x2 x3 f h; exact tbX7_find_37 E ih hK62 h
theorem tbX7_find_166 (E : EM p R s m args meth c cX7_find 6 (some .long) D cs b H0 XK 5 123 z u) {Q : Int64 → St → Prop} {K75 : Int32 → Int32 → Int32 → Int32 → St → Prop} (hK75 : ∀ (x1 : Int32) (x2 : Int32) (x3 : Int32) (x4 : Int32) (f : St), K75 x1 x2 x3 x4 f → AM p l e R s m args below meth c D cs b 6 o Z z u (pJ Q) 75 [(0, .ref o), (1, .int x1), (2, .int x2), (3, .int x3), (4, .int x4)] [] f) {K171 : Int32 → St → Prop} (hK171 : ∀ (x3 : Int32) (f : St), K171 x3 f → AM p l e R s m args below meth c D cs b 6 o Z z u (pJ Q) 171 [(0, .ref o), (3, .int x3)] [] f) {x1 : Int32} {x2 : Int32} {x3 : Int32} {t0 : Int32} {f : St} (h : wbX7_find_166 K75 K171 Q x1 x2 x3 t0 f) : AM p l e R s m args below meth c D cs b 6 o Z z u (pJ Q) 166 [(0, .ref o), (1, .int x1), (2, .int x2), (3, .int x3)] [.int t0] f := by
  have E1 := E.1
  refine ag_istore E1 (lv' := [(4, .int t0), (0, .ref o), (1, .int x1), (2, .int x2), (3, .int x3)]) dX7_find_166 (Nat.lt_of_lt_of_le (Nat.le_refl _) (Nat.le_of_ble_eq_true rfl)) rfl ?_
  refine ag_goto E1 (tgt := 75) dX7_find_168 (by decide) ?_
  refine ag_sub (lv' := [(0, .ref o), (1, .int x1), (2, .int x2), (3, .int x3), (4, .int t0)]) [1, 2, 3, 4, 0] rfl ?_
  exact hK75 _ _ _ _ _ h
theorem tbX7_find_165 (E : EM p R s m args meth c cX7_find 6 (some .long) D cs b H0 XK 5 123 z u) {Q : Int64 → St → Prop} {K75 : Int32 → Int32 → Int32 → Int32 → St → Prop} (hK75 : ∀ (x1 : Int32) (x2 : Int32) (x3 : Int32) (x4 : Int32) (f : St), K75 x1 x2 x3 x4 f → AM p l e R s m args below meth c D cs b 6 o Z z u (pJ Q) 75 [(0, .ref o), (1, .int x1), (2, .int x2), (3, .int x3), (4, .int x4)] [] f) {K171 : Int32 → St → Prop} (hK171 : ∀ (x3 : Int32) (f : St), K171 x3 f → AM p l e R s m args below meth c D cs b 6 o Z z u (pJ Q) 171 [(0, .ref o), (3, .int x3)] [] f) {x1 : Int32} {x2 : Int32} {x3 : Int32} {f : St} (h : wbX7_find_165 K75 K171 Q x1 x2 x3 f) : AM p l e R s m args below meth c D cs b 6 o Z z u (pJ Q) 165 [(0, .ref o), (1, .int x1), (2, .int x2), (3, .int x3)] [] f := by
  have E1 := E.1
  refine ag_iconst E1 dX7_find_165 ki_0 ?_
  exact tbX7_find_166 E hK75 hK171 h
theorem tbX7_find_144 (E : EM p R s m args meth c cX7_find 6 (some .long) D cs b H0 XK 5 123 z u) {Q : Int64 → St → Prop} {K75 : Int32 → Int32 → Int32 → Int32 → St → Prop} (hK75 : ∀ (x1 : Int32) (x2 : Int32) (x3 : Int32) (x4 : Int32) (f : St), K75 x1 x2 x3 x4 f → AM p l e R s m args below meth c D cs b 6 o Z z u (pJ Q) 75 [(0, .ref o), (1, .int x1), (2, .int x2), (3, .int x3), (4, .int x4)] [] f) {K171 : Int32 → St → Prop} (hK171 : ∀ (x3 : Int32) (f : St), K171 x3 f → AM p l e R s m args below meth c D cs b 6 o Z z u (pJ Q) 171 [(0, .ref o), (3, .int x3)] [] f) {x1 : Int32} {x2 : Int32} {x3 : Int32} {f : St} (h : wbX7_find_144 K75 K171 Q x1 x2 x3 f) : AM p l e R s m args below meth c D cs b 6 o Z z u (pJ Q) 144 [(0, .ref o), (1, .int x1), (2, .int x2), (3, .int x3)] [] f := by
  have E1 := E.1
  refine ag_iload_n E1 dX7_find_144 rfl 1 rfl ?_
  refine ag_iconst E1 dX7_find_145 ki_1 ?_
  refine ag_icmp_eq E1 (tgt := 165) dX7_find_146 (by decide) (fun c_146 => ?_) (fun c_146 => ?_)
  · have h := h.1 c_146
    exact tbX7_find_165 E hK75 hK171 h
  · have h := h.2 c_146
    refine ag_aload_n E1 dX7_find_149 rfl 0 rfl ?_
    refine ag_aload_n E1 dX7_find_150 rfl 0 rfl ?_
    refine am_callVi E [] (kX7_all _ _ _ _ _ _ _ _ _ _ _  _ h) (lw_V q1820 q1822 qs73 q107 q1823) hdX7_all (Nat.le_of_ble_eq_true rfl) (Nat.le_of_ble_eq_true rfl) rfl (Nat.le_of_ble_eq_true rfl) dX7_find_151 rfl (fun r_15 f_14 h => ?_)
    refine ag_iconst E1 dX7_find_154 ki_0 ?_
    refine am_callVi E [.int r_15, .int (0 : Int32)] (kX7_nextWay _ _ _ _ _ _ _ _ _ _ _ _ _ _ h) (lw_V q1824 q1826 qs74 q107 q1827) hdX7_nextWay (Nat.le_of_ble_eq_true rfl) (Nat.le_of_ble_eq_true rfl) rfl (Nat.le_of_ble_eq_true rfl) dX7_find_155 rfl (fun r_17 f_16 h => ?_)
    refine ag_if_eq E1 (tgt := 165) dX7_find_158 (by decide) (fun c_158 => ?_) (fun c_158 => ?_)
    · have h := h.1 c_158
      exact tbX7_find_165 E hK75 hK171 h
    · have h := h.2 c_158
      refine ag_iconst E1 dX7_find_161 ki_1 ?_
      refine ag_goto E1 (tgt := 166) dX7_find_162 (by decide) ?_
      exact tbX7_find_166 E hK75 hK171 h
theorem tbX7_find_137 (E : EM p R s m args meth c cX7_find 6 (some .long) D cs b H0 XK 5 123 z u) {Q : Int64 → St → Prop} {K75 : Int32 → Int32 → Int32 → Int32 → St → Prop} (hK75 : ∀ (x1 : Int32) (x2 : Int32) (x3 : Int32) (x4 : Int32) (f : St), K75 x1 x2 x3 x4 f → AM p l e R s m args below meth c D cs b 6 o Z z u (pJ Q) 75 [(0, .ref o), (1, .int x1), (2, .int x2), (3, .int x3), (4, .int x4)] [] f) {K171 : Int32 → St → Prop} (hK171 : ∀ (x3 : Int32) (f : St), K171 x3 f → AM p l e R s m args below meth c D cs b 6 o Z z u (pJ Q) 171 [(0, .ref o), (3, .int x3)] [] f) {x1 : Int32} {x2 : Int32} {x5 : Int32} {f : St} (h : wbX7_find_137 K75 K171 Q x1 x2 x5 f) : AM p l e R s m args below meth c D cs b 6 o Z z u (pJ Q) 137 [(0, .ref o), (1, .int x1), (2, .int x2), (5, .int x5)] [] f := by
  have E1 := E.1
  refine ag_iload E1 dX7_find_137 3 rfl ?_
  refine ag_istore_n E1 (lv' := [(3, .int x5), (0, .ref o), (1, .int x1), (2, .int x2), (5, .int x5)]) dX7_find_139 rfl (Nat.lt_of_lt_of_le (Nat.le_refl _) (Nat.le_of_ble_eq_true rfl)) rfl ?_
  refine ag_aload_n E1 dX7_find_140 rfl 1 rfl ?_
  refine am_callVv E [] (kX7_keeps _ _ _ _ _ _ _ _ _ _ _  _ h) (lw_V q1851 q1853 qs79 q107 q1854) hdX7_keeps (Nat.le_of_ble_eq_true rfl) (Nat.le_of_ble_eq_true rfl) rfl (Nat.le_of_ble_eq_true rfl) dX7_find_141 rfl (fun f_13 h => ?_)
  refine ag_sub (lv' := [(0, .ref o), (1, .int x1), (2, .int x2), (3, .int x5)]) [1, 2, 3, 0] rfl ?_
  exact tbX7_find_144 E hK75 hK171 h
theorem tbX7_find_126 (E : EM p R s m args meth c cX7_find 6 (some .long) D cs b H0 XK 5 123 z u) {Q : Int64 → St → Prop} {K75 : Int32 → Int32 → Int32 → Int32 → St → Prop} (hK75 : ∀ (x1 : Int32) (x2 : Int32) (x3 : Int32) (x4 : Int32) (f : St), K75 x1 x2 x3 x4 f → AM p l e R s m args below meth c D cs b 6 o Z z u (pJ Q) 75 [(0, .ref o), (1, .int x1), (2, .int x2), (3, .int x3), (4, .int x4)] [] f) {K171 : Int32 → St → Prop} (hK171 : ∀ (x3 : Int32) (f : St), K171 x3 f → AM p l e R s m args below meth c D cs b 6 o Z z u (pJ Q) 171 [(0, .ref o), (3, .int x3)] [] f) {x1 : Int32} {x2 : Int32} {x3 : Int32} {x5 : Int32} {f : St} (h : wbX7_find_126 K75 K171 Q x1 x2 x3 x5 f) : AM p l e R s m args below meth c D cs b 6 o Z z u (pJ Q) 126 [(0, .ref o), (1, .int x1), (2, .int x2), (3, .int x3), (5, .int x5)] [] f := by
  have E1 := E.1
  refine ag_iload_n E1 dX7_find_126 rfl 1 rfl ?_
  refine ag_iconst E1 dX7_find_127 ki_3 ?_
  refine ag_icmp_ne E1 (tgt := 144) dX7_find_128 (by decide) (fun c_128 => ?_) (fun c_128 => ?_)
  · have h := h.1 c_128
    refine ag_sub (lv' := [(0, .ref o), (1, .int x1), (2, .int x2), (3, .int x3)]) [0, 1, 2, 3] rfl ?_
    exact tbX7_find_144 E hK75 hK171 h
  · have h := h.2 c_128
    refine ag_iload E1 dX7_find_131 4 rfl ?_
    refine ag_iload_n E1 dX7_find_133 rfl 3 rfl ?_
    refine ag_icmp_ge E1 (tgt := 144) dX7_find_134 (by decide) (fun c_134 => ?_) (fun c_134 => ?_)
    · have h := h.1 c_134
      refine ag_sub (lv' := [(0, .ref o), (1, .int x1), (2, .int x2), (3, .int x3)]) [0, 1, 2, 3] rfl ?_
      exact tbX7_find_144 E hK75 hK171 h
    · have h := h.2 c_134
      refine ag_sub (lv' := [(0, .ref o), (1, .int x1), (2, .int x2), (5, .int x5)]) [0, 1, 2, 4] rfl ?_
      exact tbX7_find_137 E hK75 hK171 h
theorem tbX7_find_106 (E : EM p R s m args meth c cX7_find 6 (some .long) D cs b H0 XK 5 123 z u) {Q : Int64 → St → Prop} {K75 : Int32 → Int32 → Int32 → Int32 → St → Prop} (hK75 : ∀ (x1 : Int32) (x2 : Int32) (x3 : Int32) (x4 : Int32) (f : St), K75 x1 x2 x3 x4 f → AM p l e R s m args below meth c D cs b 6 o Z z u (pJ Q) 75 [(0, .ref o), (1, .int x1), (2, .int x2), (3, .int x3), (4, .int x4)] [] f) {K171 : Int32 → St → Prop} (hK171 : ∀ (x3 : Int32) (f : St), K171 x3 f → AM p l e R s m args below meth c D cs b 6 o Z z u (pJ Q) 171 [(0, .ref o), (3, .int x3)] [] f) {x1 : Int32} {x2 : Int32} {x3 : Int32} {t0 : Int32} {f : St} (h : wbX7_find_106 K75 K171 Q x1 x2 x3 t0 f) : AM p l e R s m args below meth c D cs b 6 o Z z u (pJ Q) 106 [(0, .ref o), (1, .int x1), (2, .int x2), (3, .int x3)] [.int t0] f := by
  have E1 := E.1
  refine ag_istore E1 (lv' := [(5, .int t0), (0, .ref o), (1, .int x1), (2, .int x2), (3, .int x3)]) dX7_find_106 (Nat.lt_of_lt_of_le (Nat.le_refl _) (Nat.le_of_ble_eq_true rfl)) rfl ?_
  refine ag_aload_n E1 dX7_find_108 rfl 1 rfl ?_
  refine am_geti E 20 (by decide) rfl q1470 dX7_find_109 ?_
  refine ag_if_eq E1 (tgt := 137) dX7_find_112 (by decide) (fun c_112 => ?_) (fun c_112 => ?_)
  · have h := h.1 c_112
    refine ag_sub (lv' := [(0, .ref o), (1, .int x1), (2, .int x2), (5, .int t0)]) [1, 2, 3, 0] rfl ?_
    exact tbX7_find_137 E hK75 hK171 h
  · have h := h.2 c_112
    refine ag_iload_n E1 dX7_find_115 rfl 2 rfl ?_
    refine ag_iconst E1 dX7_find_116 ki_2 ?_
    refine ag_icmp_ne E1 (tgt := 126) dX7_find_117 (by decide) (fun c_117 => ?_) (fun c_117 => ?_)
    · have h := h.1 c_117
      refine ag_sub (lv' := [(0, .ref o), (1, .int x1), (2, .int x2), (3, .int x3), (5, .int t0)]) [1, 2, 3, 4, 0] rfl ?_
      exact tbX7_find_126 E hK75 hK171 h
    · have h := h.2 c_117
      refine ag_iload E1 dX7_find_120 0 rfl ?_
      refine ag_iload_n E1 dX7_find_122 rfl 4 rfl ?_
      refine ag_icmp_gt E1 (tgt := 137) dX7_find_123 (by decide) (fun c_123 => ?_) (fun c_123 => ?_)
      · have h := h.1 c_123
        refine ag_sub (lv' := [(0, .ref o), (1, .int x1), (2, .int x2), (5, .int t0)]) [1, 2, 3, 0] rfl ?_
        exact tbX7_find_137 E hK75 hK171 h
      · have h := h.2 c_123
        refine ag_sub (lv' := [(0, .ref o), (1, .int x1), (2, .int x2), (3, .int x3), (5, .int t0)]) [1, 2, 3, 4, 0] rfl ?_
        exact tbX7_find_126 E hK75 hK171 h
theorem tbX7_find_75 (E : EM p R s m args meth c cX7_find 6 (some .long) D cs b H0 XK 5 123 z u) {Q : Int64 → St → Prop} {K75 : Int32 → Int32 → Int32 → Int32 → St → Prop} (hK75 : ∀ (x1 : Int32) (x2 : Int32) (x3 : Int32) (x4 : Int32) (f : St), K75 x1 x2 x3 x4 f → AM p l e R s m args below meth c D cs b 6 o Z z u (pJ Q) 75 [(0, .ref o), (1, .int x1), (2, .int x2), (3, .int x3), (4, .int x4)] [] f) {K171 : Int32 → St → Prop} (hK171 : ∀ (x3 : Int32) (f : St), K171 x3 f → AM p l e R s m args below meth c D cs b 6 o Z z u (pJ Q) 171 [(0, .ref o), (3, .int x3)] [] f) {x1 : Int32} {x2 : Int32} {x3 : Int32} {x4 : Int32} {f : St} (h : wbX7_find_75 K75 K171 Q x1 x2 x3 x4 f) : AM p l e R s m args below meth c D cs b 6 o Z z u (pJ Q) 75 [(0, .ref o), (1, .int x1), (2, .int x2), (3, .int x3), (4, .int x4)] [] f := by
  have E1 := E.1
  refine ag_iload E1 dX7_find_75 4 rfl ?_
  refine ag_if_eq E1 (tgt := 171) dX7_find_77 (by decide) (fun c_77 => ?_) (fun c_77 => ?_)
  · have h := h.1 c_77
    refine ag_sub (lv' := [(0, .ref o), (3, .int x3)]) [0, 3] rfl ?_
    exact hK171 _ _ h
  · have h := h.2 c_77
    refine ag_iload_n E1 dX7_find_80 rfl 1 rfl ?_
    refine ag_iconst E1 dX7_find_81 ki_1 ?_
    refine ag_icmp_ne E1 (tgt := 89) dX7_find_82 (by decide) (fun c_82 => ?_) (fun c_82 => ?_)
    · have h := h.1 c_82
      refine ag_iload_n E1 dX7_find_89 rfl 1 rfl ?_
      refine ag_iconst E1 dX7_find_90 ki_2 ?_
      refine ag_icmp_ne E1 (tgt := 101) dX7_find_91 (by decide) (fun c_91 => ?_) (fun c_91 => ?_)
      · have h := h.1 c_91
        refine ag_aload_n E1 dX7_find_101 rfl 0 rfl ?_
        refine ag_iload_n E1 dX7_find_102 rfl 2 rfl ?_
        refine am_callVi E [.int x2] (kX7_others _ _ _ _ _ _ _ _ _ _ _ _ _ h) (lw_V q1847 q1849 qs78 q107 q1850) hdX7_others (Nat.le_of_ble_eq_true rfl) (Nat.le_of_ble_eq_true rfl) rfl (Nat.le_of_ble_eq_true rfl) dX7_find_103 rfl (fun r_12 f_11 h => ?_)
        refine ag_sub (lv' := [(0, .ref o), (1, .int x1), (2, .int x2), (3, .int x3)]) [0, 1, 2, 3] rfl ?_
        exact tbX7_find_106 E hK75 hK171 h
      · have h := h.2 c_91
        refine ag_aload_n E1 dX7_find_94 rfl 0 rfl ?_
        refine am_callVi E [] (kX7_worthWay _ _ _ _ _ _ _ _ _ _ _  _ h) (lw_V q1836 q1838 qs76 q107 q1839) hdX7_worthWay (Nat.le_of_ble_eq_true rfl) (Nat.le_of_ble_eq_true rfl) rfl (Nat.le_of_ble_eq_true rfl) dX7_find_95 rfl (fun r_19 f_18 h => ?_)
        refine ag_goto E1 (tgt := 106) dX7_find_98 (by decide) ?_
        refine ag_sub (lv' := [(0, .ref o), (1, .int x1), (2, .int x2), (3, .int x3)]) [0, 1, 2, 3] rfl ?_
        exact tbX7_find_106 E hK75 hK171 h
    · have h := h.2 c_82
      refine ag_iconst E1 dX7_find_85 ki_1 ?_
      refine ag_goto E1 (tgt := 106) dX7_find_86 (by decide) ?_
      refine ag_sub (lv' := [(0, .ref o), (1, .int x1), (2, .int x2), (3, .int x3)]) [0, 1, 2, 3] rfl ?_
      exact tbX7_find_106 E hK75 hK171 h
theorem tlX7_find_75 (E : EM p R s m args meth c cX7_find 6 (some .long) D cs b H0 XK 5 123 z u) {Q : Int64 → St → Prop} {K171 : Int32 → St → Prop} (hK171 : ∀ (x3 : Int32) (f : St), K171 x3 f → AM p l e R s m args below meth c D cs b 6 o Z z u (pJ Q) 171 [(0, .ref o), (3, .int x3)] [] f) : ∀ (n : Nat) (x1 : Int32) (x2 : Int32) (x3 : Int32) (x4 : Int32) (f : St), wlX7_find_75 K171 Q n x1 x2 x3 x4 f → AM p l e R s m args below meth c D cs b 6 o Z z u (pJ Q) 75 [(0, .ref o), (1, .int x1), (2, .int x2), (3, .int x3), (4, .int x4)] [] f := by
  intro n
  induction n with
  | zero => intro _ _ _ _ _ h; exact h.elim
  | succ n ih => intro x1 x2 x3 x4 f h; exact tbX7_find_75 E ih hK171 h
theorem tbX7_find_62 (E : EM p R s m args meth c cX7_find 6 (some .long) D cs b H0 XK 5 123 z u) {Q : Int64 → St → Prop}  {x1 : Int32} {x2 : Int32} {f : St} (h : wbX7_find_62  Q x1 x2 f) : AM p l e R s m args below meth c D cs b 6 o Z z u (pJ Q) 62 [(0, .ref o), (1, .int x1), (2, .int x2)] [] f := by
  have E1 := E.1
  refine ag_iconst E1 dX7_find_62 ki_0 ?_
  refine ag_istore_n E1 (lv' := [(3, .int (0 : Int32)), (0, .ref o), (1, .int x1), (2, .int x2)]) dX7_find_63 rfl (Nat.lt_of_lt_of_le (Nat.le_refl _) (Nat.le_of_ble_eq_true rfl)) rfl ?_
  refine ag_aload_n E1 dX7_find_64 rfl 1 rfl ?_
  refine ag_aload_n E1 dX7_find_65 rfl 1 rfl ?_
  refine am_callVi E [] (kX7_all _ _ _ _ _ _ _ _ _ _ _  _ h) (lw_V q1820 q1822 qs73 q107 q1823) hdX7_all (Nat.le_of_ble_eq_true rfl) (Nat.le_of_ble_eq_true rfl) rfl (Nat.le_of_ble_eq_true rfl) dX7_find_66 rfl (fun r_8 f_7 h => ?_)
  refine ag_iconst E1 dX7_find_69 ki_1 ?_
  refine am_callVi E [.int r_8, .int (1 : Int32)] (kX7_nextWay _ _ _ _ _ _ _ _ _ _ _ _ _ _ h) (lw_V q1824 q1826 qs74 q107 q1827) hdX7_nextWay (Nat.le_of_ble_eq_true rfl) (Nat.le_of_ble_eq_true rfl) rfl (Nat.le_of_ble_eq_true rfl) dX7_find_70 rfl (fun r_10 f_9 h => ?_)
  refine ag_istore E1 (lv' := [(4, .int r_10), (3, .int (0 : Int32)), (0, .ref o), (1, .int x1), (2, .int x2)]) dX7_find_73 (Nat.lt_of_lt_of_le (Nat.le_refl _) (Nat.le_of_ble_eq_true rfl)) rfl ?_
  refine ag_sub (lv' := [(0, .ref o), (1, .int x1), (2, .int x2), (3, .int (0 : Int32)), (4, .int r_10)]) [2, 3, 4, 1, 0] rfl ?_
  obtain ⟨n, h⟩ := h
  refine tlX7_find_75 E ?_ n _ _ _ _ _ h
  · intro x3 f h
    refine ag_aload_n E1 dX7_find_171 rfl 0 rfl ?_
    refine am_geti E 20 (by decide) rfl q1470 dX7_find_172 ?_
    refine ag_if_eq E1 (tgt := 183) dX7_find_175 (by decide) (fun c_175 => ?_) (fun c_175 => ?_)
    · have h := h.1 c_175
      refine ag_ldc2 E1 q1855 dX7_find_183 ?_
      exact am_lret E rfl ⟨_, rfl, h⟩ dX7_find_186
    · have h := h.2 c_175
      refine ag_iload_n E1 dX7_find_178 rfl 1 rfl ?_
      refine ag_i2l E1 dX7_find_179 ?_
      refine ag_goto E1 (tgt := 186) dX7_find_180 (by decide) ?_
      exact am_lret E rfl ⟨_, rfl, h⟩ dX7_find_186
theorem tbX7_find_26 (E : EM p R s m args meth c cX7_find 6 (some .long) D cs b H0 XK 5 123 z u) {Q : Int64 → St → Prop}  {x1 : Int32} {x2 : Int32} {f : St} (h : wbX7_find_26  Q x1 x2 f) : AM p l e R s m args below meth c D cs b 6 o Z z u (pJ Q) 26 [(0, .ref o), (1, .int x1), (2, .int x2)] [] f := by
  have E1 := E.1
  refine ag_aload_n E1 dX7_find_26 rfl 0 rfl ?_
  refine am_callVv E [] (kX7_looks _ _ _ _ _ _ _ _ _ _ _  _ h) (lw_V q1772 q1774 qs65 q107 q1775) hdX7_looks (Nat.le_of_ble_eq_true rfl) (Nat.le_of_ble_eq_true rfl) rfl (Nat.le_of_ble_eq_true rfl) dX7_find_27 rfl (fun f_3 h => ?_)
  refine ag_aload_n E1 dX7_find_30 rfl 0 rfl ?_
  refine ag_iconst E1 dX7_find_31 ki_0 ?_
  refine am_puti E 20 (by decide) rfl q1470 rfl (ty := .boolean) (by decide +kernel) (vz_nar (show vz (0 : Int32) from Or.inl rfl)) (vz_fit (show vz (0 : Int32) from Or.inl rfl)) dX7_find_32 (fun f_4 e_f_4 => ?_)
  have h := h f_4 e_f_4
  refine ag_iconst E1 dX7_find_35 ki_0 ?_
  refine ag_istore_n E1 (lv' := [(3, .int (0 : Int32)), (0, .ref o), (1, .int x1), (2, .int x2)]) dX7_find_36 rfl (Nat.lt_of_lt_of_le (Nat.le_refl _) (Nat.le_of_ble_eq_true rfl)) rfl ?_
  refine ag_sub (lv' := [(0, .ref o), (1, .int x1), (2, .int x2), (3, .int (0 : Int32))]) [1, 2, 3, 0] rfl ?_
  obtain ⟨n, h⟩ := h
  refine tlX7_find_37 E ?_ n _ _ _ _ h
  · intro x1 x2 f h
    exact tbX7_find_62 E  h
theorem kX7_find (l : Launch) (D : va_G) (cs : Nat → ClassId) (b : Nat) (H0 : Heap) (XK : State → Prop) (o : Nat) (Z : cP) (z u : Nat) (f : St) (x1 : Int32) (x2 : Int32) (Q : Int64 → St → Prop) (h : wX7_find f x1 x2 Q) : CM l D cs b H0 XK o Z z u yX7_find cX7_find 6 (some .long) 5 123 [.ref o, .int x1, .int x2] f (pJ Q) := by
  refine cm_of (by decide) rfl (Nat.le_of_ble_eq_true rfl) (fun p e R s m below meth c E => ?_)
  have E1 := E.1
  refine ag_sub (lv' := [(0, .ref o), (1, .int x1), (2, .int x2)]) [0, 1, 2] rfl ?_
  refine ag_iload_n E1 dX7_find_0 rfl 1 rfl ?_
  refine ag_iconst E1 dX7_find_1 ki_1 ?_
  refine ag_iconst E1 dX7_find_2 ki_3 ?_
  refine am_callSi E [.int x1, .int (1 : Int32), .int (3 : Int32)] (kX7_in _ _ _ _ _ _ _ _ _ _ _ _ _ _ _ h) (lw_S q1625 q1626 q107 q1627) hdX7_in (Nat.le_of_ble_eq_true rfl) (Nat.le_of_ble_eq_true rfl) rfl (Nat.le_of_ble_eq_true rfl) dX7_find_3 rfl (fun r_2 f_1 h => ?_)
  refine ag_if_eq E1 (tgt := 22) dX7_find_6 (by decide) (fun c_6 => ?_) (fun c_6 => ?_)
  · have h := h.1 c_6
    refine ag_ldc2 E1 q1720 dX7_find_22 ?_
    exact am_lret E rfl ⟨_, rfl, h⟩ dX7_find_25
  · have h := h.2 c_6
    refine ag_iload_n E1 dX7_find_9 rfl 1 rfl ?_
    refine ag_iconst E1 dX7_find_10 ki_3 ?_
    refine ag_icmp_ne E1 (tgt := 26) dX7_find_11 (by decide) (fun c_11 => ?_) (fun c_11 => ?_)
    · have h := h.1 c_11
      exact tbX7_find_26 E  h
    · have h := h.2 c_11
      refine ag_aload_n E1 dX7_find_14 rfl 0 rfl ?_
      refine ag_iload_n E1 dX7_find_15 rfl 2 rfl ?_
      refine am_callVi E [.int x2] (kX7_isGiving _ _ _ _ _ _ _ _ _ _ _ _ _ h) (lw_V q1756 q1758 qs62 q107 q1759) hdX7_isGiving (Nat.le_of_ble_eq_true rfl) (Nat.le_of_ble_eq_true rfl) rfl (Nat.le_of_ble_eq_true rfl) dX7_find_16 rfl (fun r_21 f_20 h => ?_)
      refine ag_if_ne E1 (tgt := 26) dX7_find_19 (by decide) (fun c_19 => ?_) (fun c_19 => ?_)
      · have h := h.1 c_19
        exact tbX7_find_26 E  h
      · have h := h.2 c_19
        refine ag_ldc2 E1 q1720 dX7_find_22 ?_
        exact am_lret E rfl ⟨_, rfl, h⟩ dX7_find_25
theorem hdX7_find : yX7_find.cls = RX7 ∧ yX7_find.cls ≠ "java/lang/invoke/MethodHandle" ∧ yX7_find.cls ≠ "java/lang/invoke/VarHandle" ∧ (parseMethodDescriptor yX7_find.desc).map (fun d => d.parameters.length) = some 2 := by decide +kernel
theorem kX7_foundDay (l : Launch) (D : va_G) (cs : Nat → ClassId) (b : Nat) (H0 : Heap) (XK : State → Prop) (o : Nat) (Z : cP) (z u : Nat) (f : St) (x1 : Int32) (Q : Int32 → St → Prop) (h : wX7_foundDay f x1 Q) : CM l D cs b H0 XK o Z z u yX7_foundDay cX7_foundDay 2 (some .int) 1 22 [.ref o, .int x1] f (pI Q) := by
  refine cm_of (by decide) rfl (Nat.le_of_ble_eq_true rfl) (fun p e R s m below meth c E => ?_)
  have E1 := E.1
  refine ag_sub (lv' := [(0, .ref o), (1, .int x1)]) [0, 1] rfl ?_
  refine ag_aload_n E1 dX7_foundDay_0 rfl 0 rfl ?_
  refine am_geti E 20 (by decide) rfl q1470 dX7_foundDay_1 ?_
  refine ag_if_eq E1 (tgt := 30) dX7_foundDay_4 (by decide) (fun c_4 => ?_) (fun c_4 => ?_)
  · have h := h.1 c_4
    refine ag_iconst E1 dX7_foundDay_30 ki_m1 ?_
    exact am_iret E rfl ⟨_, rfl, h⟩ dX7_foundDay_31
  · have h := h.2 c_4
    refine ag_iload_n E1 dX7_foundDay_7 rfl 1 rfl ?_
    refine ag_iconst E1 dX7_foundDay_8 ki_0 ?_
    refine ag_aload_n E1 dX7_foundDay_9 rfl 0 rfl ?_
    refine am_geti E 21 (by decide) rfl q1471 dX7_foundDay_10 ?_
    refine ag_iconst E1 dX7_foundDay_13 ki_1 ?_
    refine ag_isub E1 dX7_foundDay_14 ?_
    refine am_callSi E [.int x1, .int (0 : Int32), .int ((f 99 21) - (1 : Int32))] (kX7_in _ _ _ _ _ _ _ _ _ _ _ _ _ _ _ h) (lw_S q1625 q1626 q107 q1627) hdX7_in (Nat.le_of_ble_eq_true rfl) (Nat.le_of_ble_eq_true rfl) rfl (Nat.le_of_ble_eq_true rfl) dX7_foundDay_15 rfl (fun r_2 f_1 h => ?_)
    refine ag_if_eq E1 (tgt := 30) dX7_foundDay_18 (by decide) (fun c_18 => ?_) (fun c_18 => ?_)
    · have h := h.1 c_18
      refine ag_iconst E1 dX7_foundDay_30 ki_m1 ?_
      exact am_iret E rfl ⟨_, rfl, h⟩ dX7_foundDay_31
    · have h := h.2 c_18
      refine ag_aload_n E1 dX7_foundDay_21 rfl 0 rfl ?_
      refine am_geta E 22 (i := 14) (by decide) (by decide) rfl q1472 dX7_foundDay_22 ?_
      refine ag_iload_n E1 dX7_foundDay_25 rfl 1 rfl ?_
      obtain ⟨hin, h⟩ := h
      refine am_iald E 22 rfl rfl rfl (by decide) hin dX7_foundDay_26 ?_
      refine ag_goto E1 (tgt := 31) dX7_foundDay_27 (by decide) ?_
      exact am_iret E rfl ⟨_, rfl, h⟩ dX7_foundDay_31
theorem hdX7_foundDay : yX7_foundDay.cls = RX7 ∧ yX7_foundDay.cls ≠ "java/lang/invoke/MethodHandle" ∧ yX7_foundDay.cls ≠ "java/lang/invoke/VarHandle" ∧ (parseMethodDescriptor yX7_foundDay.desc).map (fun d => d.parameters.length) = some 1 := by decide +kernel
theorem tbX7_least_46 (E : EM p R s m args meth c cX7_least 4 (some .int) D cs b H0 XK 4 93 z u) {Q : Int32 → St → Prop} {K9 : Int32 → Int32 → Int32 → St → Prop} (hK9 : ∀ (x1 : Int32) (x2 : Int32) (x3 : Int32) (f : St), K9 x1 x2 x3 f → AM p l e R s m args below meth c D cs b 4 o Z z u (pI Q) 9 [(0, .ref o), (1, .int x1), (2, .int x2), (3, .int x3)] [] f) {x1 : Int32} {x3 : Int32} {t0 : Int32} {f : St} (h : wbX7_least_46 K9 Q x1 x3 t0 f) : AM p l e R s m args below meth c D cs b 4 o Z z u (pI Q) 46 [(0, .ref o), (1, .int x1), (3, .int x3)] [.int t0] f := by
  have E1 := E.1
  refine ag_istore_n E1 (lv' := [(2, .int t0), (0, .ref o), (1, .int x1), (3, .int x3)]) dX7_least_46 rfl (Nat.lt_of_lt_of_le (Nat.le_refl _) (Nat.le_of_ble_eq_true rfl)) rfl ?_
  refine ag_iincN E1 (lv' := fun x3_10 => [(3, .int x3_10), (2, .int t0), (0, .ref o), (1, .int x1)]) dX7_least_47 3 rfl ki_1 (Nat.lt_of_lt_of_le (Nat.le_refl _) (Nat.le_of_ble_eq_true rfl)) (fun _ => rfl) (fun x3_10 e_x3_10 => ?_)
  have h := h x3_10 e_x3_10
  refine ag_goto E1 (tgt := 9) dX7_least_50 (by decide) ?_
  refine ag_sub (lv' := [(0, .ref o), (1, .int x1), (2, .int t0), (3, .int x3_10)]) [2, 3, 1, 0] rfl ?_
  exact hK9 _ _ _ _ h
theorem tbX7_least_9 (E : EM p R s m args meth c cX7_least 4 (some .int) D cs b H0 XK 4 93 z u) {Q : Int32 → St → Prop} {K9 : Int32 → Int32 → Int32 → St → Prop} (hK9 : ∀ (x1 : Int32) (x2 : Int32) (x3 : Int32) (f : St), K9 x1 x2 x3 f → AM p l e R s m args below meth c D cs b 4 o Z z u (pI Q) 9 [(0, .ref o), (1, .int x1), (2, .int x2), (3, .int x3)] [] f) {x1 : Int32} {x2 : Int32} {x3 : Int32} {f : St} (h : wbX7_least_9 K9 Q x1 x2 x3 f) : AM p l e R s m args below meth c D cs b 4 o Z z u (pI Q) 9 [(0, .ref o), (1, .int x1), (2, .int x2), (3, .int x3)] [] f := by
  have E1 := E.1
  refine ag_iload_n E1 dX7_least_9 rfl 3 rfl ?_
  refine ag_bipush E1 dX7_least_10 kb_7 ?_
  refine ag_icmp_gt E1 (tgt := 53) dX7_least_12 (by decide) (fun c_12 => ?_) (fun c_12 => ?_)
  · have h := h.1 c_12
    refine ag_aload_n E1 dX7_least_53 rfl 0 rfl ?_
    refine ag_iload_n E1 dX7_least_54 rfl 1 rfl ?_
    refine am_puti E 6 (by decide) rfl q1456 rfl (ty := .int) (by decide +kernel) rfl rfl dX7_least_55 (fun f_2 e_f_2 => ?_)
    have h := h f_2 e_f_2
    refine ag_iload_n E1 dX7_least_58 rfl 2 rfl ?_
    exact am_iret E rfl ⟨_, rfl, h⟩ dX7_least_59
  · have h := h.2 c_12
    refine ag_iload_n E1 dX7_least_15 rfl 2 rfl ?_
    refine ag_iconst E1 dX7_least_16 ki_m1 ?_
    refine ag_icmp_ne E1 (tgt := 53) dX7_least_17 (by decide) (fun c_17 => ?_) (fun c_17 => ?_)
    · have h := h.1 c_17
      refine ag_aload_n E1 dX7_least_53 rfl 0 rfl ?_
      refine ag_iload_n E1 dX7_least_54 rfl 1 rfl ?_
      refine am_puti E 6 (by decide) rfl q1456 rfl (ty := .int) (by decide +kernel) rfl rfl dX7_least_55 (fun f_3 e_f_3 => ?_)
      have h := h f_3 e_f_3
      refine ag_iload_n E1 dX7_least_58 rfl 2 rfl ?_
      exact am_iret E rfl ⟨_, rfl, h⟩ dX7_least_59
    · have h := h.2 c_17
      refine ag_aload_n E1 dX7_least_20 rfl 0 rfl ?_
      refine ag_iload_n E1 dX7_least_21 rfl 3 rfl ?_
      refine am_puti E 6 (by decide) rfl q1456 rfl (ty := .int) (by decide +kernel) rfl rfl dX7_least_22 (fun f_4 e_f_4 => ?_)
      have h := h f_4 e_f_4
      refine ag_aload_n E1 dX7_least_25 rfl 0 rfl ?_
      refine am_callVv E [] (kX7_looks _ _ _ _ _ _ _ _ _ _ _  _ h) (lw_V q1772 q1774 qs65 q107 q1775) hdX7_looks (Nat.le_of_ble_eq_true rfl) (Nat.le_of_ble_eq_true rfl) rfl (Nat.le_of_ble_eq_true rfl) dX7_least_26 rfl (fun f_5 h => ?_)
      refine ag_aload_n E1 dX7_least_29 rfl 0 rfl ?_
      refine ag_aload_n E1 dX7_least_30 rfl 0 rfl ?_
      refine am_callVi E [] (kX7_all _ _ _ _ _ _ _ _ _ _ _  _ h) (lw_V q1820 q1822 qs73 q107 q1823) hdX7_all (Nat.le_of_ble_eq_true rfl) (Nat.le_of_ble_eq_true rfl) rfl (Nat.le_of_ble_eq_true rfl) dX7_least_31 rfl (fun r_7 f_6 h => ?_)
      refine ag_iconst E1 dX7_least_34 ki_1 ?_
      refine am_callVi E [.int r_7, .int (1 : Int32)] (kX7_nextWay _ _ _ _ _ _ _ _ _ _ _ _ _ _ h) (lw_V q1824 q1826 qs74 q107 q1827) hdX7_nextWay (Nat.le_of_ble_eq_true rfl) (Nat.le_of_ble_eq_true rfl) rfl (Nat.le_of_ble_eq_true rfl) dX7_least_35 rfl (fun r_9 f_8 h => ?_)
      refine ag_if_eq E1 (tgt := 45) dX7_least_38 (by decide) (fun c_38 => ?_) (fun c_38 => ?_)
      · have h := h.1 c_38
        refine ag_iconst E1 dX7_least_45 ki_m1 ?_
        refine ag_sub (lv' := [(0, .ref o), (1, .int x1), (3, .int x3)]) [0, 1, 3] rfl ?_
        exact tbX7_least_46 E hK9 h
      · have h := h.2 c_38
        refine ag_iload_n E1 dX7_least_41 rfl 3 rfl ?_
        refine ag_goto E1 (tgt := 46) dX7_least_42 (by decide) ?_
        refine ag_sub (lv' := [(0, .ref o), (1, .int x1), (3, .int x3)]) [0, 1, 3] rfl ?_
        exact tbX7_least_46 E hK9 h
theorem tlX7_least_9 (E : EM p R s m args meth c cX7_least 4 (some .int) D cs b H0 XK 4 93 z u) {Q : Int32 → St → Prop}  : ∀ (n : Nat) (x1 : Int32) (x2 : Int32) (x3 : Int32) (f : St), wlX7_least_9  Q n x1 x2 x3 f → AM p l e R s m args below meth c D cs b 4 o Z z u (pI Q) 9 [(0, .ref o), (1, .int x1), (2, .int x2), (3, .int x3)] [] f := by
  intro n
  induction n with
  | zero => intro _ _ _ _ h; exact h.elim
  | succ n ih => intro x1 x2 x3 f h; exact tbX7_least_9 E ih h
theorem kX7_least (l : Launch) (D : va_G) (cs : Nat → ClassId) (b : Nat) (H0 : Heap) (XK : State → Prop) (o : Nat) (Z : cP) (z u : Nat) (f : St)  (Q : Int32 → St → Prop) (h : wX7_least f  Q) : CM l D cs b H0 XK o Z z u yX7_least cX7_least 4 (some .int) 4 93 [.ref o] f (pI Q) := by
  refine cm_of (by decide) rfl (Nat.le_of_ble_eq_true rfl) (fun p e R s m below meth c E => ?_)
  have E1 := E.1
  refine ag_sub (lv' := [(0, .ref o)]) [0] rfl ?_
  refine ag_aload_n E1 dX7_least_0 rfl 0 rfl ?_
  refine am_geti E 6 (by decide) rfl q1456 dX7_least_1 ?_
  refine ag_topi (fun x1_1 e_x1_1 => ?_)
  have h := h x1_1 e_x1_1
  refine ag_istore_n E1 (lv' := [(1, .int x1_1), (0, .ref o)]) dX7_least_4 rfl (Nat.lt_of_lt_of_le (Nat.le_refl _) (Nat.le_of_ble_eq_true rfl)) rfl ?_
  refine ag_iconst E1 dX7_least_5 ki_m1 ?_
  refine ag_istore_n E1 (lv' := [(2, .int (-1 : Int32)), (1, .int x1_1), (0, .ref o)]) dX7_least_6 rfl (Nat.lt_of_lt_of_le (Nat.le_refl _) (Nat.le_of_ble_eq_true rfl)) rfl ?_
  refine ag_iconst E1 dX7_least_7 ki_2 ?_
  refine ag_istore_n E1 (lv' := [(3, .int (2 : Int32)), (2, .int (-1 : Int32)), (1, .int x1_1), (0, .ref o)]) dX7_least_8 rfl (Nat.lt_of_lt_of_le (Nat.le_refl _) (Nat.le_of_ble_eq_true rfl)) rfl ?_
  refine ag_sub (lv' := [(0, .ref o), (1, .int x1_1), (2, .int (-1 : Int32)), (3, .int (2 : Int32))]) [3, 2, 1, 0] rfl ?_
  obtain ⟨n, h⟩ := h
  exact tlX7_least_9 E  n _ _ _ _ h
theorem hdX7_least : yX7_least.cls = RX7 ∧ yX7_least.cls ≠ "java/lang/invoke/MethodHandle" ∧ yX7_least.cls ≠ "java/lang/invoke/VarHandle" ∧ (parseMethodDescriptor yX7_least.desc).map (fun d => d.parameters.length) = some 0 := by decide +kernel
theorem tbX7_ones_4 (E : EM p R s m args meth c cX7_ones 3 (some .int) D cs b H0 XK 0 0 z u) {Q : Int32 → St → Prop} {K4 : Int32 → Int32 → Int32 → St → Prop} (hK4 : ∀ (x0 : Int32) (x1 : Int32) (x2 : Int32) (f : St), K4 x0 x1 x2 f → AM p l e R s m args below meth c D cs b 3 o Z z u (pI Q) 4 [(0, .int x0), (1, .int x1), (2, .int x2)] [] f) {x0 : Int32} {x1 : Int32} {x2 : Int32} {f : St} (h : wbX7_ones_4 K4 Q x0 x1 x2 f) : AM p l e R s m args below meth c D cs b 3 o Z z u (pI Q) 4 [(0, .int x0), (1, .int x1), (2, .int x2)] [] f := by
  have E1 := E.1
  refine ag_iload_n E1 dX7_ones_4 rfl 2 rfl ?_
  refine ag_bipush E1 dX7_ones_5 kb_6 ?_
  refine ag_icmp_ge E1 (tgt := 24) dX7_ones_7 (by decide) (fun c_7 => ?_) (fun c_7 => ?_)
  · have h := h.1 c_7
    refine ag_iload_n E1 dX7_ones_24 rfl 1 rfl ?_
    exact am_iret E rfl ⟨_, rfl, h⟩ dX7_ones_25
  · have h := h.2 c_7
    refine ag_iload_n E1 dX7_ones_10 rfl 1 rfl ?_
    refine ag_iload_n E1 dX7_ones_11 rfl 0 rfl ?_
    refine ag_iload_n E1 dX7_ones_12 rfl 2 rfl ?_
    refine ag_ishr E1 dX7_ones_13 ?_
    refine ag_iconst E1 dX7_ones_14 ki_1 ?_
    refine ag_iand E1 dX7_ones_15 ?_
    refine ag_iadd E1 dX7_ones_16 ?_
    refine ag_topi (fun x1_1 e_x1_1 => ?_)
    have h := h x1_1 e_x1_1
    refine ag_istore_n E1 (lv' := [(1, .int x1_1), (0, .int x0), (2, .int x2)]) dX7_ones_17 rfl (Nat.lt_of_lt_of_le (Nat.le_refl _) (Nat.le_of_ble_eq_true rfl)) rfl ?_
    refine ag_iincN E1 (lv' := fun x2_2 => [(2, .int x2_2), (1, .int x1_1), (0, .int x0)]) dX7_ones_18 2 rfl ki_1 (Nat.lt_of_lt_of_le (Nat.le_refl _) (Nat.le_of_ble_eq_true rfl)) (fun _ => rfl) (fun x2_2 e_x2_2 => ?_)
    have h := h x2_2 e_x2_2
    refine ag_goto E1 (tgt := 4) dX7_ones_21 (by decide) ?_
    refine ag_sub (lv' := [(0, .int x0), (1, .int x1_1), (2, .int x2_2)]) [2, 1, 0] rfl ?_
    exact hK4 _ _ _ _ h
theorem tlX7_ones_4 (E : EM p R s m args meth c cX7_ones 3 (some .int) D cs b H0 XK 0 0 z u) {Q : Int32 → St → Prop}  : ∀ (n : Nat) (x0 : Int32) (x1 : Int32) (x2 : Int32) (f : St), wlX7_ones_4  Q n x0 x1 x2 f → AM p l e R s m args below meth c D cs b 3 o Z z u (pI Q) 4 [(0, .int x0), (1, .int x1), (2, .int x2)] [] f := by
  intro n
  induction n with
  | zero => intro _ _ _ _ h; exact h.elim
  | succ n ih => intro x0 x1 x2 f h; exact tbX7_ones_4 E ih h
theorem kX7_ones (l : Launch) (D : va_G) (cs : Nat → ClassId) (b : Nat) (H0 : Heap) (XK : State → Prop) (o : Nat) (Z : cP) (z u : Nat) (f : St) (x0 : Int32) (Q : Int32 → St → Prop) (h : wX7_ones f x0 Q) : CM l D cs b H0 XK o Z z u yX7_ones cX7_ones 3 (some .int) 0 0 [.int x0] f (pI Q) := by
  refine cm_of (by decide) rfl (Nat.le_of_ble_eq_true rfl) (fun p e R s m below meth c E => ?_)
  have E1 := E.1
  refine ag_sub (lv' := [(0, .int x0)]) [0] rfl ?_
  refine ag_iconst E1 dX7_ones_0 ki_0 ?_
  refine ag_istore_n E1 (lv' := [(1, .int (0 : Int32)), (0, .int x0)]) dX7_ones_1 rfl (Nat.lt_of_lt_of_le (Nat.le_refl _) (Nat.le_of_ble_eq_true rfl)) rfl ?_
  refine ag_iconst E1 dX7_ones_2 ki_0 ?_
  refine ag_istore_n E1 (lv' := [(2, .int (0 : Int32)), (1, .int (0 : Int32)), (0, .int x0)]) dX7_ones_3 rfl (Nat.lt_of_lt_of_le (Nat.le_refl _) (Nat.le_of_ble_eq_true rfl)) rfl ?_
  refine ag_sub (lv' := [(0, .int x0), (1, .int (0 : Int32)), (2, .int (0 : Int32))]) [2, 1, 0] rfl ?_
  obtain ⟨n, h⟩ := h
  exact tlX7_ones_4 E  n _ _ _ _ h
theorem hdX7_ones : yX7_ones.cls ≠ "java/lang/invoke/MethodHandle" ∧ yX7_ones.cls ≠ "java/lang/invoke/VarHandle" ∧ (parseMethodDescriptor yX7_ones.desc).map (fun d => d.parameters.length) = some 1 := by decide +kernel
theorem tbX7_knot_42 (E : EM p R s m args meth c cX7_knot 3 (some .int) D cs b H0 XK 4 93 z u) {Q : Int32 → St → Prop} {K8 : Int32 → Int32 → St → Prop} (hK8 : ∀ (x1 : Int32) (x2 : Int32) (f : St), K8 x1 x2 f → AM p l e R s m args below meth c D cs b 3 o Z z u (pI Q) 8 [(0, .ref o), (1, .int x1), (2, .int x2)] [] f) {x1 : Int32} {x2 : Int32} {f : St} (h : wbX7_knot_42 K8 Q x1 x2 f) : AM p l e R s m args below meth c D cs b 3 o Z z u (pI Q) 42 [(0, .ref o), (1, .int x1), (2, .int x2)] [] f := by
  have E1 := E.1
  refine ag_iincN E1 (lv' := fun x2_6 => [(2, .int x2_6), (0, .ref o), (1, .int x1)]) dX7_knot_42 2 rfl ki_1 (Nat.lt_of_lt_of_le (Nat.le_refl _) (Nat.le_of_ble_eq_true rfl)) (fun _ => rfl) (fun x2_6 e_x2_6 => ?_)
  have h := h x2_6 e_x2_6
  refine ag_goto E1 (tgt := 8) dX7_knot_45 (by decide) ?_
  refine ag_sub (lv' := [(0, .ref o), (1, .int x1), (2, .int x2_6)]) [1, 2, 0] rfl ?_
  exact hK8 _ _ _ h
theorem tbX7_knot_31 (E : EM p R s m args meth c cX7_knot 3 (some .int) D cs b H0 XK 4 93 z u) {Q : Int32 → St → Prop} {K8 : Int32 → Int32 → St → Prop} (hK8 : ∀ (x1 : Int32) (x2 : Int32) (f : St), K8 x1 x2 f → AM p l e R s m args below meth c D cs b 3 o Z z u (pI Q) 8 [(0, .ref o), (1, .int x1), (2, .int x2)] [] f) {x1 : Int32} {x2 : Int32} {f : St} (h : wbX7_knot_31 K8 Q x1 x2 f) : AM p l e R s m args below meth c D cs b 3 o Z z u (pI Q) 31 [(0, .ref o), (1, .int x1), (2, .int x2)] [] f := by
  have E1 := E.1
  refine ag_aload_n E1 dX7_knot_31 rfl 0 rfl ?_
  refine ag_iload_n E1 dX7_knot_32 rfl 2 rfl ?_
  refine ag_iconst E1 dX7_knot_33 ki_1 ?_
  refine am_callVi E [.int x2, .int (1 : Int32)] (kX7_nextWay _ _ _ _ _ _ _ _ _ _ _ _ _ _ h) (lw_V q1824 q1826 qs74 q107 q1827) hdX7_nextWay (Nat.le_of_ble_eq_true rfl) (Nat.le_of_ble_eq_true rfl) rfl (Nat.le_of_ble_eq_true rfl) dX7_knot_34 rfl (fun r_5 f_4 h => ?_)
  refine ag_if_ne E1 (tgt := 42) dX7_knot_37 (by decide) (fun c_37 => ?_) (fun c_37 => ?_)
  · have h := h.1 c_37
    exact tbX7_knot_42 E hK8 h
  · have h := h.2 c_37
    refine ag_iload_n E1 dX7_knot_40 rfl 2 rfl ?_
    refine ag_istore_n E1 (lv' := [(1, .int x2), (0, .ref o), (2, .int x2)]) dX7_knot_41 rfl (Nat.lt_of_lt_of_le (Nat.le_refl _) (Nat.le_of_ble_eq_true rfl)) rfl ?_
    refine ag_sub (lv' := [(0, .ref o), (1, .int x2), (2, .int x2)]) [1, 0, 2] rfl ?_
    exact tbX7_knot_42 E hK8 h
theorem tbX7_knot_8 (E : EM p R s m args meth c cX7_knot 3 (some .int) D cs b H0 XK 4 93 z u) {Q : Int32 → St → Prop} {K8 : Int32 → Int32 → St → Prop} (hK8 : ∀ (x1 : Int32) (x2 : Int32) (f : St), K8 x1 x2 f → AM p l e R s m args below meth c D cs b 3 o Z z u (pI Q) 8 [(0, .ref o), (1, .int x1), (2, .int x2)] [] f) {x1 : Int32} {x2 : Int32} {f : St} (h : wbX7_knot_8 K8 Q x1 x2 f) : AM p l e R s m args below meth c D cs b 3 o Z z u (pI Q) 8 [(0, .ref o), (1, .int x1), (2, .int x2)] [] f := by
  have E1 := E.1
  refine ag_iload_n E1 dX7_knot_8 rfl 2 rfl ?_
  refine ag_aload_n E1 dX7_knot_9 rfl 0 rfl ?_
  refine am_callVi E [] (kX7_all _ _ _ _ _ _ _ _ _ _ _  _ h) (lw_V q1820 q1822 qs73 q107 q1823) hdX7_all (Nat.le_of_ble_eq_true rfl) (Nat.le_of_ble_eq_true rfl) rfl (Nat.le_of_ble_eq_true rfl) dX7_knot_10 rfl (fun r_3 f_2 h => ?_)
  refine ag_icmp_gt E1 (tgt := 48) dX7_knot_13 (by decide) (fun c_13 => ?_) (fun c_13 => ?_)
  · have h := h.1 c_13
    refine ag_iload_n E1 dX7_knot_48 rfl 1 rfl ?_
    exact am_iret E rfl ⟨_, rfl, h⟩ dX7_knot_49
  · have h := h.2 c_13
    refine ag_iload_n E1 dX7_knot_16 rfl 1 rfl ?_
    refine ag_if_eq E1 (tgt := 31) dX7_knot_17 (by decide) (fun c_17 => ?_) (fun c_17 => ?_)
    · have h := h.1 c_17
      exact tbX7_knot_31 E hK8 h
    · have h := h.2 c_17
      refine ag_iload_n E1 dX7_knot_20 rfl 2 rfl ?_
      refine am_callSi E [.int x2] (kX7_ones _ _ _ _ _ _ _ _ _ _ _ _ _ h) (lw_S q1868 q1869 q107 q1870) hdX7_ones (Nat.le_of_ble_eq_true rfl) (Nat.le_of_ble_eq_true rfl) rfl (Nat.le_of_ble_eq_true rfl) dX7_knot_21 rfl (fun r_8 f_7 h => ?_)
      refine ag_iload_n E1 dX7_knot_24 rfl 1 rfl ?_
      refine am_callSi E [.int x1] (kX7_ones _ _ _ _ _ _ _ _ _ _ _ _ _ h) (lw_S q1868 q1869 q107 q1870) hdX7_ones (Nat.le_of_ble_eq_true rfl) (Nat.le_of_ble_eq_true rfl) rfl (Nat.le_of_ble_eq_true rfl) dX7_knot_25 rfl (fun r_10 f_9 h => ?_)
      refine ag_icmp_ge E1 (tgt := 42) dX7_knot_28 (by decide) (fun c_28 => ?_) (fun c_28 => ?_)
      · have h := h.1 c_28
        exact tbX7_knot_42 E hK8 h
      · have h := h.2 c_28
        exact tbX7_knot_31 E hK8 h
theorem tlX7_knot_8 (E : EM p R s m args meth c cX7_knot 3 (some .int) D cs b H0 XK 4 93 z u) {Q : Int32 → St → Prop}  : ∀ (n : Nat) (x1 : Int32) (x2 : Int32) (f : St), wlX7_knot_8  Q n x1 x2 f → AM p l e R s m args below meth c D cs b 3 o Z z u (pI Q) 8 [(0, .ref o), (1, .int x1), (2, .int x2)] [] f := by
  intro n
  induction n with
  | zero => intro _ _ _ h; exact h.elim
  | succ n ih => intro x1 x2 f h; exact tbX7_knot_8 E ih h
theorem kX7_knot (l : Launch) (D : va_G) (cs : Nat → ClassId) (b : Nat) (H0 : Heap) (XK : State → Prop) (o : Nat) (Z : cP) (z u : Nat) (f : St)  (Q : Int32 → St → Prop) (h : wX7_knot f  Q) : CM l D cs b H0 XK o Z z u yX7_knot cX7_knot 3 (some .int) 4 93 [.ref o] f (pI Q) := by
  refine cm_of (by decide) rfl (Nat.le_of_ble_eq_true rfl) (fun p e R s m below meth c E => ?_)
  have E1 := E.1
  refine ag_sub (lv' := [(0, .ref o)]) [0] rfl ?_
  refine ag_aload_n E1 dX7_knot_0 rfl 0 rfl ?_
  refine am_callVv E [] (kX7_looks _ _ _ _ _ _ _ _ _ _ _  _ h) (lw_V q1772 q1774 qs65 q107 q1775) hdX7_looks (Nat.le_of_ble_eq_true rfl) (Nat.le_of_ble_eq_true rfl) rfl (Nat.le_of_ble_eq_true rfl) dX7_knot_1 rfl (fun f_1 h => ?_)
  refine ag_iconst E1 dX7_knot_4 ki_0 ?_
  refine ag_istore_n E1 (lv' := [(1, .int (0 : Int32)), (0, .ref o)]) dX7_knot_5 rfl (Nat.lt_of_lt_of_le (Nat.le_refl _) (Nat.le_of_ble_eq_true rfl)) rfl ?_
  refine ag_iconst E1 dX7_knot_6 ki_1 ?_
  refine ag_istore_n E1 (lv' := [(2, .int (1 : Int32)), (1, .int (0 : Int32)), (0, .ref o)]) dX7_knot_7 rfl (Nat.lt_of_lt_of_le (Nat.le_refl _) (Nat.le_of_ble_eq_true rfl)) rfl ?_
  refine ag_sub (lv' := [(0, .ref o), (1, .int (0 : Int32)), (2, .int (1 : Int32))]) [2, 1, 0] rfl ?_
  obtain ⟨n, h⟩ := h
  exact tlX7_knot_8 E  n _ _ _ h
theorem hdX7_knot : yX7_knot.cls = RX7 ∧ yX7_knot.cls ≠ "java/lang/invoke/MethodHandle" ∧ yX7_knot.cls ≠ "java/lang/invoke/VarHandle" ∧ (parseMethodDescriptor yX7_knot.desc).map (fun d => d.parameters.length) = some 0 := by decide +kernel
theorem tbX7_room_96 (E : EM p R s m args meth c cX7_room 8 (some .int) D cs b H0 XK 4 95 z u) {Q : Int32 → St → Prop} {K67 : Int32 → Int32 → Int32 → Int32 → Int32 → St → Prop} (hK67 : ∀ (x2 : Int32) (x4 : Int32) (x5 : Int32) (x6 : Int32) (x7 : Int32) (f : St), K67 x2 x4 x5 x6 x7 f → AM p l e R s m args below meth c D cs b 8 o Z z u (pI Q) 67 [(0, .ref o), (2, .int x2), (4, .int x4), (5, .int x5), (6, .int x6), (7, .int x7)] [] f) {K104 : Int32 → Int32 → Int32 → Int32 → St → Prop} (hK104 : ∀ (x2 : Int32) (x4 : Int32) (x5 : Int32) (x6 : Int32) (f : St), K104 x2 x4 x5 x6 f → AM p l e R s m args below meth c D cs b 8 o Z z u (pI Q) 104 [(0, .ref o), (2, .int x2), (4, .int x4), (5, .int x5), (6, .int x6)] [] f) {x2 : Int32} {x4 : Int32} {x5 : Int32} {x7 : Int32} {t0 : Int32} {f : St} (h : wbX7_room_96 K67 K104 Q x2 x4 x5 x7 t0 f) : AM p l e R s m args below meth c D cs b 8 o Z z u (pI Q) 96 [(0, .ref o), (2, .int x2), (4, .int x4), (5, .int x5), (7, .int x7)] [.int t0] f := by
  have E1 := E.1
  refine ag_istore E1 (lv' := [(6, .int t0), (0, .ref o), (2, .int x2), (4, .int x4), (5, .int x5), (7, .int x7)]) dX7_room_96 (Nat.lt_of_lt_of_le (Nat.le_refl _) (Nat.le_of_ble_eq_true rfl)) rfl ?_
  refine ag_iincN E1 (lv' := fun x7_10 => [(7, .int x7_10), (6, .int t0), (0, .ref o), (2, .int x2), (4, .int x4), (5, .int x5)]) dX7_room_98 5 rfl ki_1 (Nat.lt_of_lt_of_le (Nat.le_refl _) (Nat.le_of_ble_eq_true rfl)) (fun _ => rfl) (fun x7_10 e_x7_10 => ?_)
  have h := h x7_10 e_x7_10
  refine ag_goto E1 (tgt := 67) dX7_room_101 (by decide) ?_
  refine ag_sub (lv' := [(0, .ref o), (2, .int x2), (4, .int x4), (5, .int x5), (6, .int t0), (7, .int x7_10)]) [2, 3, 4, 5, 1, 0] rfl ?_
  exact hK67 _ _ _ _ _ _ h
theorem tbX7_room_95 (E : EM p R s m args meth c cX7_room 8 (some .int) D cs b H0 XK 4 95 z u) {Q : Int32 → St → Prop} {K67 : Int32 → Int32 → Int32 → Int32 → Int32 → St → Prop} (hK67 : ∀ (x2 : Int32) (x4 : Int32) (x5 : Int32) (x6 : Int32) (x7 : Int32) (f : St), K67 x2 x4 x5 x6 x7 f → AM p l e R s m args below meth c D cs b 8 o Z z u (pI Q) 67 [(0, .ref o), (2, .int x2), (4, .int x4), (5, .int x5), (6, .int x6), (7, .int x7)] [] f) {K104 : Int32 → Int32 → Int32 → Int32 → St → Prop} (hK104 : ∀ (x2 : Int32) (x4 : Int32) (x5 : Int32) (x6 : Int32) (f : St), K104 x2 x4 x5 x6 f → AM p l e R s m args below meth c D cs b 8 o Z z u (pI Q) 104 [(0, .ref o), (2, .int x2), (4, .int x4), (5, .int x5), (6, .int x6)] [] f) {x2 : Int32} {x4 : Int32} {x5 : Int32} {x7 : Int32} {f : St} (h : wbX7_room_95 K67 K104 Q x2 x4 x5 x7 f) : AM p l e R s m args below meth c D cs b 8 o Z z u (pI Q) 95 [(0, .ref o), (2, .int x2), (4, .int x4), (5, .int x5), (7, .int x7)] [] f := by
  have E1 := E.1
  refine ag_iconst E1 dX7_room_95 ki_0 ?_
  exact tbX7_room_96 E hK67 hK104 h
theorem tbX7_room_67 (E : EM p R s m args meth c cX7_room 8 (some .int) D cs b H0 XK 4 95 z u) {Q : Int32 → St → Prop} {K67 : Int32 → Int32 → Int32 → Int32 → Int32 → St → Prop} (hK67 : ∀ (x2 : Int32) (x4 : Int32) (x5 : Int32) (x6 : Int32) (x7 : Int32) (f : St), K67 x2 x4 x5 x6 x7 f → AM p l e R s m args below meth c D cs b 8 o Z z u (pI Q) 67 [(0, .ref o), (2, .int x2), (4, .int x4), (5, .int x5), (6, .int x6), (7, .int x7)] [] f) {K104 : Int32 → Int32 → Int32 → Int32 → St → Prop} (hK104 : ∀ (x2 : Int32) (x4 : Int32) (x5 : Int32) (x6 : Int32) (f : St), K104 x2 x4 x5 x6 f → AM p l e R s m args below meth c D cs b 8 o Z z u (pI Q) 104 [(0, .ref o), (2, .int x2), (4, .int x4), (5, .int x5), (6, .int x6)] [] f) {x2 : Int32} {x4 : Int32} {x5 : Int32} {x6 : Int32} {x7 : Int32} {f : St} (h : wbX7_room_67 K67 K104 Q x2 x4 x5 x6 x7 f) : AM p l e R s m args below meth c D cs b 8 o Z z u (pI Q) 67 [(0, .ref o), (2, .int x2), (4, .int x4), (5, .int x5), (6, .int x6), (7, .int x7)] [] f := by
  have E1 := E.1
  refine ag_iload E1 dX7_room_67 5 rfl ?_
  refine ag_aload_n E1 dX7_room_69 rfl 0 rfl ?_
  refine am_geti E 0 (by decide) rfl q1450 dX7_room_70 ?_
  refine ag_icmp_ge E1 (tgt := 104) dX7_room_73 (by decide) (fun c_73 => ?_) (fun c_73 => ?_)
  · have h := h.1 c_73
    refine ag_sub (lv' := [(0, .ref o), (2, .int x2), (4, .int x4), (5, .int x5), (6, .int x6)]) [0, 1, 2, 3, 4] rfl ?_
    exact hK104 _ _ _ _ _ h
  · have h := h.2 c_73
    refine ag_iload E1 dX7_room_76 4 rfl ?_
    refine ag_if_eq E1 (tgt := 95) dX7_room_78 (by decide) (fun c_78 => ?_) (fun c_78 => ?_)
    · have h := h.1 c_78
      refine ag_sub (lv' := [(0, .ref o), (2, .int x2), (4, .int x4), (5, .int x5), (7, .int x7)]) [0, 1, 2, 3, 5] rfl ?_
      exact tbX7_room_95 E hK67 hK104 h
    · have h := h.2 c_78
      refine ag_aload_n E1 dX7_room_81 rfl 0 rfl ?_
      refine ag_iload E1 dX7_room_82 5 rfl ?_
      refine ag_iload_n E1 dX7_room_84 rfl 1 rfl ?_
      refine am_callVi E [.int x7, .int x2] (kX7_doBar _ _ _ _ _ _ _ _ _ _ _ _ _ _ h) (lw_V q1784 q1786 qs68 q107 q1787) hdX7_doBar (Nat.le_of_ble_eq_true rfl) (Nat.le_of_ble_eq_true rfl) rfl (Nat.le_of_ble_eq_true rfl) dX7_room_85 rfl (fun r_12 f_11 h => ?_)
      refine ag_if_ne E1 (tgt := 95) dX7_room_88 (by decide) (fun c_88 => ?_) (fun c_88 => ?_)
      · have h := h.1 c_88
        refine ag_sub (lv' := [(0, .ref o), (2, .int x2), (4, .int x4), (5, .int x5), (7, .int x7)]) [0, 1, 2, 3, 5] rfl ?_
        exact tbX7_room_95 E hK67 hK104 h
      · have h := h.2 c_88
        refine ag_iconst E1 dX7_room_91 ki_1 ?_
        refine ag_goto E1 (tgt := 96) dX7_room_92 (by decide) ?_
        refine ag_sub (lv' := [(0, .ref o), (2, .int x2), (4, .int x4), (5, .int x5), (7, .int x7)]) [0, 1, 2, 3, 5] rfl ?_
        exact tbX7_room_96 E hK67 hK104 h
theorem tlX7_room_67 (E : EM p R s m args meth c cX7_room 8 (some .int) D cs b H0 XK 4 95 z u) {Q : Int32 → St → Prop} {K104 : Int32 → Int32 → Int32 → Int32 → St → Prop} (hK104 : ∀ (x2 : Int32) (x4 : Int32) (x5 : Int32) (x6 : Int32) (f : St), K104 x2 x4 x5 x6 f → AM p l e R s m args below meth c D cs b 8 o Z z u (pI Q) 104 [(0, .ref o), (2, .int x2), (4, .int x4), (5, .int x5), (6, .int x6)] [] f) : ∀ (n : Nat) (x2 : Int32) (x4 : Int32) (x5 : Int32) (x6 : Int32) (x7 : Int32) (f : St), wlX7_room_67 K104 Q n x2 x4 x5 x6 x7 f → AM p l e R s m args below meth c D cs b 8 o Z z u (pI Q) 67 [(0, .ref o), (2, .int x2), (4, .int x4), (5, .int x5), (6, .int x6), (7, .int x7)] [] f := by
  intro n
  induction n with
  | zero => intro _ _ _ _ _ _ h; exact h.elim
  | succ n ih => intro x2 x4 x5 x6 x7 f h; exact tbX7_room_67 E ih hK104 h
theorem tbX7_room_119 (E : EM p R s m args meth c cX7_room 8 (some .int) D cs b H0 XK 4 95 z u) {Q : Int32 → St → Prop} {K42 : Int32 → Int32 → Int32 → St → Prop} (hK42 : ∀ (x2 : Int32) (x4 : Int32) (x5 : Int32) (f : St), K42 x2 x4 x5 f → AM p l e R s m args below meth c D cs b 8 o Z z u (pI Q) 42 [(0, .ref o), (2, .int x2), (4, .int x4), (5, .int x5)] [] f) {x2 : Int32} {x5 : Int32} {t0 : Int32} {t1 : Int32} {f : St} (h : wbX7_room_119 K42 Q x2 x5 t0 t1 f) : AM p l e R s m args below meth c D cs b 8 o Z z u (pI Q) 119 [(0, .ref o), (2, .int x2), (5, .int x5)] [.int t0, .int t1] f := by
  have E1 := E.1
  refine ag_ior E1 dX7_room_119 ?_
  refine ag_topi (fun x4_13 e_x4_13 => ?_)
  have h := h x4_13 e_x4_13
  refine ag_istore E1 (lv' := [(4, .int x4_13), (0, .ref o), (2, .int x2), (5, .int x5)]) dX7_room_120 (Nat.lt_of_lt_of_le (Nat.le_refl _) (Nat.le_of_ble_eq_true rfl)) rfl ?_
  refine ag_iincN E1 (lv' := fun x5_14 => [(5, .int x5_14), (4, .int x4_13), (0, .ref o), (2, .int x2)]) dX7_room_122 3 rfl ki_1 (Nat.lt_of_lt_of_le (Nat.le_refl _) (Nat.le_of_ble_eq_true rfl)) (fun _ => rfl) (fun x5_14 e_x5_14 => ?_)
  have h := h x5_14 e_x5_14
  refine ag_goto E1 (tgt := 42) dX7_room_125 (by decide) ?_
  refine ag_sub (lv' := [(0, .ref o), (2, .int x2), (4, .int x4_13), (5, .int x5_14)]) [2, 3, 1, 0] rfl ?_
  exact hK42 _ _ _ _ h
theorem tbX7_room_42 (E : EM p R s m args meth c cX7_room 8 (some .int) D cs b H0 XK 4 95 z u) {Q : Int32 → St → Prop} {K42 : Int32 → Int32 → Int32 → St → Prop} (hK42 : ∀ (x2 : Int32) (x4 : Int32) (x5 : Int32) (f : St), K42 x2 x4 x5 f → AM p l e R s m args below meth c D cs b 8 o Z z u (pI Q) 42 [(0, .ref o), (2, .int x2), (4, .int x4), (5, .int x5)] [] f) {x2 : Int32} {x4 : Int32} {x5 : Int32} {f : St} (h : wbX7_room_42 K42 Q x2 x4 x5 f) : AM p l e R s m args below meth c D cs b 8 o Z z u (pI Q) 42 [(0, .ref o), (2, .int x2), (4, .int x4), (5, .int x5)] [] f := by
  have E1 := E.1
  refine ag_iload E1 dX7_room_42 3 rfl ?_
  refine ag_aload_n E1 dX7_room_44 rfl 0 rfl ?_
  refine am_geti E 6 (by decide) rfl q1456 dX7_room_45 ?_
  refine ag_icmp_ge E1 (tgt := 128) dX7_room_48 (by decide) (fun c_48 => ?_) (fun c_48 => ?_)
  · have h := h.1 c_48
    refine ag_iload E1 dX7_room_128 2 rfl ?_
    exact am_iret E rfl ⟨_, rfl, h⟩ dX7_room_130
  · have h := h.2 c_48
    refine ag_aload_n E1 dX7_room_51 rfl 0 rfl ?_
    refine am_geta E 52 (i := 31) (by decide) (by decide) rfl q1502 dX7_room_52 ?_
    refine ag_iload_n E1 dX7_room_55 rfl 1 rfl ?_
    refine ag_iconst E1 dX7_room_56 ki_1 ?_
    refine ag_iload E1 dX7_room_57 3 rfl ?_
    refine ag_ishl E1 dX7_room_59 ?_
    obtain ⟨hin, h⟩ := h
    refine am_iast E 52 rfl rfl rfl (by decide) hin dX7_room_60 (fun f_9 e_f_9 => ?_)
    have h := h f_9 e_f_9
    refine ag_iconst E1 dX7_room_61 ki_1 ?_
    refine ag_istore E1 (lv' := [(6, .int (1 : Int32)), (0, .ref o), (2, .int x2), (4, .int x4), (5, .int x5)]) dX7_room_62 (Nat.lt_of_lt_of_le (Nat.le_refl _) (Nat.le_of_ble_eq_true rfl)) rfl ?_
    refine ag_iconst E1 dX7_room_64 ki_0 ?_
    refine ag_istore E1 (lv' := [(7, .int (0 : Int32)), (6, .int (1 : Int32)), (0, .ref o), (2, .int x2), (4, .int x4), (5, .int x5)]) dX7_room_65 (Nat.lt_of_lt_of_le (Nat.le_refl _) (Nat.le_of_ble_eq_true rfl)) rfl ?_
    refine ag_sub (lv' := [(0, .ref o), (2, .int x2), (4, .int x4), (5, .int x5), (6, .int (1 : Int32)), (7, .int (0 : Int32))]) [2, 3, 4, 5, 1, 0] rfl ?_
    obtain ⟨n, h⟩ := h
    refine tlX7_room_67 E ?_ n _ _ _ _ _ _ h
    · intro x2 x4 x5 x6 f h
      refine ag_iload E1 dX7_room_104 2 rfl ?_
      refine ag_iload E1 dX7_room_106 4 rfl ?_
      refine ag_if_eq E1 (tgt := 118) dX7_room_108 (by decide) (fun c_108 => ?_) (fun c_108 => ?_)
      · have h := h.1 c_108
        refine ag_iconst E1 dX7_room_118 ki_0 ?_
        refine ag_sub (lv' := [(0, .ref o), (2, .int x2), (5, .int x5)]) [0, 1, 3] rfl ?_
        exact tbX7_room_119 E hK42 h
      · have h := h.2 c_108
        refine ag_iconst E1 dX7_room_111 ki_1 ?_
        refine ag_iload E1 dX7_room_112 3 rfl ?_
        refine ag_ishl E1 dX7_room_114 ?_
        refine ag_goto E1 (tgt := 119) dX7_room_115 (by decide) ?_
        refine ag_sub (lv' := [(0, .ref o), (2, .int x2), (5, .int x5)]) [0, 1, 3] rfl ?_
        exact tbX7_room_119 E hK42 h
theorem tlX7_room_42 (E : EM p R s m args meth c cX7_room 8 (some .int) D cs b H0 XK 4 95 z u) {Q : Int32 → St → Prop}  : ∀ (n : Nat) (x2 : Int32) (x4 : Int32) (x5 : Int32) (f : St), wlX7_room_42  Q n x2 x4 x5 f → AM p l e R s m args below meth c D cs b 8 o Z z u (pI Q) 42 [(0, .ref o), (2, .int x2), (4, .int x4), (5, .int x5)] [] f := by
  intro n
  induction n with
  | zero => intro _ _ _ _ h; exact h.elim
  | succ n ih => intro x2 x4 x5 f h; exact tbX7_room_42 E ih h
theorem kX7_room (l : Launch) (D : va_G) (cs : Nat → ClassId) (b : Nat) (H0 : Heap) (XK : State → Prop) (o : Nat) (Z : cP) (z u : Nat) (f : St) (x1 : Int32) (x2 : Int32) (x3 : Int32) (Q : Int32 → St → Prop) (h : wX7_room f x1 x2 x3 Q) : CM l D cs b H0 XK o Z z u yX7_room cX7_room 8 (some .int) 4 95 [.ref o, .int x1, .int x2, .int x3] f (pI Q) := by
  refine cm_of (by decide) rfl (Nat.le_of_ble_eq_true rfl) (fun p e R s m below meth c E => ?_)
  have E1 := E.1
  refine ag_sub (lv' := [(0, .ref o), (1, .int x1), (2, .int x2), (3, .int x3)]) [0, 1, 2, 3] rfl ?_
  refine ag_aload_n E1 dX7_room_0 rfl 0 rfl ?_
  refine ag_iload_n E1 dX7_room_1 rfl 1 rfl ?_
  refine am_callVi E [.int x1] (kX7_isGiving _ _ _ _ _ _ _ _ _ _ _ _ _ h) (lw_V q1756 q1758 qs62 q107 q1759) hdX7_isGiving (Nat.le_of_ble_eq_true rfl) (Nat.le_of_ble_eq_true rfl) rfl (Nat.le_of_ble_eq_true rfl) dX7_room_2 rfl (fun r_2 f_1 h => ?_)
  refine ag_if_eq E1 (tgt := 23) dX7_room_5 (by decide) (fun c_5 => ?_) (fun c_5 => ?_)
  · have h := h.1 c_5
    refine ag_bipush E1 dX7_room_23 kb_m5 ?_
    exact am_iret E rfl ⟨_, rfl, h⟩ dX7_room_25
  · have h := h.2 c_5
    refine ag_aload_n E1 dX7_room_8 rfl 0 rfl ?_
    refine ag_iload_n E1 dX7_room_9 rfl 2 rfl ?_
    refine am_callVi E [.int x2] (kX7_isTown _ _ _ _ _ _ _ _ _ _ _ _ _ h) (lw_V q1632 q1634 qs46 q107 q1635) hdX7_isTown (Nat.le_of_ble_eq_true rfl) (Nat.le_of_ble_eq_true rfl) rfl (Nat.le_of_ble_eq_true rfl) dX7_room_10 rfl (fun r_4 f_3 h => ?_)
    refine ag_if_eq E1 (tgt := 23) dX7_room_13 (by decide) (fun c_13 => ?_) (fun c_13 => ?_)
    · have h := h.1 c_13
      refine ag_bipush E1 dX7_room_23 kb_m5 ?_
      exact am_iret E rfl ⟨_, rfl, h⟩ dX7_room_25
    · have h := h.2 c_13
      refine ag_iload_n E1 dX7_room_16 rfl 3 rfl ?_
      refine am_callSi E [.int x3] (kX7_isWeek _ _ _ _ _ _ _ _ _ _ _ _ _ h) (lw_S q1660 q1661 q107 q1662) hdX7_isWeek (Nat.le_of_ble_eq_true rfl) (Nat.le_of_ble_eq_true rfl) rfl (Nat.le_of_ble_eq_true rfl) dX7_room_17 rfl (fun r_6 f_5 h => ?_)
      refine ag_if_ne E1 (tgt := 26) dX7_room_20 (by decide) (fun c_20 => ?_) (fun c_20 => ?_)
      · have h := h.1 c_20
        refine ag_aload_n E1 dX7_room_26 rfl 0 rfl ?_
        refine am_callVv E [] (kX7_looks _ _ _ _ _ _ _ _ _ _ _  _ h) (lw_V q1772 q1774 qs65 q107 q1775) hdX7_looks (Nat.le_of_ble_eq_true rfl) (Nat.le_of_ble_eq_true rfl) rfl (Nat.le_of_ble_eq_true rfl) dX7_room_27 rfl (fun f_7 h => ?_)
        refine ag_aload_n E1 dX7_room_30 rfl 0 rfl ?_
        refine ag_iload_n E1 dX7_room_31 rfl 1 rfl ?_
        refine ag_iload_n E1 dX7_room_32 rfl 3 rfl ?_
        refine am_callVv E [.int x1, .int x3] (kX7_laysNow _ _ _ _ _ _ _ _ _ _ _ _ _ _ h) (lw_V q1776 q1778 qs66 q107 q1779) hdX7_laysNow (Nat.le_of_ble_eq_true rfl) (Nat.le_of_ble_eq_true rfl) rfl (Nat.le_of_ble_eq_true rfl) dX7_room_33 rfl (fun f_8 h => ?_)
        refine ag_iconst E1 dX7_room_36 ki_0 ?_
        refine ag_istore E1 (lv' := [(4, .int (0 : Int32)), (0, .ref o), (1, .int x1), (2, .int x2), (3, .int x3)]) dX7_room_37 (Nat.lt_of_lt_of_le (Nat.le_refl _) (Nat.le_of_ble_eq_true rfl)) rfl ?_
        refine ag_iconst E1 dX7_room_39 ki_0 ?_
        refine ag_istore E1 (lv' := [(5, .int (0 : Int32)), (4, .int (0 : Int32)), (0, .ref o), (1, .int x1), (2, .int x2), (3, .int x3)]) dX7_room_40 (Nat.lt_of_lt_of_le (Nat.le_refl _) (Nat.le_of_ble_eq_true rfl)) rfl ?_
        refine ag_sub (lv' := [(0, .ref o), (2, .int x2), (4, .int (0 : Int32)), (5, .int (0 : Int32))]) [2, 4, 1, 0] rfl ?_
        obtain ⟨n, h⟩ := h
        exact tlX7_room_42 E  n _ _ _ _ h
      · have h := h.2 c_20
        refine ag_bipush E1 dX7_room_23 kb_m5 ?_
        exact am_iret E rfl ⟨_, rfl, h⟩ dX7_room_25
theorem hdX7_room : yX7_room.cls = RX7 ∧ yX7_room.cls ≠ "java/lang/invoke/MethodHandle" ∧ yX7_room.cls ≠ "java/lang/invoke/VarHandle" ∧ (parseMethodDescriptor yX7_room.desc).map (fun d => d.parameters.length) = some 3 := by decide +kernel
theorem kX7_hurt (l : Launch) (D : va_G) (cs : Nat → ClassId) (b : Nat) (H0 : Heap) (XK : State → Prop) (o : Nat) (Z : cP) (z u : Nat) (f : St) (x1 : Int32) (x2 : Int32) (x3 : Int32) (Q : Int64 → St → Prop) (h : wX7_hurt f x1 x2 x3 Q) : CM l D cs b H0 XK o Z z u yX7_hurt cX7_hurt 5 (some .long) 6 145 [.ref o, .int x1, .int x2, .int x3] f (pJ Q) := by
  refine cm_of (by decide) rfl (Nat.le_of_ble_eq_true rfl) (fun p e R s m below meth c E => ?_)
  have E1 := E.1
  refine ag_sub (lv' := [(0, .ref o), (1, .int x1), (2, .int x2), (3, .int x3)]) [0, 1, 2, 3] rfl ?_
  refine ag_aload_n E1 dX7_hurt_0 rfl 0 rfl ?_
  refine ag_iload_n E1 dX7_hurt_1 rfl 1 rfl ?_
  refine am_callVi E [.int x1] (kX7_isGiving _ _ _ _ _ _ _ _ _ _ _ _ _ h) (lw_V q1756 q1758 qs62 q107 q1759) hdX7_isGiving (Nat.le_of_ble_eq_true rfl) (Nat.le_of_ble_eq_true rfl) rfl (Nat.le_of_ble_eq_true rfl) dX7_hurt_2 rfl (fun r_2 f_1 h => ?_)
  refine ag_if_eq E1 (tgt := 23) dX7_hurt_5 (by decide) (fun c_5 => ?_) (fun c_5 => ?_)
  · have h := h.1 c_5
    refine ag_ldc2 E1 q1720 dX7_hurt_23 ?_
    exact am_lret E rfl ⟨_, rfl, h⟩ dX7_hurt_26
  · have h := h.2 c_5
    refine ag_aload_n E1 dX7_hurt_8 rfl 0 rfl ?_
    refine ag_iload_n E1 dX7_hurt_9 rfl 2 rfl ?_
    refine am_callVi E [.int x2] (kX7_isTown _ _ _ _ _ _ _ _ _ _ _ _ _ h) (lw_V q1632 q1634 qs46 q107 q1635) hdX7_isTown (Nat.le_of_ble_eq_true rfl) (Nat.le_of_ble_eq_true rfl) rfl (Nat.le_of_ble_eq_true rfl) dX7_hurt_10 rfl (fun r_4 f_3 h => ?_)
    refine ag_if_eq E1 (tgt := 23) dX7_hurt_13 (by decide) (fun c_13 => ?_) (fun c_13 => ?_)
    · have h := h.1 c_13
      refine ag_ldc2 E1 q1720 dX7_hurt_23 ?_
      exact am_lret E rfl ⟨_, rfl, h⟩ dX7_hurt_26
    · have h := h.2 c_13
      refine ag_iload_n E1 dX7_hurt_16 rfl 3 rfl ?_
      refine am_callSi E [.int x3] (kX7_isWeek _ _ _ _ _ _ _ _ _ _ _ _ _ h) (lw_S q1660 q1661 q107 q1662) hdX7_isWeek (Nat.le_of_ble_eq_true rfl) (Nat.le_of_ble_eq_true rfl) rfl (Nat.le_of_ble_eq_true rfl) dX7_hurt_17 rfl (fun r_6 f_5 h => ?_)
      refine ag_if_ne E1 (tgt := 27) dX7_hurt_20 (by decide) (fun c_20 => ?_) (fun c_20 => ?_)
      · have h := h.1 c_20
        refine ag_aload_n E1 dX7_hurt_27 rfl 0 rfl ?_
        refine am_callVv E [] (kX7_spreads _ _ _ _ _ _ _ _ _ _ _  _ h) (lw_V q1640 q1642 qs47 q107 q1643) hdX7_spreads (Nat.le_of_ble_eq_true rfl) (Nat.le_of_ble_eq_true rfl) rfl (Nat.le_of_ble_eq_true rfl) dX7_hurt_28 rfl (fun f_7 h => ?_)
        refine ag_aload_n E1 dX7_hurt_31 rfl 0 rfl ?_
        refine ag_iload_n E1 dX7_hurt_32 rfl 1 rfl ?_
        refine ag_iload_n E1 dX7_hurt_33 rfl 3 rfl ?_
        refine am_callVv E [.int x1, .int x3] (kX7_laysNow _ _ _ _ _ _ _ _ _ _ _ _ _ _ h) (lw_V q1776 q1778 qs66 q107 q1779) hdX7_laysNow (Nat.le_of_ble_eq_true rfl) (Nat.le_of_ble_eq_true rfl) rfl (Nat.le_of_ble_eq_true rfl) dX7_hurt_34 rfl (fun f_8 h => ?_)
        refine ag_aload_n E1 dX7_hurt_37 rfl 0 rfl ?_
        refine ag_aload_n E1 dX7_hurt_38 rfl 0 rfl ?_
        refine am_geta E 17 (i := 11) (by decide) (by decide) rfl q1467 dX7_hurt_39 ?_
        refine ag_iload_n E1 dX7_hurt_42 rfl 1 rfl ?_
        obtain ⟨hin, h⟩ := h
        refine am_iald E 17 rfl rfl rfl (by decide) hin dX7_hurt_43 ?_
        refine ag_iload_n E1 dX7_hurt_44 rfl 2 rfl ?_
        refine am_callVi E [.int (f_8 17 (Int32.toNatClampNeg x1)), .int x2] (kX7_worthAll _ _ _ _ _ _ _ _ _ _ _ _ _ _ h) (lw_V q1800 q1802 qs70 q107 q1803) hdX7_worthAll (Nat.le_of_ble_eq_true rfl) (Nat.le_of_ble_eq_true rfl) rfl (Nat.le_of_ble_eq_true rfl) dX7_hurt_45 rfl (fun r_10 f_9 h => ?_)
        refine ag_istore E1 (lv' := [(4, .int r_10), (0, .ref o), (1, .int x1), (2, .int x2), (3, .int x3)]) dX7_hurt_48 (Nat.lt_of_lt_of_le (Nat.le_refl _) (Nat.le_of_ble_eq_true rfl)) rfl ?_
        refine ag_aload_n E1 dX7_hurt_50 rfl 1 rfl ?_
        refine am_geta E 52 (i := 31) (by decide) (by decide) rfl q1502 dX7_hurt_51 ?_
        refine ag_iload_n E1 dX7_hurt_54 rfl 3 rfl ?_
        refine ag_iconst E1 dX7_hurt_55 ki_0 ?_
        obtain ⟨hin, h⟩ := h
        refine am_iast E 52 rfl rfl rfl (by decide) hin dX7_hurt_56 (fun f_11 e_f_11 => ?_)
        have h := h f_11 e_f_11
        refine ag_aload_n E1 dX7_hurt_57 rfl 1 rfl ?_
        refine ag_aload_n E1 dX7_hurt_58 rfl 1 rfl ?_
        refine am_geta E 17 (i := 11) (by decide) (by decide) rfl q1467 dX7_hurt_59 ?_
        refine ag_iload_n E1 dX7_hurt_62 rfl 2 rfl ?_
        obtain ⟨hin, h⟩ := h
        refine am_iald E 17 rfl rfl rfl (by decide) hin dX7_hurt_63 ?_
        refine ag_iload_n E1 dX7_hurt_64 rfl 3 rfl ?_
        refine am_callVi E [.int (f_11 17 (Int32.toNatClampNeg x1)), .int x2] (kX7_worthAll _ _ _ _ _ _ _ _ _ _ _ _ _ _ h) (lw_V q1800 q1802 qs70 q107 q1803) hdX7_worthAll (Nat.le_of_ble_eq_true rfl) (Nat.le_of_ble_eq_true rfl) rfl (Nat.le_of_ble_eq_true rfl) dX7_hurt_65 rfl (fun r_13 f_12 h => ?_)
        refine ag_iload E1 dX7_hurt_68 0 rfl ?_
        refine ag_isub E1 dX7_hurt_70 ?_
        refine ag_i2l E1 dX7_hurt_71 ?_
        exact am_lret E rfl ⟨_, rfl, h⟩ dX7_hurt_72
      · have h := h.2 c_20
        refine ag_ldc2 E1 q1720 dX7_hurt_23 ?_
        exact am_lret E rfl ⟨_, rfl, h⟩ dX7_hurt_26
theorem hdX7_hurt : yX7_hurt.cls = RX7 ∧ yX7_hurt.cls ≠ "java/lang/invoke/MethodHandle" ∧ yX7_hurt.cls ≠ "java/lang/invoke/VarHandle" ∧ (parseMethodDescriptor yX7_hurt.desc).map (fun d => d.parameters.length) = some 3 := by decide +kernel
theorem kX7_sold (l : Launch) (D : va_G) (cs : Nat → ClassId) (b : Nat) (H0 : Heap) (XK : State → Prop) (o : Nat) (Z : cP) (z u : Nat) (f : St) (x1 : Int32) (x2 : Int32) (x3 : Int32) (Q : Int32 → St → Prop) (h : wX7_sold f x1 x2 x3 Q) : CM l D cs b H0 XK o Z z u yX7_sold cX7_sold 4 (some .int) 0 0 [.ref o, .int x1, .int x2, .int x3] f (pI Q) := by
  refine cm_of (by decide) rfl (Nat.le_of_ble_eq_true rfl) (fun p e R s m below meth c E => ?_)
  have E1 := E.1
  refine ag_sub (lv' := [(0, .ref o), (1, .int x1), (2, .int x2), (3, .int x3)]) [0, 1, 2, 3] rfl ?_
  refine ag_aload_n E1 dX7_sold_0 rfl 0 rfl ?_
  refine am_geta E 52 (i := 31) (by decide) (by decide) rfl q1502 dX7_sold_1 ?_
  refine ag_iload_n E1 dX7_sold_4 rfl 1 rfl ?_
  obtain ⟨hin, h⟩ := h
  refine am_iald E 52 rfl rfl rfl (by decide) hin dX7_sold_5 ?_
  refine ag_iload_n E1 dX7_sold_6 rfl 2 rfl ?_
  refine ag_ishr E1 dX7_sold_7 ?_
  refine ag_iconst E1 dX7_sold_8 ki_1 ?_
  refine ag_iand E1 dX7_sold_9 ?_
  refine ag_if_ne E1 (tgt := 17) dX7_sold_10 (by decide) (fun c_10 => ?_) (fun c_10 => ?_)
  · have h := h.1 c_10
    refine ag_aload_n E1 dX7_sold_17 rfl 0 rfl ?_
    refine am_geta E 1 (i := 1) (by decide) (by decide) rfl q1451 dX7_sold_18 ?_
    refine ag_iload_n E1 dX7_sold_21 rfl 1 rfl ?_
    obtain ⟨hin, h⟩ := h
    refine am_iald E 1 rfl rfl rfl (by decide) hin dX7_sold_22 ?_
    refine ag_iload_n E1 dX7_sold_23 rfl 3 rfl ?_
    refine ag_icmp_ge E1 (tgt := 36) dX7_sold_24 (by decide) (fun c_24 => ?_) (fun c_24 => ?_)
    · have h := h.1 c_24
      refine ag_iload_n E1 dX7_sold_36 rfl 3 rfl ?_
      exact am_iret E rfl ⟨_, rfl, h⟩ dX7_sold_37
    · have h := h.2 c_24
      refine ag_aload_n E1 dX7_sold_27 rfl 0 rfl ?_
      refine am_geta E 1 (i := 1) (by decide) (by decide) rfl q1451 dX7_sold_28 ?_
      refine ag_iload_n E1 dX7_sold_31 rfl 1 rfl ?_
      obtain ⟨hin, h⟩ := h
      refine am_iald E 1 rfl rfl rfl (by decide) hin dX7_sold_32 ?_
      refine ag_goto E1 (tgt := 37) dX7_sold_33 (by decide) ?_
      exact am_iret E rfl ⟨_, rfl, h⟩ dX7_sold_37
  · have h := h.2 c_10
    refine ag_iconst E1 dX7_sold_13 ki_0 ?_
    refine ag_goto E1 (tgt := 37) dX7_sold_14 (by decide) ?_
    exact am_iret E rfl ⟨_, rfl, h⟩ dX7_sold_37
theorem hdX7_sold : yX7_sold.cls = RX7 ∧ yX7_sold.cls ≠ "java/lang/invoke/MethodHandle" ∧ yX7_sold.cls ≠ "java/lang/invoke/VarHandle" ∧ (parseMethodDescriptor yX7_sold.desc).map (fun d => d.parameters.length) = some 3 := by decide +kernel
theorem tbX7_soldBy_81 (E : EM p R s m args meth c cX7_soldBy 9 (some .int) D cs b H0 XK 1 23 z u) {Q : Int32 → St → Prop}  {x7 : Int32} {t0 : Int32} {f : St} (h : wbX7_soldBy_81  Q x7 t0 f) : AM p l e R s m args below meth c D cs b 9 o Z z u (pI Q) 81 [(7, .int x7)] [.int t0] f := by
  have E1 := E.1
  refine ag_istore E1 (lv' := [(8, .int t0), (7, .int x7)]) dX7_soldBy_81 (Nat.lt_of_lt_of_le (Nat.le_refl _) (Nat.le_of_ble_eq_true rfl)) rfl ?_
  refine ag_iload E1 dX7_soldBy_83 0 rfl ?_
  refine ag_iconst E1 dX7_soldBy_85 ki_m1 ?_
  refine ag_icmp_ne E1 (tgt := 93) dX7_soldBy_86 (by decide) (fun c_86 => ?_) (fun c_86 => ?_)
  · have h := h.1 c_86
    refine ag_iload E1 dX7_soldBy_93 1 rfl ?_
    refine ag_iload E1 dX7_soldBy_95 0 rfl ?_
    refine ag_iadd E1 dX7_soldBy_97 ?_
    exact am_iret E rfl ⟨_, rfl, h⟩ dX7_soldBy_98
  · have h := h.2 c_86
    refine ag_iconst E1 dX7_soldBy_89 ki_m1 ?_
    refine ag_goto E1 (tgt := 98) dX7_soldBy_90 (by decide) ?_
    exact am_iret E rfl ⟨_, rfl, h⟩ dX7_soldBy_98
theorem tbX7_soldBy_34 (E : EM p R s m args meth c cX7_soldBy 9 (some .int) D cs b H0 XK 1 23 z u) {Q : Int32 → St → Prop}  {x2 : Int32} {x3 : Int32} {x4 : Int32} {f : St} (h : wbX7_soldBy_34  Q x2 x3 x4 f) : AM p l e R s m args below meth c D cs b 9 o Z z u (pI Q) 34 [(0, .ref o), (2, .int x2), (3, .int x3), (4, .int x4)] [] f := by
  have E1 := E.1
  refine ag_aload_n E1 dX7_soldBy_34 rfl 0 rfl ?_
  refine ag_iload_n E1 dX7_soldBy_35 rfl 1 rfl ?_
  refine ag_iload_n E1 dX7_soldBy_36 rfl 2 rfl ?_
  refine ag_iload E1 dX7_soldBy_37 3 rfl ?_
  refine am_callVi E [.int x2, .int x3, .int x4] (kX7_sold _ _ _ _ _ _ _ _ _ _ _ _ _ _ _ h) (lw_V q1887 q1889 qs81 q107 q1890) hdX7_sold (Nat.le_of_ble_eq_true rfl) (Nat.le_of_ble_eq_true rfl) rfl (Nat.le_of_ble_eq_true rfl) dX7_soldBy_39 rfl (fun r_2 f_1 h => ?_)
  refine ag_istore E1 (lv' := [(7, .int r_2), (0, .ref o), (2, .int x2), (3, .int x3), (4, .int x4)]) dX7_soldBy_42 (Nat.lt_of_lt_of_le (Nat.le_refl _) (Nat.le_of_ble_eq_true rfl)) rfl ?_
  refine ag_iload_n E1 dX7_soldBy_44 rfl 3 rfl ?_
  refine ag_aload_n E1 dX7_soldBy_45 rfl 1 rfl ?_
  refine am_geti E 6 (by decide) rfl q1456 dX7_soldBy_46 ?_
  refine ag_iconst E1 dX7_soldBy_49 ki_1 ?_
  refine ag_isub E1 dX7_soldBy_50 ?_
  refine ag_icmp_ne E1 (tgt := 58) dX7_soldBy_51 (by decide) (fun c_51 => ?_) (fun c_51 => ?_)
  · have h := h.1 c_51
    refine ag_aload_n E1 dX7_soldBy_58 rfl 1 rfl ?_
    refine am_geta E 55 (i := 34) (by decide) (by decide) rfl q1505 dX7_soldBy_59 ?_
    refine ag_sipush E1 dX7_soldBy_62 ks_246 ?_
    refine ag_iload_n E1 dX7_soldBy_65 rfl 3 rfl ?_
    refine ag_iconst E1 dX7_soldBy_66 ki_1 ?_
    refine ag_iadd E1 dX7_soldBy_67 ?_
    refine ag_imul E1 dX7_soldBy_68 ?_
    refine ag_bipush E1 dX7_soldBy_69 kb_41 ?_
    refine ag_iload_n E1 dX7_soldBy_71 rfl 2 rfl ?_
    refine ag_imul E1 dX7_soldBy_72 ?_
    refine ag_iadd E1 dX7_soldBy_73 ?_
    refine ag_iload E1 dX7_soldBy_74 4 rfl ?_
    refine ag_iadd E1 dX7_soldBy_76 ?_
    refine ag_iload E1 dX7_soldBy_77 0 rfl ?_
    refine ag_isub E1 dX7_soldBy_79 ?_
    obtain ⟨hin, h⟩ := h
    refine am_iald E 55 rfl rfl rfl (by decide) hin dX7_soldBy_80 ?_
    refine ag_sub (lv' := [(7, .int r_2)]) [0] rfl ?_
    exact tbX7_soldBy_81 E  h
  · have h := h.2 c_51
    refine ag_iconst E1 dX7_soldBy_54 ki_0 ?_
    refine ag_goto E1 (tgt := 81) dX7_soldBy_55 (by decide) ?_
    refine ag_sub (lv' := [(7, .int r_2)]) [0] rfl ?_
    exact tbX7_soldBy_81 E  h
theorem kX7_soldBy (l : Launch) (D : va_G) (cs : Nat → ClassId) (b : Nat) (H0 : Heap) (XK : State → Prop) (o : Nat) (Z : cP) (z u : Nat) (f : St) (x1 : Int32) (x2 : Int32) (x3 : Int32) (x4 : Int32) (x5 : Int32) (x6 : Int32) (Q : Int32 → St → Prop) (h : wX7_soldBy f x1 x2 x3 x4 x5 x6 Q) : CM l D cs b H0 XK o Z z u yX7_soldBy cX7_soldBy 9 (some .int) 1 23 [.ref o, .int x1, .int x2, .int x3, .int x4, .int x5, .int x6] f (pI Q) := by
  refine cm_of (by decide) rfl (Nat.le_of_ble_eq_true rfl) (fun p e R s m below meth c E => ?_)
  have E1 := E.1
  refine ag_sub (lv' := [(0, .ref o), (1, .int x1), (2, .int x2), (3, .int x3), (4, .int x4), (5, .int x5), (6, .int x6)]) [0, 1, 2, 3, 4, 5, 6] rfl ?_
  refine ag_aload_n E1 dX7_soldBy_0 rfl 0 rfl ?_
  refine am_geta E 39 (i := 25) (by decide) (by decide) rfl q1489 dX7_soldBy_1 ?_
  refine ag_bipush E1 dX7_soldBy_4 kb_6 ?_
  refine ag_iload_n E1 dX7_soldBy_6 rfl 1 rfl ?_
  refine ag_imul E1 dX7_soldBy_7 ?_
  refine ag_iload_n E1 dX7_soldBy_8 rfl 2 rfl ?_
  refine ag_iadd E1 dX7_soldBy_9 ?_
  obtain ⟨hin, h⟩ := h
  refine am_iald E 39 rfl rfl rfl (by decide) hin dX7_soldBy_10 ?_
  refine ag_iload E1 dX7_soldBy_11 5 rfl ?_
  refine ag_icmp_gt E1 (tgt := 32) dX7_soldBy_13 (by decide) (fun c_13 => ?_) (fun c_13 => ?_)
  · have h := h.1 c_13
    refine ag_iconst E1 dX7_soldBy_32 ki_m1 ?_
    exact am_iret E rfl ⟨_, rfl, h⟩ dX7_soldBy_33
  · have h := h.2 c_13
    refine ag_iload_n E1 dX7_soldBy_16 rfl 3 rfl ?_
    refine ag_aload_n E1 dX7_soldBy_17 rfl 0 rfl ?_
    refine am_geti E 6 (by decide) rfl q1456 dX7_soldBy_18 ?_
    refine ag_iconst E1 dX7_soldBy_21 ki_1 ?_
    refine ag_isub E1 dX7_soldBy_22 ?_
    refine ag_icmp_ne E1 (tgt := 34) dX7_soldBy_23 (by decide) (fun c_23 => ?_) (fun c_23 => ?_)
    · have h := h.1 c_23
      refine ag_sub (lv' := [(0, .ref o), (2, .int x2), (3, .int x3), (4, .int x4)]) [0, 2, 3, 4] rfl ?_
      exact tbX7_soldBy_34 E  h
    · have h := h.2 c_23
      refine ag_iload_n E1 dX7_soldBy_26 rfl 2 rfl ?_
      refine ag_iload E1 dX7_soldBy_27 6 rfl ?_
      refine ag_icmp_eq E1 (tgt := 34) dX7_soldBy_29 (by decide) (fun c_29 => ?_) (fun c_29 => ?_)
      · have h := h.1 c_29
        refine ag_sub (lv' := [(0, .ref o), (2, .int x2), (3, .int x3), (4, .int x4)]) [0, 2, 3, 4] rfl ?_
        exact tbX7_soldBy_34 E  h
      · have h := h.2 c_29
        refine ag_iconst E1 dX7_soldBy_32 ki_m1 ?_
        exact am_iret E rfl ⟨_, rfl, h⟩ dX7_soldBy_33
theorem hdX7_soldBy : yX7_soldBy.cls = RX7 ∧ yX7_soldBy.cls ≠ "java/lang/invoke/MethodHandle" ∧ yX7_soldBy.cls ≠ "java/lang/invoke/VarHandle" ∧ (parseMethodDescriptor yX7_soldBy.desc).map (fun d => d.parameters.length) = some 6 := by decide +kernel
end
