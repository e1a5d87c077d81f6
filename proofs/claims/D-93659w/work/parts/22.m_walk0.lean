/-! walks of the reference's methods (by program) -/
set_option maxRecDepth 100000
set_option maxHeartbeats 4000000
section
variable {p : Program} {l : Launch} {e : Env} {R : Room} {s : State} {m : MethodId} {args : Array Value} {below : List Frame} {meth : Method} {c : Code} {D : va_G} {cs : Nat → ClassId} {b o z u : Nat} {Z : cP} {H0 : Heap} {XK : State → Prop}
theorem kX7_first (l : Launch) (D : va_G) (cs : Nat → ClassId) (b : Nat) (H0 : Heap) (XK : State → Prop) (o : Nat) (Z : cP) (z u : Nat) (f : St) (x1 : Int32) (x2 : Int32) (x3 : Int32) (x4 : Int32) (x5 : Int32) (Q : St → Prop) (h : wX7_first f x1 x2 x3 x4 x5 Q) : CM l D cs b H0 XK o Z z u yX7_first cX7_first 6 none 0 0 [.ref o, .int x1, .int x2, .int x3, .int x4, .int x5] f (pV Q) := by
  refine cm_of (by decide) rfl (Nat.le_of_ble_eq_true rfl) (fun p e R s m below meth c E => ?_)
  have E1 := E.1
  refine ag_sub (lv' := [(0, .ref o), (1, .int x1), (2, .int x2), (3, .int x3), (4, .int x4), (5, .int x5)]) [0, 1, 2, 3, 4, 5] rfl ?_
  refine ag_aload_n E1 dX7_first_0 rfl 0 rfl ?_
  refine am_geta E 12 (i := 9) (by decide) (by decide) rfl q1462 dX7_first_1 ?_
  refine ag_iload_n E1 dX7_first_4 rfl 1 rfl ?_
  refine ag_iload_n E1 dX7_first_5 rfl 2 rfl ?_
  obtain ⟨hin, h⟩ := h
  refine am_iast E 12 rfl rfl rfl (by decide) hin dX7_first_6 (fun f_1 e_f_1 => ?_)
  have h := h f_1 e_f_1
  refine ag_aload_n E1 dX7_first_7 rfl 0 rfl ?_
  refine am_geta E 12 (i := 9) (by decide) (by decide) rfl q1462 dX7_first_8 ?_
  refine ag_iload_n E1 dX7_first_11 rfl 1 rfl ?_
  refine ag_iconst E1 dX7_first_12 ki_1 ?_
  refine ag_iadd E1 dX7_first_13 ?_
  refine ag_iload_n E1 dX7_first_14 rfl 3 rfl ?_
  obtain ⟨hin, h⟩ := h
  refine am_iast E 12 rfl rfl rfl (by decide) hin dX7_first_15 (fun f_2 e_f_2 => ?_)
  have h := h f_2 e_f_2
  refine ag_aload_n E1 dX7_first_16 rfl 0 rfl ?_
  refine am_geta E 12 (i := 9) (by decide) (by decide) rfl q1462 dX7_first_17 ?_
  refine ag_iload_n E1 dX7_first_20 rfl 1 rfl ?_
  refine ag_iconst E1 dX7_first_21 ki_2 ?_
  refine ag_iadd E1 dX7_first_22 ?_
  refine ag_iload E1 dX7_first_23 4 rfl ?_
  obtain ⟨hin, h⟩ := h
  refine am_iast E 12 rfl rfl rfl (by decide) hin dX7_first_25 (fun f_3 e_f_3 => ?_)
  have h := h f_3 e_f_3
  refine ag_aload_n E1 dX7_first_26 rfl 0 rfl ?_
  refine am_geta E 12 (i := 9) (by decide) (by decide) rfl q1462 dX7_first_27 ?_
  refine ag_iload_n E1 dX7_first_30 rfl 1 rfl ?_
  refine ag_iconst E1 dX7_first_31 ki_3 ?_
  refine ag_iadd E1 dX7_first_32 ?_
  refine ag_iload E1 dX7_first_33 5 rfl ?_
  obtain ⟨hin, h⟩ := h
  refine am_iast E 12 rfl rfl rfl (by decide) hin dX7_first_35 (fun f_4 e_f_4 => ?_)
  have h := h f_4 e_f_4
  exact am_vret E rfl ⟨rfl, h⟩ dX7_first_36
theorem hdX7_first : yX7_first.cls = RX7 ∧ yX7_first.cls ≠ "java/lang/invoke/MethodHandle" ∧ yX7_first.cls ≠ "java/lang/invoke/VarHandle" ∧ (parseMethodDescriptor yX7_first.desc).map (fun d => d.parameters.length) = some 5 := by decide +kernel
theorem kX7_in (l : Launch) (D : va_G) (cs : Nat → ClassId) (b : Nat) (H0 : Heap) (XK : State → Prop) (o : Nat) (Z : cP) (z u : Nat) (f : St) (x0 : Int32) (x1 : Int32) (x2 : Int32) (Q : Int32 → St → Prop) (h : wX7_in f x0 x1 x2 Q) : CM l D cs b H0 XK o Z z u yX7_in cX7_in 3 (some .boolean) 0 0 [.int x0, .int x1, .int x2] f (pI Q) := by
  refine cm_of (by decide) rfl (Nat.le_of_ble_eq_true rfl) (fun p e R s m below meth c E => ?_)
  have E1 := E.1
  refine ag_sub (lv' := [(0, .int x0), (1, .int x1), (2, .int x2)]) [0, 1, 2] rfl ?_
  refine ag_iload_n E1 dX7_in_0 rfl 0 rfl ?_
  refine ag_iload_n E1 dX7_in_1 rfl 1 rfl ?_
  refine ag_icmp_lt E1 (tgt := 14) dX7_in_2 (by decide) (fun c_2 => ?_) (fun c_2 => ?_)
  · have h := h.1 c_2
    refine ag_iconst E1 dX7_in_14 ki_0 ?_
    exact am_zret E rfl (Or.inl rfl) ⟨_, rfl, h⟩ dX7_in_15
  · have h := h.2 c_2
    refine ag_iload_n E1 dX7_in_5 rfl 0 rfl ?_
    refine ag_iload_n E1 dX7_in_6 rfl 2 rfl ?_
    refine ag_icmp_gt E1 (tgt := 14) dX7_in_7 (by decide) (fun c_7 => ?_) (fun c_7 => ?_)
    · have h := h.1 c_7
      refine ag_iconst E1 dX7_in_14 ki_0 ?_
      exact am_zret E rfl (Or.inl rfl) ⟨_, rfl, h⟩ dX7_in_15
    · have h := h.2 c_7
      refine ag_iconst E1 dX7_in_10 ki_1 ?_
      refine ag_goto E1 (tgt := 15) dX7_in_11 (by decide) ?_
      exact am_zret E rfl (Or.inr rfl) ⟨_, rfl, h⟩ dX7_in_15
theorem hdX7_in : yX7_in.cls ≠ "java/lang/invoke/MethodHandle" ∧ yX7_in.cls ≠ "java/lang/invoke/VarHandle" ∧ (parseMethodDescriptor yX7_in.desc).map (fun d => d.parameters.length) = some 3 := by decide +kernel
theorem kX7_town (l : Launch) (D : va_G) (cs : Nat → ClassId) (b : Nat) (H0 : Heap) (XK : State → Prop) (o : Nat) (Z : cP) (z u : Nat) (f : St) (x1 : Int32) (Q : Int32 → St → Prop) (h : wX7_town f x1 Q) : CM l D cs b H0 XK o Z z u yX7_town cX7_town 2 (some .int) 1 22 [.ref o, .int x1] f (pI Q) := by
  refine cm_of (by decide) rfl (Nat.le_of_ble_eq_true rfl) (fun p e R s m below meth c E => ?_)
  have E1 := E.1
  refine ag_sub (lv' := [(0, .ref o), (1, .int x1)]) [0, 1] rfl ?_
  refine ag_iload_n E1 dX7_town_0 rfl 1 rfl ?_
  refine ag_iconst E1 dX7_town_1 ki_0 ?_
  refine ag_bipush E1 dX7_town_2 kb_99 ?_
  refine am_callSi E [.int x1, .int (0 : Int32), .int (99 : Int32)] (kX7_in _ _ _ _ _ _ _ _ _ _ _ _ _ _ _ h) (lw_S q1625 q1626 q107 q1627) hdX7_in (Nat.le_of_ble_eq_true rfl) (Nat.le_of_ble_eq_true rfl) rfl (Nat.le_of_ble_eq_true rfl) dX7_town_4 rfl (fun r_2 f_1 h => ?_)
  refine ag_if_ne E1 (tgt := 13) dX7_town_7 (by decide) (fun c_7 => ?_) (fun c_7 => ?_)
  · have h := h.1 c_7
    refine ag_aload_n E1 dX7_town_13 rfl 0 rfl ?_
    refine am_geti E 0 (by decide) rfl q1450 dX7_town_14 ?_
    refine ag_bipush E1 dX7_town_17 kb_6 ?_
    refine ag_icmp_ne E1 (tgt := 25) dX7_town_19 (by decide) (fun c_19 => ?_) (fun c_19 => ?_)
    · have h := h.1 c_19
      refine ag_aload_n E1 dX7_town_25 rfl 0 rfl ?_
      refine am_geta E 1 (i := 1) (by decide) (by decide) rfl q1451 dX7_town_26 ?_
      refine ag_aload_n E1 dX7_town_29 rfl 0 rfl ?_
      refine am_geti E 0 (by decide) rfl q1450 dX7_town_30 ?_
      refine ag_iload_n E1 dX7_town_33 rfl 1 rfl ?_
      obtain ⟨hin, h⟩ := h
      refine am_iast E 1 rfl rfl rfl (by decide) hin dX7_town_34 (fun f_3 e_f_3 => ?_)
      have h := h f_3 e_f_3
      refine ag_aload_n E1 dX7_town_35 rfl 0 rfl ?_
      refine am_geta E 2 (i := 2) (by decide) (by decide) rfl q1452 dX7_town_36 ?_
      refine ag_aload_n E1 dX7_town_39 rfl 0 rfl ?_
      refine am_geti E 0 (by decide) rfl q1450 dX7_town_40 ?_
      refine ag_bipush E1 dX7_town_43 kb_127 ?_
      obtain ⟨hin, h⟩ := h
      refine am_iast E 2 rfl rfl rfl (by decide) hin dX7_town_45 (fun f_4 e_f_4 => ?_)
      have h := h f_4 e_f_4
      refine ag_aload_n E1 dX7_town_46 rfl 0 rfl ?_
      refine am_geta E 3 (i := 3) (by decide) (by decide) rfl q1453 dX7_town_47 ?_
      refine ag_aload_n E1 dX7_town_50 rfl 0 rfl ?_
      refine am_geti E 0 (by decide) rfl q1450 dX7_town_51 ?_
      refine ag_iconst E1 dX7_town_54 ki_m1 ?_
      obtain ⟨hin, h⟩ := h
      refine am_iast E 3 rfl rfl rfl (by decide) hin dX7_town_55 (fun f_5 e_f_5 => ?_)
      have h := h f_5 e_f_5
      refine ag_aload_n E1 dX7_town_56 rfl 0 rfl ?_
      refine am_geta E 4 (i := 4) (by decide) (by decide) rfl q1454 dX7_town_57 ?_
      refine ag_aload_n E1 dX7_town_60 rfl 0 rfl ?_
      refine am_geti E 0 (by decide) rfl q1450 dX7_town_61 ?_
      refine ag_iconst E1 dX7_town_64 ki_m1 ?_
      obtain ⟨hin, h⟩ := h
      refine am_iast E 4 rfl rfl rfl (by decide) hin dX7_town_65 (fun f_6 e_f_6 => ?_)
      have h := h f_6 e_f_6
      refine ag_aload_n E1 dX7_town_66 rfl 0 rfl ?_
      refine ag_dup E1 dX7_town_67 rfl ?_
      refine am_geti E 0 (by decide) rfl q1450 dX7_town_68 ?_
      refine ag_iconst E1 dX7_town_71 ki_1 ?_
      refine ag_iadd E1 dX7_town_72 ?_
      refine am_puti E 0 (by decide) rfl q1450 rfl (ty := .int) (by decide +kernel) rfl rfl dX7_town_73 (fun f_7 e_f_7 => ?_)
      have h := h f_7 e_f_7
      refine ag_aload_n E1 dX7_town_76 rfl 0 rfl ?_
      refine am_geti E 0 (by decide) rfl q1450 dX7_town_77 ?_
      refine ag_iconst E1 dX7_town_80 ki_1 ?_
      refine ag_isub E1 dX7_town_81 ?_
      exact am_iret E rfl ⟨_, rfl, h⟩ dX7_town_82
    · have h := h.2 c_19
      refine ag_bipush E1 dX7_town_22 kb_m4 ?_
      exact am_iret E rfl ⟨_, rfl, h⟩ dX7_town_24
  · have h := h.2 c_7
    refine ag_bipush E1 dX7_town_10 kb_m2 ?_
    exact am_iret E rfl ⟨_, rfl, h⟩ dX7_town_12
theorem hdX7_town : yX7_town.cls = RX7 ∧ yX7_town.cls ≠ "java/lang/invoke/MethodHandle" ∧ yX7_town.cls ≠ "java/lang/invoke/VarHandle" ∧ (parseMethodDescriptor yX7_town.desc).map (fun d => d.parameters.length) = some 1 := by decide +kernel
theorem kX7_isTown (l : Launch) (D : va_G) (cs : Nat → ClassId) (b : Nat) (H0 : Heap) (XK : State → Prop) (o : Nat) (Z : cP) (z u : Nat) (f : St) (x1 : Int32) (Q : Int32 → St → Prop) (h : wX7_isTown f x1 Q) : CM l D cs b H0 XK o Z z u yX7_isTown cX7_isTown 2 (some .boolean) 1 22 [.ref o, .int x1] f (pI Q) := by
  refine cm_of (by decide) rfl (Nat.le_of_ble_eq_true rfl) (fun p e R s m below meth c E => ?_)
  have E1 := E.1
  refine ag_sub (lv' := [(0, .ref o), (1, .int x1)]) [0, 1] rfl ?_
  refine ag_iload_n E1 dX7_isTown_0 rfl 1 rfl ?_
  refine ag_iconst E1 dX7_isTown_1 ki_0 ?_
  refine ag_aload_n E1 dX7_isTown_2 rfl 0 rfl ?_
  refine am_geti E 0 (by decide) rfl q1450 dX7_isTown_3 ?_
  refine ag_iconst E1 dX7_isTown_6 ki_1 ?_
  refine ag_isub E1 dX7_isTown_7 ?_
  refine am_callSi E [.int x1, .int (0 : Int32), .int ((f 99 0) - (1 : Int32))] (kX7_in _ _ _ _ _ _ _ _ _ _ _ _ _ _ _ h) (lw_S q1625 q1626 q107 q1627) hdX7_in (Nat.le_of_ble_eq_true rfl) (Nat.le_of_ble_eq_true rfl) rfl (Nat.le_of_ble_eq_true rfl) dX7_isTown_8 rfl (fun r_2 f_1 h => ?_)
  exact am_zret E rfl h.1 ⟨_, rfl, h.2⟩ dX7_isTown_11
theorem hdX7_isTown : yX7_isTown.cls = RX7 ∧ yX7_isTown.cls ≠ "java/lang/invoke/MethodHandle" ∧ yX7_isTown.cls ≠ "java/lang/invoke/VarHandle" ∧ (parseMethodDescriptor yX7_isTown.desc).map (fun d => d.parameters.length) = some 1 := by decide +kernel
theorem kX7_road (l : Launch) (D : va_G) (cs : Nat → ClassId) (b : Nat) (H0 : Heap) (XK : State → Prop) (o : Nat) (Z : cP) (z u : Nat) (f : St) (x1 : Int32) (x2 : Int32) (x3 : Int32) (Q : Int32 → St → Prop) (h : wX7_road f x1 x2 x3 Q) : CM l D cs b H0 XK o Z z u yX7_road cX7_road 5 (some .int) 2 43 [.ref o, .int x1, .int x2, .int x3] f (pI Q) := by
  refine cm_of (by decide) rfl (Nat.le_of_ble_eq_true rfl) (fun p e R s m below meth c E => ?_)
  have E1 := E.1
  refine ag_sub (lv' := [(0, .ref o), (1, .int x1), (2, .int x2), (3, .int x3)]) [0, 1, 2, 3] rfl ?_
  refine ag_aload_n E1 dX7_road_0 rfl 0 rfl ?_
  refine ag_iload_n E1 dX7_road_1 rfl 1 rfl ?_
  refine am_callVi E [.int x1] (kX7_isTown _ _ _ _ _ _ _ _ _ _ _ _ _ h) (lw_V q1632 q1634 qs46 q107 q1635) hdX7_isTown (Nat.le_of_ble_eq_true rfl) (Nat.le_of_ble_eq_true rfl) rfl (Nat.le_of_ble_eq_true rfl) dX7_road_2 rfl (fun r_2 f_1 h => ?_)
  refine ag_if_eq E1 (tgt := 16) dX7_road_5 (by decide) (fun c_5 => ?_) (fun c_5 => ?_)
  · have h := h.1 c_5
    refine ag_iconst E1 dX7_road_16 ki_m1 ?_
    exact am_iret E rfl ⟨_, rfl, h⟩ dX7_road_17
  · have h := h.2 c_5
    refine ag_aload_n E1 dX7_road_8 rfl 0 rfl ?_
    refine ag_iload_n E1 dX7_road_9 rfl 2 rfl ?_
    refine am_callVi E [.int x2] (kX7_isTown _ _ _ _ _ _ _ _ _ _ _ _ _ h) (lw_V q1632 q1634 qs46 q107 q1635) hdX7_isTown (Nat.le_of_ble_eq_true rfl) (Nat.le_of_ble_eq_true rfl) rfl (Nat.le_of_ble_eq_true rfl) dX7_road_10 rfl (fun r_4 f_3 h => ?_)
    refine ag_if_ne E1 (tgt := 18) dX7_road_13 (by decide) (fun c_13 => ?_) (fun c_13 => ?_)
    · have h := h.1 c_13
      refine ag_iload_n E1 dX7_road_18 rfl 1 rfl ?_
      refine ag_iload_n E1 dX7_road_19 rfl 2 rfl ?_
      refine ag_icmp_eq E1 (tgt := 33) dX7_road_20 (by decide) (fun c_20 => ?_) (fun c_20 => ?_)
      · have h := h.1 c_20
        refine ag_bipush E1 dX7_road_33 kb_m2 ?_
        exact am_iret E rfl ⟨_, rfl, h⟩ dX7_road_35
      · have h := h.2 c_20
        refine ag_iload_n E1 dX7_road_23 rfl 3 rfl ?_
        refine ag_iconst E1 dX7_road_24 ki_0 ?_
        refine ag_bipush E1 dX7_road_25 kb_50 ?_
        refine am_callSi E [.int x3, .int (0 : Int32), .int (50 : Int32)] (kX7_in _ _ _ _ _ _ _ _ _ _ _ _ _ _ _ h) (lw_S q1625 q1626 q107 q1627) hdX7_in (Nat.le_of_ble_eq_true rfl) (Nat.le_of_ble_eq_true rfl) rfl (Nat.le_of_ble_eq_true rfl) dX7_road_27 rfl (fun r_6 f_5 h => ?_)
        refine ag_if_ne E1 (tgt := 36) dX7_road_30 (by decide) (fun c_30 => ?_) (fun c_30 => ?_)
        · have h := h.1 c_30
          refine ag_aload_n E1 dX7_road_36 rfl 0 rfl ?_
          refine am_geta E 5 (i := 5) (by decide) (by decide) rfl q1455 dX7_road_37 ?_
          refine ag_bipush E1 dX7_road_40 kb_6 ?_
          refine ag_iload_n E1 dX7_road_42 rfl 1 rfl ?_
          refine ag_imul E1 dX7_road_43 ?_
          refine ag_iload_n E1 dX7_road_44 rfl 2 rfl ?_
          refine ag_iadd E1 dX7_road_45 ?_
          obtain ⟨hin, h⟩ := h
          refine am_iald E 5 rfl rfl rfl (by decide) hin dX7_road_46 ?_
          refine ag_topi (fun x4_7 e_x4_7 => ?_)
          have h := h x4_7 e_x4_7
          refine ag_istore E1 (lv' := [(4, .int x4_7), (0, .ref o), (1, .int x1), (2, .int x2), (3, .int x3)]) dX7_road_47 (Nat.lt_of_lt_of_le (Nat.le_refl _) (Nat.le_of_ble_eq_true rfl)) rfl ?_
          refine ag_aload_n E1 dX7_road_49 rfl 1 rfl ?_
          refine am_geta E 5 (i := 5) (by decide) (by decide) rfl q1455 dX7_road_50 ?_
          refine ag_bipush E1 dX7_road_53 kb_6 ?_
          refine ag_iload_n E1 dX7_road_55 rfl 2 rfl ?_
          refine ag_imul E1 dX7_road_56 ?_
          refine ag_iload_n E1 dX7_road_57 rfl 3 rfl ?_
          refine ag_iadd E1 dX7_road_58 ?_
          refine ag_iload_n E1 dX7_road_59 rfl 4 rfl ?_
          obtain ⟨hin, h⟩ := h
          refine am_iast E 5 rfl rfl rfl (by decide) hin dX7_road_60 (fun f_8 e_f_8 => ?_)
          have h := h f_8 e_f_8
          refine ag_aload_n E1 dX7_road_61 rfl 1 rfl ?_
          refine am_geta E 5 (i := 5) (by decide) (by decide) rfl q1455 dX7_road_62 ?_
          refine ag_bipush E1 dX7_road_65 kb_6 ?_
          refine ag_iload_n E1 dX7_road_67 rfl 3 rfl ?_
          refine ag_imul E1 dX7_road_68 ?_
          refine ag_iload_n E1 dX7_road_69 rfl 2 rfl ?_
          refine ag_iadd E1 dX7_road_70 ?_
          refine ag_iload_n E1 dX7_road_71 rfl 4 rfl ?_
          obtain ⟨hin, h⟩ := h
          refine am_iast E 5 rfl rfl rfl (by decide) hin dX7_road_72 (fun f_9 e_f_9 => ?_)
          have h := h f_9 e_f_9
          refine ag_iload E1 dX7_road_73 0 rfl ?_
          exact am_iret E rfl ⟨_, rfl, h⟩ dX7_road_75
        · have h := h.2 c_30
          refine ag_bipush E1 dX7_road_33 kb_m2 ?_
          exact am_iret E rfl ⟨_, rfl, h⟩ dX7_road_35
    · have h := h.2 c_13
      refine ag_iconst E1 dX7_road_16 ki_m1 ?_
      exact am_iret E rfl ⟨_, rfl, h⟩ dX7_road_17
theorem hdX7_road : yX7_road.cls = RX7 ∧ yX7_road.cls ≠ "java/lang/invoke/MethodHandle" ∧ yX7_road.cls ≠ "java/lang/invoke/VarHandle" ∧ (parseMethodDescriptor yX7_road.desc).map (fun d => d.parameters.length) = some 3 := by decide +kernel
theorem tbX7_spreads_44 (E : EM p R s m args meth c cX7_spreads 5 none D cs b H0 XK 0 0 z u) {Q : St → Prop} {K2 : Int32 → St → Prop} (hK2 : ∀ (x1 : Int32) (f : St), K2 x1 f → AM p l e R s m args below meth c D cs b 5 o Z z u (pV Q) 2 [(0, .ref o), (1, .int x1)] [] f) {K51 : St → Prop} (hK51 : ∀  (f : St), K51  f → AM p l e R s m args below meth c D cs b 5 o Z z u (pV Q) 51 [(0, .ref o)] [] f) {x1 : Int32} {t0 : Int32} {t1 : Int32} {f : St} (h : wbX7_spreads_44 K2 K51 Q x1 t0 t1 f) : AM p l e R s m args below meth c D cs b 5 o Z z u (pV Q) 44 [(0, .ref o), (1, .int x1)] [.int t0, .int t1, .ref (o + 25)] f := by
  have E1 := E.1
  obtain ⟨hin, h⟩ := h
  refine am_iast E 39 rfl rfl rfl (by decide) hin dX7_spreads_44 (fun f_1 e_f_1 => ?_)
  have h := h f_1 e_f_1
  refine ag_iincN E1 (lv' := fun x1_2 => [(1, .int x1_2), (0, .ref o)]) dX7_spreads_45 1 rfl ki_1 (Nat.lt_of_lt_of_le (Nat.le_refl _) (Nat.le_of_ble_eq_true rfl)) (fun _ => rfl) (fun x1_2 e_x1_2 => ?_)
  have h := h x1_2 e_x1_2
  refine ag_goto E1 (tgt := 2) dX7_spreads_48 (by decide) ?_
  refine ag_sub (lv' := [(0, .ref o), (1, .int x1_2)]) [1, 0] rfl ?_
  exact hK2 _ _ h
theorem tbX7_spreads_2 (E : EM p R s m args meth c cX7_spreads 5 none D cs b H0 XK 0 0 z u) {Q : St → Prop} {K2 : Int32 → St → Prop} (hK2 : ∀ (x1 : Int32) (f : St), K2 x1 f → AM p l e R s m args below meth c D cs b 5 o Z z u (pV Q) 2 [(0, .ref o), (1, .int x1)] [] f) {K51 : St → Prop} (hK51 : ∀  (f : St), K51  f → AM p l e R s m args below meth c D cs b 5 o Z z u (pV Q) 51 [(0, .ref o)] [] f) {x1 : Int32} {f : St} (h : wbX7_spreads_2 K2 K51 Q x1 f) : AM p l e R s m args below meth c D cs b 5 o Z z u (pV Q) 2 [(0, .ref o), (1, .int x1)] [] f := by
  have E1 := E.1
  refine ag_iload_n E1 dX7_spreads_2 rfl 1 rfl ?_
  refine ag_bipush E1 dX7_spreads_3 kb_36 ?_
  refine ag_icmp_ge E1 (tgt := 51) dX7_spreads_5 (by decide) (fun c_5 => ?_) (fun c_5 => ?_)
  · have h := h.1 c_5
    refine ag_sub (lv' := [(0, .ref o)]) [0] rfl ?_
    exact hK51  _ h
  · have h := h.2 c_5
    refine ag_aload_n E1 dX7_spreads_8 rfl 0 rfl ?_
    refine am_geta E 39 (i := 25) (by decide) (by decide) rfl q1489 dX7_spreads_9 ?_
    refine ag_iload_n E1 dX7_spreads_12 rfl 1 rfl ?_
    refine ag_iload_n E1 dX7_spreads_13 rfl 1 rfl ?_
    refine ag_bipush E1 dX7_spreads_14 kb_7 ?_
    refine ag_irem E1 dX7_spreads_16 (by decide) ?_
    refine ag_if_ne E1 (tgt := 24) dX7_spreads_17 (by decide) (fun c_17 => ?_) (fun c_17 => ?_)
    · have h := h.1 c_17
      refine ag_aload_n E1 dX7_spreads_24 rfl 0 rfl ?_
      refine am_geta E 5 (i := 5) (by decide) (by decide) rfl q1455 dX7_spreads_25 ?_
      refine ag_iload_n E1 dX7_spreads_28 rfl 1 rfl ?_
      obtain ⟨hin, h⟩ := h
      refine am_iald E 5 rfl rfl rfl (by decide) hin dX7_spreads_29 ?_
      refine ag_if_le E1 (tgt := 42) dX7_spreads_30 (by decide) (fun c_30 => ?_) (fun c_30 => ?_)
      · have h := h.1 c_30
        refine ag_bipush E1 dX7_spreads_42 kb_99 ?_
        exact tbX7_spreads_44 E hK2 hK51 h
      · have h := h.2 c_30
        refine ag_aload_n E1 dX7_spreads_33 rfl 0 rfl ?_
        refine am_geta E 5 (i := 5) (by decide) (by decide) rfl q1455 dX7_spreads_34 ?_
        refine ag_iload_n E1 dX7_spreads_37 rfl 1 rfl ?_
        obtain ⟨hin, h⟩ := h
        refine am_iald E 5 rfl rfl rfl (by decide) hin dX7_spreads_38 ?_
        refine ag_goto E1 (tgt := 44) dX7_spreads_39 (by decide) ?_
        exact tbX7_spreads_44 E hK2 hK51 h
    · have h := h.2 c_17
      refine ag_iconst E1 dX7_spreads_20 ki_0 ?_
      refine ag_goto E1 (tgt := 44) dX7_spreads_21 (by decide) ?_
      exact tbX7_spreads_44 E hK2 hK51 h
theorem tlX7_spreads_2 (E : EM p R s m args meth c cX7_spreads 5 none D cs b H0 XK 0 0 z u) {Q : St → Prop} {K51 : St → Prop} (hK51 : ∀  (f : St), K51  f → AM p l e R s m args below meth c D cs b 5 o Z z u (pV Q) 51 [(0, .ref o)] [] f) : ∀ (n : Nat) (x1 : Int32) (f : St), wlX7_spreads_2 K51 Q n x1 f → AM p l e R s m args below meth c D cs b 5 o Z z u (pV Q) 2 [(0, .ref o), (1, .int x1)] [] f := by
  intro n
  induction n with
  | zero => intro _ _ h; exact h.elim
  | succ n ih => intro x1 f h; exact tbX7_spreads_2 E ih hK51 h
theorem tbX7_spreads_148 (E : EM p R s m args meth c cX7_spreads 5 none D cs b H0 XK 0 0 z u) {Q : St → Prop} {K73 : Int32 → Int32 → Int32 → St → Prop} (hK73 : ∀ (x1 : Int32) (x2 : Int32) (x3 : Int32) (f : St), K73 x1 x2 x3 f → AM p l e R s m args below meth c D cs b 5 o Z z u (pV Q) 73 [(0, .ref o), (1, .int x1), (2, .int x2), (3, .int x3)] [] f) {K155 : Int32 → Int32 → St → Prop} (hK155 : ∀ (x1 : Int32) (x2 : Int32) (f : St), K155 x1 x2 f → AM p l e R s m args below meth c D cs b 5 o Z z u (pV Q) 155 [(0, .ref o), (1, .int x1), (2, .int x2)] [] f) {x1 : Int32} {x2 : Int32} {x3 : Int32} {t0 : Int32} {t1 : Int32} {f : St} (h : wbX7_spreads_148 K73 K155 Q x1 x2 x3 t0 t1 f) : AM p l e R s m args below meth c D cs b 5 o Z z u (pV Q) 148 [(0, .ref o), (1, .int x1), (2, .int x2), (3, .int x3)] [.int t0, .int t1, .ref (o + 25)] f := by
  have E1 := E.1
  obtain ⟨hin, h⟩ := h
  refine am_iast E 39 rfl rfl rfl (by decide) hin dX7_spreads_148 (fun f_4 e_f_4 => ?_)
  have h := h f_4 e_f_4
  refine ag_iincN E1 (lv' := fun x3_5 => [(3, .int x3_5), (0, .ref o), (1, .int x1), (2, .int x2)]) dX7_spreads_149 3 rfl ki_1 (Nat.lt_of_lt_of_le (Nat.le_refl _) (Nat.le_of_ble_eq_true rfl)) (fun _ => rfl) (fun x3_5 e_x3_5 => ?_)
  have h := h x3_5 e_x3_5
  refine ag_goto E1 (tgt := 73) dX7_spreads_152 (by decide) ?_
  refine ag_sub (lv' := [(0, .ref o), (1, .int x1), (2, .int x2), (3, .int x3_5)]) [1, 2, 3, 0] rfl ?_
  exact hK73 _ _ _ _ h
theorem tbX7_spreads_73 (E : EM p R s m args meth c cX7_spreads 5 none D cs b H0 XK 0 0 z u) {Q : St → Prop} {K73 : Int32 → Int32 → Int32 → St → Prop} (hK73 : ∀ (x1 : Int32) (x2 : Int32) (x3 : Int32) (f : St), K73 x1 x2 x3 f → AM p l e R s m args below meth c D cs b 5 o Z z u (pV Q) 73 [(0, .ref o), (1, .int x1), (2, .int x2), (3, .int x3)] [] f) {K155 : Int32 → Int32 → St → Prop} (hK155 : ∀ (x1 : Int32) (x2 : Int32) (f : St), K155 x1 x2 f → AM p l e R s m args below meth c D cs b 5 o Z z u (pV Q) 155 [(0, .ref o), (1, .int x1), (2, .int x2)] [] f) {x1 : Int32} {x2 : Int32} {x3 : Int32} {f : St} (h : wbX7_spreads_73 K73 K155 Q x1 x2 x3 f) : AM p l e R s m args below meth c D cs b 5 o Z z u (pV Q) 73 [(0, .ref o), (1, .int x1), (2, .int x2), (3, .int x3)] [] f := by
  have E1 := E.1
  refine ag_iload_n E1 dX7_spreads_73 rfl 3 rfl ?_
  refine ag_aload_n E1 dX7_spreads_74 rfl 0 rfl ?_
  refine am_geti E 0 (by decide) rfl q1450 dX7_spreads_75 ?_
  refine ag_icmp_ge E1 (tgt := 155) dX7_spreads_78 (by decide) (fun c_78 => ?_) (fun c_78 => ?_)
  · have h := h.1 c_78
    refine ag_sub (lv' := [(0, .ref o), (1, .int x1), (2, .int x2)]) [0, 1, 2] rfl ?_
    exact hK155 _ _ _ h
  · have h := h.2 c_78
    refine ag_aload_n E1 dX7_spreads_81 rfl 0 rfl ?_
    refine am_geta E 39 (i := 25) (by decide) (by decide) rfl q1489 dX7_spreads_82 ?_
    refine ag_bipush E1 dX7_spreads_85 kb_6 ?_
    refine ag_iload_n E1 dX7_spreads_87 rfl 2 rfl ?_
    refine ag_imul E1 dX7_spreads_88 ?_
    refine ag_iload_n E1 dX7_spreads_89 rfl 1 rfl ?_
    refine ag_iadd E1 dX7_spreads_90 ?_
    obtain ⟨hin, h⟩ := h
    refine am_iald E 39 rfl rfl rfl (by decide) hin dX7_spreads_91 ?_
    refine ag_aload_n E1 dX7_spreads_92 rfl 0 rfl ?_
    refine am_geta E 39 (i := 25) (by decide) (by decide) rfl q1489 dX7_spreads_93 ?_
    refine ag_bipush E1 dX7_spreads_96 kb_6 ?_
    refine ag_iload_n E1 dX7_spreads_98 rfl 1 rfl ?_
    refine ag_imul E1 dX7_spreads_99 ?_
    refine ag_iload_n E1 dX7_spreads_100 rfl 3 rfl ?_
    refine ag_iadd E1 dX7_spreads_101 ?_
    obtain ⟨hin, h⟩ := h
    refine am_iald E 39 rfl rfl rfl (by decide) hin dX7_spreads_102 ?_
    refine ag_iadd E1 dX7_spreads_103 ?_
    refine ag_topi (fun x4_3 e_x4_3 => ?_)
    have h := h x4_3 e_x4_3
    refine ag_istore E1 (lv' := [(4, .int x4_3), (0, .ref o), (1, .int x1), (2, .int x2), (3, .int x3)]) dX7_spreads_104 (Nat.lt_of_lt_of_le (Nat.le_refl _) (Nat.le_of_ble_eq_true rfl)) rfl ?_
    refine ag_aload_n E1 dX7_spreads_106 rfl 1 rfl ?_
    refine am_geta E 39 (i := 25) (by decide) (by decide) rfl q1489 dX7_spreads_107 ?_
    refine ag_bipush E1 dX7_spreads_110 kb_6 ?_
    refine ag_iload_n E1 dX7_spreads_112 rfl 3 rfl ?_
    refine ag_imul E1 dX7_spreads_113 ?_
    refine ag_iload_n E1 dX7_spreads_114 rfl 4 rfl ?_
    refine ag_iadd E1 dX7_spreads_115 ?_
    refine ag_iload E1 dX7_spreads_116 0 rfl ?_
    refine ag_aload_n E1 dX7_spreads_118 rfl 1 rfl ?_
    refine am_geta E 39 (i := 25) (by decide) (by decide) rfl q1489 dX7_spreads_119 ?_
    refine ag_bipush E1 dX7_spreads_122 kb_6 ?_
    refine ag_iload_n E1 dX7_spreads_124 rfl 3 rfl ?_
    refine ag_imul E1 dX7_spreads_125 ?_
    refine ag_iload_n E1 dX7_spreads_126 rfl 4 rfl ?_
    refine ag_iadd E1 dX7_spreads_127 ?_
    obtain ⟨hin, h⟩ := h
    refine am_iald E 39 rfl rfl rfl (by decide) hin dX7_spreads_128 ?_
    refine ag_icmp_ge E1 (tgt := 137) dX7_spreads_129 (by decide) (fun c_129 => ?_) (fun c_129 => ?_)
    · have h := h.1 c_129
      refine ag_aload_n E1 dX7_spreads_137 rfl 1 rfl ?_
      refine am_geta E 39 (i := 25) (by decide) (by decide) rfl q1489 dX7_spreads_138 ?_
      refine ag_bipush E1 dX7_spreads_141 kb_6 ?_
      refine ag_iload_n E1 dX7_spreads_143 rfl 3 rfl ?_
      refine ag_imul E1 dX7_spreads_144 ?_
      refine ag_iload_n E1 dX7_spreads_145 rfl 4 rfl ?_
      refine ag_iadd E1 dX7_spreads_146 ?_
      obtain ⟨hin, h⟩ := h
      refine am_iald E 39 rfl rfl rfl (by decide) hin dX7_spreads_147 ?_
      refine ag_sub (lv' := [(0, .ref o), (1, .int x1), (2, .int x2), (3, .int x3)]) [1, 2, 3, 4] rfl ?_
      exact tbX7_spreads_148 E hK73 hK155 h
    · have h := h.2 c_129
      refine ag_iload E1 dX7_spreads_132 0 rfl ?_
      refine ag_goto E1 (tgt := 148) dX7_spreads_134 (by decide) ?_
      refine ag_sub (lv' := [(0, .ref o), (1, .int x1), (2, .int x2), (3, .int x3)]) [1, 2, 3, 4] rfl ?_
      exact tbX7_spreads_148 E hK73 hK155 h
theorem tlX7_spreads_73 (E : EM p R s m args meth c cX7_spreads 5 none D cs b H0 XK 0 0 z u) {Q : St → Prop} {K155 : Int32 → Int32 → St → Prop} (hK155 : ∀ (x1 : Int32) (x2 : Int32) (f : St), K155 x1 x2 f → AM p l e R s m args below meth c D cs b 5 o Z z u (pV Q) 155 [(0, .ref o), (1, .int x1), (2, .int x2)] [] f) : ∀ (n : Nat) (x1 : Int32) (x2 : Int32) (x3 : Int32) (f : St), wlX7_spreads_73 K155 Q n x1 x2 x3 f → AM p l e R s m args below meth c D cs b 5 o Z z u (pV Q) 73 [(0, .ref o), (1, .int x1), (2, .int x2), (3, .int x3)] [] f := by
  intro n
  induction n with
  | zero => intro _ _ _ _ h; exact h.elim
  | succ n ih => intro x1 x2 x3 f h; exact tbX7_spreads_73 E ih hK155 h
theorem tbX7_spreads_63 (E : EM p R s m args meth c cX7_spreads 5 none D cs b H0 XK 0 0 z u) {Q : St → Prop} {K63 : Int32 → Int32 → St → Prop} (hK63 : ∀ (x1 : Int32) (x2 : Int32) (f : St), K63 x1 x2 f → AM p l e R s m args below meth c D cs b 5 o Z z u (pV Q) 63 [(0, .ref o), (1, .int x1), (2, .int x2)] [] f) {K161 : Int32 → St → Prop} (hK161 : ∀ (x1 : Int32) (f : St), K161 x1 f → AM p l e R s m args below meth c D cs b 5 o Z z u (pV Q) 161 [(0, .ref o), (1, .int x1)] [] f) {x1 : Int32} {x2 : Int32} {f : St} (h : wbX7_spreads_63 K63 K161 Q x1 x2 f) : AM p l e R s m args below meth c D cs b 5 o Z z u (pV Q) 63 [(0, .ref o), (1, .int x1), (2, .int x2)] [] f := by
  have E1 := E.1
  refine ag_iload_n E1 dX7_spreads_63 rfl 2 rfl ?_
  refine ag_aload_n E1 dX7_spreads_64 rfl 0 rfl ?_
  refine am_geti E 0 (by decide) rfl q1450 dX7_spreads_65 ?_
  refine ag_icmp_ge E1 (tgt := 161) dX7_spreads_68 (by decide) (fun c_68 => ?_) (fun c_68 => ?_)
  · have h := h.1 c_68
    refine ag_sub (lv' := [(0, .ref o), (1, .int x1)]) [0, 1] rfl ?_
    exact hK161 _ _ h
  · have h := h.2 c_68
    refine ag_iconst E1 dX7_spreads_71 ki_0 ?_
    refine ag_istore_n E1 (lv' := [(3, .int (0 : Int32)), (0, .ref o), (1, .int x1), (2, .int x2)]) dX7_spreads_72 rfl (Nat.lt_of_lt_of_le (Nat.le_refl _) (Nat.le_of_ble_eq_true rfl)) rfl ?_
    refine ag_sub (lv' := [(0, .ref o), (1, .int x1), (2, .int x2), (3, .int (0 : Int32))]) [1, 2, 3, 0] rfl ?_
    obtain ⟨n, h⟩ := h
    refine tlX7_spreads_73 E ?_ n _ _ _ _ h
    · intro x1 x2 f h
      refine ag_iincN E1 (lv' := fun x2_6 => [(2, .int x2_6), (0, .ref o), (1, .int x1)]) dX7_spreads_155 2 rfl ki_1 (Nat.lt_of_lt_of_le (Nat.le_refl _) (Nat.le_of_ble_eq_true rfl)) (fun _ => rfl) (fun x2_6 e_x2_6 => ?_)
      have h := h x2_6 e_x2_6
      refine ag_goto E1 (tgt := 63) dX7_spreads_158 (by decide) ?_
      refine ag_sub (lv' := [(0, .ref o), (1, .int x1), (2, .int x2_6)]) [1, 2, 0] rfl ?_
      exact hK63 _ _ _ h
theorem tlX7_spreads_63 (E : EM p R s m args meth c cX7_spreads 5 none D cs b H0 XK 0 0 z u) {Q : St → Prop} {K161 : Int32 → St → Prop} (hK161 : ∀ (x1 : Int32) (f : St), K161 x1 f → AM p l e R s m args below meth c D cs b 5 o Z z u (pV Q) 161 [(0, .ref o), (1, .int x1)] [] f) : ∀ (n : Nat) (x1 : Int32) (x2 : Int32) (f : St), wlX7_spreads_63 K161 Q n x1 x2 f → AM p l e R s m args below meth c D cs b 5 o Z z u (pV Q) 63 [(0, .ref o), (1, .int x1), (2, .int x2)] [] f := by
  intro n
  induction n with
  | zero => intro _ _ _ h; exact h.elim
  | succ n ih => intro x1 x2 f h; exact tbX7_spreads_63 E ih hK161 h
theorem tbX7_spreads_53 (E : EM p R s m args meth c cX7_spreads 5 none D cs b H0 XK 0 0 z u) {Q : St → Prop} {K53 : Int32 → St → Prop} (hK53 : ∀ (x1 : Int32) (f : St), K53 x1 f → AM p l e R s m args below meth c D cs b 5 o Z z u (pV Q) 53 [(0, .ref o), (1, .int x1)] [] f) {x1 : Int32} {f : St} (h : wbX7_spreads_53 K53 Q x1 f) : AM p l e R s m args below meth c D cs b 5 o Z z u (pV Q) 53 [(0, .ref o), (1, .int x1)] [] f := by
  have E1 := E.1
  refine ag_iload_n E1 dX7_spreads_53 rfl 1 rfl ?_
  refine ag_aload_n E1 dX7_spreads_54 rfl 0 rfl ?_
  refine am_geti E 0 (by decide) rfl q1450 dX7_spreads_55 ?_
  refine ag_icmp_ge E1 (tgt := 167) dX7_spreads_58 (by decide) (fun c_58 => ?_) (fun c_58 => ?_)
  · have h := h.1 c_58
    exact am_vret E rfl ⟨rfl, h⟩ dX7_spreads_167
  · have h := h.2 c_58
    refine ag_iconst E1 dX7_spreads_61 ki_0 ?_
    refine ag_istore_n E1 (lv' := [(2, .int (0 : Int32)), (0, .ref o), (1, .int x1)]) dX7_spreads_62 rfl (Nat.lt_of_lt_of_le (Nat.le_refl _) (Nat.le_of_ble_eq_true rfl)) rfl ?_
    refine ag_sub (lv' := [(0, .ref o), (1, .int x1), (2, .int (0 : Int32))]) [1, 2, 0] rfl ?_
    obtain ⟨n, h⟩ := h
    refine tlX7_spreads_63 E ?_ n _ _ _ h
    · intro x1 f h
      refine ag_iincN E1 (lv' := fun x1_7 => [(1, .int x1_7), (0, .ref o)]) dX7_spreads_161 1 rfl ki_1 (Nat.lt_of_lt_of_le (Nat.le_refl _) (Nat.le_of_ble_eq_true rfl)) (fun _ => rfl) (fun x1_7 e_x1_7 => ?_)
      have h := h x1_7 e_x1_7
      refine ag_goto E1 (tgt := 53) dX7_spreads_164 (by decide) ?_
      refine ag_sub (lv' := [(0, .ref o), (1, .int x1_7)]) [1, 0] rfl ?_
      exact hK53 _ _ h
theorem tlX7_spreads_53 (E : EM p R s m args meth c cX7_spreads 5 none D cs b H0 XK 0 0 z u) {Q : St → Prop}  : ∀ (n : Nat) (x1 : Int32) (f : St), wlX7_spreads_53  Q n x1 f → AM p l e R s m args below meth c D cs b 5 o Z z u (pV Q) 53 [(0, .ref o), (1, .int x1)] [] f := by
  intro n
  induction n with
  | zero => intro _ _ h; exact h.elim
  | succ n ih => intro x1 f h; exact tbX7_spreads_53 E ih h
theorem kX7_spreads (l : Launch) (D : va_G) (cs : Nat → ClassId) (b : Nat) (H0 : Heap) (XK : State → Prop) (o : Nat) (Z : cP) (z u : Nat) (f : St)  (Q : St → Prop) (h : wX7_spreads f  Q) : CM l D cs b H0 XK o Z z u yX7_spreads cX7_spreads 5 none 0 0 [.ref o] f (pV Q) := by
  refine cm_of (by decide) rfl (Nat.le_of_ble_eq_true rfl) (fun p e R s m below meth c E => ?_)
  have E1 := E.1
  refine ag_sub (lv' := [(0, .ref o)]) [0] rfl ?_
  refine ag_iconst E1 dX7_spreads_0 ki_0 ?_
  refine ag_istore_n E1 (lv' := [(1, .int (0 : Int32)), (0, .ref o)]) dX7_spreads_1 rfl (Nat.lt_of_lt_of_le (Nat.le_refl _) (Nat.le_of_ble_eq_true rfl)) rfl ?_
  refine ag_sub (lv' := [(0, .ref o), (1, .int (0 : Int32))]) [1, 0] rfl ?_
  obtain ⟨n, h⟩ := h
  refine tlX7_spreads_2 E ?_ n _ _ h
  · intro f h
    refine ag_iconst E1 dX7_spreads_51 ki_0 ?_
    refine ag_istore_n E1 (lv' := [(1, .int (0 : Int32)), (0, .ref o)]) dX7_spreads_52 rfl (Nat.lt_of_lt_of_le (Nat.le_refl _) (Nat.le_of_ble_eq_true rfl)) rfl ?_
    refine ag_sub (lv' := [(0, .ref o), (1, .int (0 : Int32))]) [1, 0] rfl ?_
    obtain ⟨n, h⟩ := h
    exact tlX7_spreads_53 E  n _ _ h
theorem hdX7_spreads : yX7_spreads.cls = RX7 ∧ yX7_spreads.cls ≠ "java/lang/invoke/MethodHandle" ∧ yX7_spreads.cls ≠ "java/lang/invoke/VarHandle" ∧ (parseMethodDescriptor yX7_spreads.desc).map (fun d => d.parameters.length) = some 0 := by decide +kernel
theorem kX7_hours (l : Launch) (D : va_G) (cs : Nat → ClassId) (b : Nat) (H0 : Heap) (XK : State → Prop) (o : Nat) (Z : cP) (z u : Nat) (f : St) (x1 : Int32) (x2 : Int32) (Q : Int32 → St → Prop) (h : wX7_hours f x1 x2 Q) : CM l D cs b H0 XK o Z z u yX7_hours cX7_hours 3 (some .int) 2 43 [.ref o, .int x1, .int x2] f (pI Q) := by
  refine cm_of (by decide) rfl (Nat.le_of_ble_eq_true rfl) (fun p e R s m below meth c E => ?_)
  have E1 := E.1
  refine ag_sub (lv' := [(0, .ref o), (1, .int x1), (2, .int x2)]) [0, 1, 2] rfl ?_
  refine ag_aload_n E1 dX7_hours_0 rfl 0 rfl ?_
  refine ag_iload_n E1 dX7_hours_1 rfl 1 rfl ?_
  refine am_callVi E [.int x1] (kX7_isTown _ _ _ _ _ _ _ _ _ _ _ _ _ h) (lw_V q1632 q1634 qs46 q107 q1635) hdX7_isTown (Nat.le_of_ble_eq_true rfl) (Nat.le_of_ble_eq_true rfl) rfl (Nat.le_of_ble_eq_true rfl) dX7_hours_2 rfl (fun r_2 f_1 h => ?_)
  refine ag_if_eq E1 (tgt := 16) dX7_hours_5 (by decide) (fun c_5 => ?_) (fun c_5 => ?_)
  · have h := h.1 c_5
    refine ag_iconst E1 dX7_hours_16 ki_m1 ?_
    exact am_iret E rfl ⟨_, rfl, h⟩ dX7_hours_17
  · have h := h.2 c_5
    refine ag_aload_n E1 dX7_hours_8 rfl 0 rfl ?_
    refine ag_iload_n E1 dX7_hours_9 rfl 2 rfl ?_
    refine am_callVi E [.int x2] (kX7_isTown _ _ _ _ _ _ _ _ _ _ _ _ _ h) (lw_V q1632 q1634 qs46 q107 q1635) hdX7_isTown (Nat.le_of_ble_eq_true rfl) (Nat.le_of_ble_eq_true rfl) rfl (Nat.le_of_ble_eq_true rfl) dX7_hours_10 rfl (fun r_4 f_3 h => ?_)
    refine ag_if_ne E1 (tgt := 18) dX7_hours_13 (by decide) (fun c_13 => ?_) (fun c_13 => ?_)
    · have h := h.1 c_13
      refine ag_aload_n E1 dX7_hours_18 rfl 0 rfl ?_
      refine am_callVv E [] (kX7_spreads _ _ _ _ _ _ _ _ _ _ _  _ h) (lw_V q1640 q1642 qs47 q107 q1643) hdX7_spreads (Nat.le_of_ble_eq_true rfl) (Nat.le_of_ble_eq_true rfl) rfl (Nat.le_of_ble_eq_true rfl) dX7_hours_19 rfl (fun f_5 h => ?_)
      refine ag_aload_n E1 dX7_hours_22 rfl 0 rfl ?_
      refine am_geta E 39 (i := 25) (by decide) (by decide) rfl q1489 dX7_hours_23 ?_
      refine ag_bipush E1 dX7_hours_26 kb_6 ?_
      refine ag_iload_n E1 dX7_hours_28 rfl 1 rfl ?_
      refine ag_imul E1 dX7_hours_29 ?_
      refine ag_iload_n E1 dX7_hours_30 rfl 2 rfl ?_
      refine ag_iadd E1 dX7_hours_31 ?_
      obtain ⟨hin, h⟩ := h
      refine am_iald E 39 rfl rfl rfl (by decide) hin dX7_hours_32 ?_
      exact am_iret E rfl ⟨_, rfl, h⟩ dX7_hours_33
    · have h := h.2 c_13
      refine ag_iconst E1 dX7_hours_16 ki_m1 ?_
      exact am_iret E rfl ⟨_, rfl, h⟩ dX7_hours_17
theorem hdX7_hours : yX7_hours.cls = RX7 ∧ yX7_hours.cls ≠ "java/lang/invoke/MethodHandle" ∧ yX7_hours.cls ≠ "java/lang/invoke/VarHandle" ∧ (parseMethodDescriptor yX7_hours.desc).map (fun d => d.parameters.length) = some 2 := by decide +kernel
theorem kX7_week (l : Launch) (D : va_G) (cs : Nat → ClassId) (b : Nat) (H0 : Heap) (XK : State → Prop) (o : Nat) (Z : cP) (z u : Nat) (f : St) (x1 : Int32) (Q : Int32 → St → Prop) (h : wX7_week f x1 Q) : CM l D cs b H0 XK o Z z u yX7_week cX7_week 3 (some .int) 1 22 [.ref o, .int x1] f (pI Q) := by
  refine cm_of (by decide) rfl (Nat.le_of_ble_eq_true rfl) (fun p e R s m below meth c E => ?_)
  have E1 := E.1
  refine ag_sub (lv' := [(0, .ref o), (1, .int x1)]) [0, 1] rfl ?_
  refine ag_iload_n E1 dX7_week_0 rfl 1 rfl ?_
  refine ag_iconst E1 dX7_week_1 ki_2 ?_
  refine ag_bipush E1 dX7_week_2 kb_7 ?_
  refine am_callSi E [.int x1, .int (2 : Int32), .int (7 : Int32)] (kX7_in _ _ _ _ _ _ _ _ _ _ _ _ _ _ _ h) (lw_S q1625 q1626 q107 q1627) hdX7_in (Nat.le_of_ble_eq_true rfl) (Nat.le_of_ble_eq_true rfl) rfl (Nat.le_of_ble_eq_true rfl) dX7_week_4 rfl (fun r_2 f_1 h => ?_)
  refine ag_if_ne E1 (tgt := 13) dX7_week_7 (by decide) (fun c_7 => ?_) (fun c_7 => ?_)
  · have h := h.1 c_7
    refine ag_aload_n E1 dX7_week_13 rfl 0 rfl ?_
    refine am_geti E 6 (by decide) rfl q1456 dX7_week_14 ?_
    refine ag_topi (fun x2_3 e_x2_3 => ?_)
    have h := h x2_3 e_x2_3
    refine ag_istore_n E1 (lv' := [(2, .int x2_3), (0, .ref o), (1, .int x1)]) dX7_week_17 rfl (Nat.lt_of_lt_of_le (Nat.le_refl _) (Nat.le_of_ble_eq_true rfl)) rfl ?_
    refine ag_aload_n E1 dX7_week_18 rfl 1 rfl ?_
    refine ag_iload_n E1 dX7_week_19 rfl 2 rfl ?_
    refine am_puti E 6 (by decide) rfl q1456 rfl (ty := .int) (by decide +kernel) rfl rfl dX7_week_20 (fun f_4 e_f_4 => ?_)
    have h := h f_4 e_f_4
    refine ag_iload_n E1 dX7_week_23 rfl 0 rfl ?_
    exact am_iret E rfl ⟨_, rfl, h⟩ dX7_week_24
  · have h := h.2 c_7
    refine ag_bipush E1 dX7_week_10 kb_m2 ?_
    exact am_iret E rfl ⟨_, rfl, h⟩ dX7_week_12
theorem hdX7_week : yX7_week.cls = RX7 ∧ yX7_week.cls ≠ "java/lang/invoke/MethodHandle" ∧ yX7_week.cls ≠ "java/lang/invoke/VarHandle" ∧ (parseMethodDescriptor yX7_week.desc).map (fun d => d.parameters.length) = some 1 := by decide +kernel
theorem tbX7_want_112 (E : EM p R s m args meth c cX7_want 6 (some .int) D cs b H0 XK 2 43 z u) {Q : Int32 → St → Prop}  {x1 : Int32} {x2 : Int32} {x3 : Int32} {t0 : Int32} {f : St} (h : wbX7_want_112  Q x1 x2 x3 t0 f) : AM p l e R s m args below meth c D cs b 6 o Z z u (pI Q) 112 [(0, .ref o), (1, .int x1), (2, .int x2), (3, .int x3)] [.int t0] f := by
  have E1 := E.1
  refine ag_istore E1 (lv' := [(5, .int t0), (0, .ref o), (1, .int x1), (2, .int x2), (3, .int x3)]) dX7_want_112 (Nat.lt_of_lt_of_le (Nat.le_refl _) (Nat.le_of_ble_eq_true rfl)) rfl ?_
  refine ag_iload_n E1 dX7_want_114 rfl 3 rfl ?_
  refine ag_if_ne E1 (tgt := 128) dX7_want_115 (by decide) (fun c_115 => ?_) (fun c_115 => ?_)
  · have h := h.1 c_115
    refine ag_iload_n E1 dX7_want_128 rfl 3 rfl ?_
    refine ag_iconst E1 dX7_want_129 ki_1 ?_
    refine ag_icmp_ne E1 (tgt := 143) dX7_want_130 (by decide) (fun c_130 => ?_) (fun c_130 => ?_)
    · have h := h.1 c_130
      refine ag_aload_n E1 dX7_want_143 rfl 1 rfl ?_
      refine am_geta E 4 (i := 4) (by decide) (by decide) rfl q1454 dX7_want_144 ?_
      refine ag_iload_n E1 dX7_want_147 rfl 2 rfl ?_
      refine ag_iload_n E1 dX7_want_148 rfl 4 rfl ?_
      obtain ⟨hin, h⟩ := h
      refine am_iast E 4 rfl rfl rfl (by decide) hin dX7_want_149 (fun f_3 e_f_3 => ?_)
      have h := h f_3 e_f_3
      refine ag_iload E1 dX7_want_150 0 rfl ?_
      exact am_iret E rfl ⟨_, rfl, h⟩ dX7_want_152
    · have h := h.2 c_130
      refine ag_aload_n E1 dX7_want_133 rfl 1 rfl ?_
      refine am_geta E 3 (i := 3) (by decide) (by decide) rfl q1453 dX7_want_134 ?_
      refine ag_iload_n E1 dX7_want_137 rfl 2 rfl ?_
      refine ag_iload_n E1 dX7_want_138 rfl 4 rfl ?_
      obtain ⟨hin, h⟩ := h
      refine am_iast E 3 rfl rfl rfl (by decide) hin dX7_want_139 (fun f_4 e_f_4 => ?_)
      have h := h f_4 e_f_4
      refine ag_goto E1 (tgt := 150) dX7_want_140 (by decide) ?_
      refine ag_iload E1 dX7_want_150 0 rfl ?_
      exact am_iret E rfl ⟨_, rfl, h⟩ dX7_want_152
  · have h := h.2 c_115
    refine ag_aload_n E1 dX7_want_118 rfl 1 rfl ?_
    refine am_geta E 2 (i := 2) (by decide) (by decide) rfl q1452 dX7_want_119 ?_
    refine ag_iload_n E1 dX7_want_122 rfl 2 rfl ?_
    refine ag_iload_n E1 dX7_want_123 rfl 4 rfl ?_
    obtain ⟨hin, h⟩ := h
    refine am_iast E 2 rfl rfl rfl (by decide) hin dX7_want_124 (fun f_5 e_f_5 => ?_)
    have h := h f_5 e_f_5
    refine ag_goto E1 (tgt := 150) dX7_want_125 (by decide) ?_
    refine ag_iload E1 dX7_want_150 0 rfl ?_
    exact am_iret E rfl ⟨_, rfl, h⟩ dX7_want_152
theorem tbX7_want_69 (E : EM p R s m args meth c cX7_want 6 (some .int) D cs b H0 XK 2 43 z u) {Q : Int32 → St → Prop}  {x1 : Int32} {x2 : Int32} {x3 : Int32} {t0 : Int32} {f : St} (h : wbX7_want_69  Q x1 x2 x3 t0 f) : AM p l e R s m args below meth c D cs b 6 o Z z u (pI Q) 69 [(0, .ref o), (1, .int x1), (2, .int x2), (3, .int x3)] [.int t0] f := by
  have E1 := E.1
  refine ag_istore E1 (lv' := [(4, .int t0), (0, .ref o), (1, .int x1), (2, .int x2), (3, .int x3)]) dX7_want_69 (Nat.lt_of_lt_of_le (Nat.le_refl _) (Nat.le_of_ble_eq_true rfl)) rfl ?_
  refine ag_iload E1 dX7_want_71 0 rfl ?_
  refine ag_if_ne E1 (tgt := 79) dX7_want_73 (by decide) (fun c_73 => ?_) (fun c_73 => ?_)
  · have h := h.1 c_73
    refine ag_iload_n E1 dX7_want_79 rfl 3 rfl ?_
    refine ag_if_ne E1 (tgt := 92) dX7_want_80 (by decide) (fun c_80 => ?_) (fun c_80 => ?_)
    · have h := h.1 c_80
      refine ag_iload_n E1 dX7_want_92 rfl 3 rfl ?_
      refine ag_iconst E1 dX7_want_93 ki_1 ?_
      refine ag_icmp_ne E1 (tgt := 106) dX7_want_94 (by decide) (fun c_94 => ?_) (fun c_94 => ?_)
      · have h := h.1 c_94
        refine ag_aload_n E1 dX7_want_106 rfl 1 rfl ?_
        refine am_geta E 4 (i := 4) (by decide) (by decide) rfl q1454 dX7_want_107 ?_
        refine ag_iload_n E1 dX7_want_110 rfl 2 rfl ?_
        obtain ⟨hin, h⟩ := h
        refine am_iald E 4 rfl rfl rfl (by decide) hin dX7_want_111 ?_
        refine ag_sub (lv' := [(0, .ref o), (1, .int x1), (2, .int x2), (3, .int x3)]) [1, 2, 3, 4] rfl ?_
        exact tbX7_want_112 E  h
      · have h := h.2 c_94
        refine ag_aload_n E1 dX7_want_97 rfl 1 rfl ?_
        refine am_geta E 3 (i := 3) (by decide) (by decide) rfl q1453 dX7_want_98 ?_
        refine ag_iload_n E1 dX7_want_101 rfl 2 rfl ?_
        obtain ⟨hin, h⟩ := h
        refine am_iald E 3 rfl rfl rfl (by decide) hin dX7_want_102 ?_
        refine ag_goto E1 (tgt := 112) dX7_want_103 (by decide) ?_
        refine ag_sub (lv' := [(0, .ref o), (1, .int x1), (2, .int x2), (3, .int x3)]) [1, 2, 3, 4] rfl ?_
        exact tbX7_want_112 E  h
    · have h := h.2 c_80
      refine ag_aload_n E1 dX7_want_83 rfl 1 rfl ?_
      refine am_geta E 2 (i := 2) (by decide) (by decide) rfl q1452 dX7_want_84 ?_
      refine ag_iload_n E1 dX7_want_87 rfl 2 rfl ?_
      obtain ⟨hin, h⟩ := h
      refine am_iald E 2 rfl rfl rfl (by decide) hin dX7_want_88 ?_
      refine ag_goto E1 (tgt := 112) dX7_want_89 (by decide) ?_
      refine ag_sub (lv' := [(0, .ref o), (1, .int x1), (2, .int x2), (3, .int x3)]) [1, 2, 3, 4] rfl ?_
      exact tbX7_want_112 E  h
  · have h := h.2 c_73
    refine ag_bipush E1 dX7_want_76 kb_m7 ?_
    exact am_iret E rfl ⟨_, rfl, h⟩ dX7_want_78
theorem tbX7_want_68 (E : EM p R s m args meth c cX7_want 6 (some .int) D cs b H0 XK 2 43 z u) {Q : Int32 → St → Prop}  {x1 : Int32} {x2 : Int32} {x3 : Int32} {f : St} (h : wbX7_want_68  Q x1 x2 x3 f) : AM p l e R s m args below meth c D cs b 6 o Z z u (pI Q) 68 [(0, .ref o), (1, .int x1), (2, .int x2), (3, .int x3)] [] f := by
  have E1 := E.1
  refine ag_iconst E1 dX7_want_68 ki_0 ?_
  exact tbX7_want_69 E  h
theorem kX7_want (l : Launch) (D : va_G) (cs : Nat → ClassId) (b : Nat) (H0 : Heap) (XK : State → Prop) (o : Nat) (Z : cP) (z u : Nat) (f : St) (x1 : Int32) (x2 : Int32) (x3 : Int32) (Q : Int32 → St → Prop) (h : wX7_want f x1 x2 x3 Q) : CM l D cs b H0 XK o Z z u yX7_want cX7_want 6 (some .int) 2 43 [.ref o, .int x1, .int x2, .int x3] f (pI Q) := by
  refine cm_of (by decide) rfl (Nat.le_of_ble_eq_true rfl) (fun p e R s m below meth c E => ?_)
  have E1 := E.1
  refine ag_sub (lv' := [(0, .ref o), (1, .int x1), (2, .int x2), (3, .int x3)]) [0, 1, 2, 3] rfl ?_
  refine ag_aload_n E1 dX7_want_0 rfl 0 rfl ?_
  refine ag_iload_n E1 dX7_want_1 rfl 1 rfl ?_
  refine am_callVi E [.int x1] (kX7_isTown _ _ _ _ _ _ _ _ _ _ _ _ _ h) (lw_V q1632 q1634 qs46 q107 q1635) hdX7_isTown (Nat.le_of_ble_eq_true rfl) (Nat.le_of_ble_eq_true rfl) rfl (Nat.le_of_ble_eq_true rfl) dX7_want_2 rfl (fun r_2 f_1 h => ?_)
  refine ag_if_ne E1 (tgt := 11) dX7_want_5 (by decide) (fun c_5 => ?_) (fun c_5 => ?_)
  · have h := h.1 c_5
    refine ag_iload_n E1 dX7_want_11 rfl 2 rfl ?_
    refine ag_if_ne E1 (tgt := 25) dX7_want_12 (by decide) (fun c_12 => ?_) (fun c_12 => ?_)
    · have h := h.1 c_12
      refine ag_iload_n E1 dX7_want_25 rfl 2 rfl ?_
      refine ag_iconst E1 dX7_want_26 ki_1 ?_
      refine ag_icmp_ne E1 (tgt := 40) dX7_want_27 (by decide) (fun c_27 => ?_) (fun c_27 => ?_)
      · have h := h.1 c_27
        refine ag_iload_n E1 dX7_want_40 rfl 2 rfl ?_
        refine ag_iconst E1 dX7_want_41 ki_2 ?_
        refine ag_icmp_ne E1 (tgt := 68) dX7_want_42 (by decide) (fun c_42 => ?_) (fun c_42 => ?_)
        · have h := h.1 c_42
          exact tbX7_want_68 E  h
        · have h := h.2 c_42
          refine ag_iload_n E1 dX7_want_45 rfl 3 rfl ?_
          refine ag_iload_n E1 dX7_want_46 rfl 1 rfl ?_
          refine ag_icmp_eq E1 (tgt := 68) dX7_want_47 (by decide) (fun c_47 => ?_) (fun c_47 => ?_)
          · have h := h.1 c_47
            exact tbX7_want_68 E  h
          · have h := h.2 c_47
            refine ag_iload_n E1 dX7_want_50 rfl 3 rfl ?_
            refine ag_iconst E1 dX7_want_51 ki_m1 ?_
            refine ag_aload_n E1 dX7_want_52 rfl 0 rfl ?_
            refine am_geti E 0 (by decide) rfl q1450 dX7_want_53 ?_
            refine ag_iconst E1 dX7_want_56 ki_1 ?_
            refine ag_isub E1 dX7_want_57 ?_
            refine am_callSi E [.int x3, .int (-1 : Int32), .int ((f_1 99 0) - (1 : Int32))] (kX7_in _ _ _ _ _ _ _ _ _ _ _ _ _ _ _ h) (lw_S q1625 q1626 q107 q1627) hdX7_in (Nat.le_of_ble_eq_true rfl) (Nat.le_of_ble_eq_true rfl) rfl (Nat.le_of_ble_eq_true rfl) dX7_want_58 rfl (fun r_7 f_6 h => ?_)
            refine ag_if_eq E1 (tgt := 68) dX7_want_61 (by decide) (fun c_61 => ?_) (fun c_61 => ?_)
            · have h := h.1 c_61
              exact tbX7_want_68 E  h
            · have h := h.2 c_61
              refine ag_iconst E1 dX7_want_64 ki_1 ?_
              refine ag_goto E1 (tgt := 69) dX7_want_65 (by decide) ?_
              exact tbX7_want_69 E  h
      · have h := h.2 c_27
        refine ag_iload_n E1 dX7_want_30 rfl 3 rfl ?_
        refine ag_iconst E1 dX7_want_31 ki_m1 ?_
        refine ag_bipush E1 dX7_want_32 kb_6 ?_
        refine am_callSi E [.int x3, .int (-1 : Int32), .int (6 : Int32)] (kX7_in _ _ _ _ _ _ _ _ _ _ _ _ _ _ _ h) (lw_S q1625 q1626 q107 q1627) hdX7_in (Nat.le_of_ble_eq_true rfl) (Nat.le_of_ble_eq_true rfl) rfl (Nat.le_of_ble_eq_true rfl) dX7_want_34 rfl (fun r_9 f_8 h => ?_)
        refine ag_goto E1 (tgt := 69) dX7_want_37 (by decide) ?_
        exact tbX7_want_69 E  h
    · have h := h.2 c_12
      refine ag_iload_n E1 dX7_want_15 rfl 3 rfl ?_
      refine ag_iconst E1 dX7_want_16 ki_0 ?_
      refine ag_bipush E1 dX7_want_17 kb_127 ?_
      refine am_callSi E [.int x3, .int (0 : Int32), .int (127 : Int32)] (kX7_in _ _ _ _ _ _ _ _ _ _ _ _ _ _ _ h) (lw_S q1625 q1626 q107 q1627) hdX7_in (Nat.le_of_ble_eq_true rfl) (Nat.le_of_ble_eq_true rfl) rfl (Nat.le_of_ble_eq_true rfl) dX7_want_19 rfl (fun r_11 f_10 h => ?_)
      refine ag_goto E1 (tgt := 69) dX7_want_22 (by decide) ?_
      exact tbX7_want_69 E  h
  · have h := h.2 c_5
    refine ag_bipush E1 dX7_want_8 kb_m5 ?_
    exact am_iret E rfl ⟨_, rfl, h⟩ dX7_want_10
theorem hdX7_want : yX7_want.cls = RX7 ∧ yX7_want.cls ≠ "java/lang/invoke/MethodHandle" ∧ yX7_want.cls ≠ "java/lang/invoke/VarHandle" ∧ (parseMethodDescriptor yX7_want.desc).map (fun d => d.parameters.length) = some 3 := by decide +kernel
theorem kX7_townTold (l : Launch) (D : va_G) (cs : Nat → ClassId) (b : Nat) (H0 : Heap) (XK : State → Prop) (o : Nat) (Z : cP) (z u : Nat) (f : St) (x1 : Int32) (x2 : Int32) (Q : Int32 → St → Prop) (h : wX7_townTold f x1 x2 Q) : CM l D cs b H0 XK o Z z u yX7_townTold cX7_townTold 3 (some .int) 2 43 [.ref o, .int x1, .int x2] f (pI Q) := by
  refine cm_of (by decide) rfl (Nat.le_of_ble_eq_true rfl) (fun p e R s m below meth c E => ?_)
  have E1 := E.1
  refine ag_sub (lv' := [(0, .ref o), (1, .int x1), (2, .int x2)]) [0, 1, 2] rfl ?_
  refine ag_aload_n E1 dX7_townTold_0 rfl 0 rfl ?_
  refine ag_iload_n E1 dX7_townTold_1 rfl 1 rfl ?_
  refine am_callVi E [.int x1] (kX7_isTown _ _ _ _ _ _ _ _ _ _ _ _ _ h) (lw_V q1632 q1634 qs46 q107 q1635) hdX7_isTown (Nat.le_of_ble_eq_true rfl) (Nat.le_of_ble_eq_true rfl) rfl (Nat.le_of_ble_eq_true rfl) dX7_townTold_2 rfl (fun r_2 f_1 h => ?_)
  refine ag_if_ne E1 (tgt := 11) dX7_townTold_5 (by decide) (fun c_5 => ?_) (fun c_5 => ?_)
  · have h := h.1 c_5
    refine ag_iload_n E1 dX7_townTold_11 rfl 2 rfl ?_
    refine ag_if_ne E1 (tgt := 24) dX7_townTold_12 (by decide) (fun c_12 => ?_) (fun c_12 => ?_)
    · have h := h.1 c_12
      refine ag_iload_n E1 dX7_townTold_24 rfl 2 rfl ?_
      refine ag_iconst E1 dX7_townTold_25 ki_1 ?_
      refine ag_icmp_ne E1 (tgt := 38) dX7_townTold_26 (by decide) (fun c_26 => ?_) (fun c_26 => ?_)
      · have h := h.1 c_26
        refine ag_iload_n E1 dX7_townTold_38 rfl 2 rfl ?_
        refine ag_iconst E1 dX7_townTold_39 ki_2 ?_
        refine ag_icmp_ne E1 (tgt := 52) dX7_townTold_40 (by decide) (fun c_40 => ?_) (fun c_40 => ?_)
        · have h := h.1 c_40
          refine ag_iload_n E1 dX7_townTold_52 rfl 2 rfl ?_
          refine ag_iconst E1 dX7_townTold_53 ki_3 ?_
          refine ag_icmp_ne E1 (tgt := 66) dX7_townTold_54 (by decide) (fun c_54 => ?_) (fun c_54 => ?_)
          · have h := h.1 c_54
            refine ag_bipush E1 dX7_townTold_66 kb_m7 ?_
            exact am_iret E rfl ⟨_, rfl, h⟩ dX7_townTold_68
          · have h := h.2 c_54
            refine ag_aload_n E1 dX7_townTold_57 rfl 0 rfl ?_
            refine am_geta E 4 (i := 4) (by decide) (by decide) rfl q1454 dX7_townTold_58 ?_
            refine ag_iload_n E1 dX7_townTold_61 rfl 1 rfl ?_
            obtain ⟨hin, h⟩ := h
            refine am_iald E 4 rfl rfl rfl (by decide) hin dX7_townTold_62 ?_
            refine ag_goto E1 (tgt := 68) dX7_townTold_63 (by decide) ?_
            exact am_iret E rfl ⟨_, rfl, h⟩ dX7_townTold_68
        · have h := h.2 c_40
          refine ag_aload_n E1 dX7_townTold_43 rfl 0 rfl ?_
          refine am_geta E 3 (i := 3) (by decide) (by decide) rfl q1453 dX7_townTold_44 ?_
          refine ag_iload_n E1 dX7_townTold_47 rfl 1 rfl ?_
          obtain ⟨hin, h⟩ := h
          refine am_iald E 3 rfl rfl rfl (by decide) hin dX7_townTold_48 ?_
          refine ag_goto E1 (tgt := 68) dX7_townTold_49 (by decide) ?_
          exact am_iret E rfl ⟨_, rfl, h⟩ dX7_townTold_68
      · have h := h.2 c_26
        refine ag_aload_n E1 dX7_townTold_29 rfl 0 rfl ?_
        refine am_geta E 2 (i := 2) (by decide) (by decide) rfl q1452 dX7_townTold_30 ?_
        refine ag_iload_n E1 dX7_townTold_33 rfl 1 rfl ?_
        obtain ⟨hin, h⟩ := h
        refine am_iald E 2 rfl rfl rfl (by decide) hin dX7_townTold_34 ?_
        refine ag_goto E1 (tgt := 68) dX7_townTold_35 (by decide) ?_
        exact am_iret E rfl ⟨_, rfl, h⟩ dX7_townTold_68
    · have h := h.2 c_12
      refine ag_aload_n E1 dX7_townTold_15 rfl 0 rfl ?_
      refine am_geta E 1 (i := 1) (by decide) (by decide) rfl q1451 dX7_townTold_16 ?_
      refine ag_iload_n E1 dX7_townTold_19 rfl 1 rfl ?_
      obtain ⟨hin, h⟩ := h
      refine am_iald E 1 rfl rfl rfl (by decide) hin dX7_townTold_20 ?_
      refine ag_goto E1 (tgt := 68) dX7_townTold_21 (by decide) ?_
      exact am_iret E rfl ⟨_, rfl, h⟩ dX7_townTold_68
  · have h := h.2 c_5
    refine ag_bipush E1 dX7_townTold_8 kb_m5 ?_
    exact am_iret E rfl ⟨_, rfl, h⟩ dX7_townTold_10
theorem hdX7_townTold : yX7_townTold.cls = RX7 ∧ yX7_townTold.cls ≠ "java/lang/invoke/MethodHandle" ∧ yX7_townTold.cls ≠ "java/lang/invoke/VarHandle" ∧ (parseMethodDescriptor yX7_townTold.desc).map (fun d => d.parameters.length) = some 2 := by decide +kernel
theorem kX7_isWeek (l : Launch) (D : va_G) (cs : Nat → ClassId) (b : Nat) (H0 : Heap) (XK : State → Prop) (o : Nat) (Z : cP) (z u : Nat) (f : St) (x0 : Int32) (Q : Int32 → St → Prop) (h : wX7_isWeek f x0 Q) : CM l D cs b H0 XK o Z z u yX7_isWeek cX7_isWeek 1 (some .boolean) 1 22 [.int x0] f (pI Q) := by
  refine cm_of (by decide) rfl (Nat.le_of_ble_eq_true rfl) (fun p e R s m below meth c E => ?_)
  have E1 := E.1
  refine ag_sub (lv' := [(0, .int x0)]) [0] rfl ?_
  refine ag_iload_n E1 dX7_isWeek_0 rfl 0 rfl ?_
  refine ag_iconst E1 dX7_isWeek_1 ki_0 ?_
  refine ag_bipush E1 dX7_isWeek_2 kb_99 ?_
  refine am_callSi E [.int x0, .int (0 : Int32), .int (99 : Int32)] (kX7_in _ _ _ _ _ _ _ _ _ _ _ _ _ _ _ h) (lw_S q1625 q1626 q107 q1627) hdX7_in (Nat.le_of_ble_eq_true rfl) (Nat.le_of_ble_eq_true rfl) rfl (Nat.le_of_ble_eq_true rfl) dX7_isWeek_4 rfl (fun r_2 f_1 h => ?_)
  exact am_zret E rfl h.1 ⟨_, rfl, h.2⟩ dX7_isWeek_7
theorem hdX7_isWeek : yX7_isWeek.cls ≠ "java/lang/invoke/MethodHandle" ∧ yX7_isWeek.cls ≠ "java/lang/invoke/VarHandle" ∧ (parseMethodDescriptor yX7_isWeek.desc).map (fun d => d.parameters.length) = some 1 := by decide +kernel
theorem kX7_feast (l : Launch) (D : va_G) (cs : Nat → ClassId) (b : Nat) (H0 : Heap) (XK : State → Prop) (o : Nat) (Z : cP) (z u : Nat) (f : St) (x1 : Int32) (x2 : Int32) (Q : Int32 → St → Prop) (h : wX7_feast f x1 x2 Q) : CM l D cs b H0 XK o Z z u yX7_feast cX7_feast 3 (some .int) 2 42 [.ref o, .int x1, .int x2] f (pI Q) := by
  refine cm_of (by decide) rfl (Nat.le_of_ble_eq_true rfl) (fun p e R s m below meth c E => ?_)
  have E1 := E.1
  refine ag_sub (lv' := [(0, .ref o), (1, .int x1), (2, .int x2)]) [0, 1, 2] rfl ?_
  refine ag_iload_n E1 dX7_feast_0 rfl 1 rfl ?_
  refine am_callSi E [.int x1] (kX7_isWeek _ _ _ _ _ _ _ _ _ _ _ _ _ h) (lw_S q1660 q1661 q107 q1662) hdX7_isWeek (Nat.le_of_ble_eq_true rfl) (Nat.le_of_ble_eq_true rfl) rfl (Nat.le_of_ble_eq_true rfl) dX7_feast_1 rfl (fun r_2 f_1 h => ?_)
  refine ag_if_eq E1 (tgt := 17) dX7_feast_4 (by decide) (fun c_4 => ?_) (fun c_4 => ?_)
  · have h := h.1 c_4
    refine ag_bipush E1 dX7_feast_17 kb_m2 ?_
    exact am_iret E rfl ⟨_, rfl, h⟩ dX7_feast_19
  · have h := h.2 c_4
    refine ag_iload_n E1 dX7_feast_7 rfl 2 rfl ?_
    refine ag_iconst E1 dX7_feast_8 ki_0 ?_
    refine ag_bipush E1 dX7_feast_9 kb_6 ?_
    refine am_callSi E [.int x2, .int (0 : Int32), .int (6 : Int32)] (kX7_in _ _ _ _ _ _ _ _ _ _ _ _ _ _ _ h) (lw_S q1625 q1626 q107 q1627) hdX7_in (Nat.le_of_ble_eq_true rfl) (Nat.le_of_ble_eq_true rfl) rfl (Nat.le_of_ble_eq_true rfl) dX7_feast_11 rfl (fun r_4 f_3 h => ?_)
    refine ag_if_ne E1 (tgt := 20) dX7_feast_14 (by decide) (fun c_14 => ?_) (fun c_14 => ?_)
    · have h := h.1 c_14
      refine ag_aload_n E1 dX7_feast_20 rfl 0 rfl ?_
      refine am_geti E 7 (by decide) rfl q1457 dX7_feast_21 ?_
      refine ag_bipush E1 dX7_feast_24 kb_10 ?_
      refine ag_icmp_ne E1 (tgt := 32) dX7_feast_26 (by decide) (fun c_26 => ?_) (fun c_26 => ?_)
      · have h := h.1 c_26
        refine ag_aload_n E1 dX7_feast_32 rfl 0 rfl ?_
        refine am_geta E 8 (i := 6) (by decide) (by decide) rfl q1458 dX7_feast_33 ?_
        refine ag_aload_n E1 dX7_feast_36 rfl 0 rfl ?_
        refine am_geti E 7 (by decide) rfl q1457 dX7_feast_37 ?_
        refine ag_iload_n E1 dX7_feast_40 rfl 1 rfl ?_
        obtain ⟨hin, h⟩ := h
        refine am_iast E 8 rfl rfl rfl (by decide) hin dX7_feast_41 (fun f_5 e_f_5 => ?_)
        have h := h f_5 e_f_5
        refine ag_aload_n E1 dX7_feast_42 rfl 0 rfl ?_
        refine am_geta E 9 (i := 7) (by decide) (by decide) rfl q1459 dX7_feast_43 ?_
        refine ag_aload_n E1 dX7_feast_46 rfl 0 rfl ?_
        refine am_geti E 7 (by decide) rfl q1457 dX7_feast_47 ?_
        refine ag_iload_n E1 dX7_feast_50 rfl 2 rfl ?_
        obtain ⟨hin, h⟩ := h
        refine am_iast E 9 rfl rfl rfl (by decide) hin dX7_feast_51 (fun f_6 e_f_6 => ?_)
        have h := h f_6 e_f_6
        refine ag_aload_n E1 dX7_feast_52 rfl 0 rfl ?_
        refine ag_dup E1 dX7_feast_53 rfl ?_
        refine am_geti E 7 (by decide) rfl q1457 dX7_feast_54 ?_
        refine ag_iconst E1 dX7_feast_57 ki_1 ?_
        refine ag_iadd E1 dX7_feast_58 ?_
        refine am_puti E 7 (by decide) rfl q1457 rfl (ty := .int) (by decide +kernel) rfl rfl dX7_feast_59 (fun f_7 e_f_7 => ?_)
        have h := h f_7 e_f_7
        refine ag_aload_n E1 dX7_feast_62 rfl 0 rfl ?_
        refine am_geti E 7 (by decide) rfl q1457 dX7_feast_63 ?_
        exact am_iret E rfl ⟨_, rfl, h⟩ dX7_feast_66
      · have h := h.2 c_26
        refine ag_bipush E1 dX7_feast_29 kb_m4 ?_
        exact am_iret E rfl ⟨_, rfl, h⟩ dX7_feast_31
    · have h := h.2 c_14
      refine ag_bipush E1 dX7_feast_17 kb_m2 ?_
      exact am_iret E rfl ⟨_, rfl, h⟩ dX7_feast_19
theorem hdX7_feast : yX7_feast.cls = RX7 ∧ yX7_feast.cls ≠ "java/lang/invoke/MethodHandle" ∧ yX7_feast.cls ≠ "java/lang/invoke/VarHandle" ∧ (parseMethodDescriptor yX7_feast.desc).map (fun d => d.parameters.length) = some 2 := by decide +kernel
theorem tbX7_feed_33 (E : EM p R s m args meth c cX7_feed 5 (some .int) D cs b H0 XK 1 22 z u) {Q : Int32 → St → Prop} {K33 : Int64 → Int32 → St → Prop} (hK33 : ∀ (x1 : Int64) (x4 : Int32) (f : St), K33 x1 x4 f → AM p l e R s m args below meth c D cs b 5 o Z z u (pI Q) 33 [(0, .ref o), (1, .long x1), (4, .int x4)] [] f) {x1 : Int64} {x4 : Int32} {f : St} (h : wbX7_feed_33 K33 Q x1 x4 f) : AM p l e R s m args below meth c D cs b 5 o Z z u (pI Q) 33 [(0, .ref o), (1, .long x1), (4, .int x4)] [] f := by
  have E1 := E.1
  refine ag_iload E1 dX7_feed_33 2 rfl ?_
  refine ag_if_lt E1 (tgt := 75) dX7_feed_35 (by decide) (fun c_35 => ?_) (fun c_35 => ?_)
  · have h := h.1 c_35
    refine ag_aload_n E1 dX7_feed_75 rfl 0 rfl ?_
    refine am_geti E 11 (by decide) rfl q1461 dX7_feed_76 ?_
    exact am_iret E rfl ⟨_, rfl, h⟩ dX7_feed_79
  · have h := h.2 c_35
    refine ag_aload_n E1 dX7_feed_38 rfl 0 rfl ?_
    refine am_geta E 10 (i := 8) (by decide) (by decide) rfl q1460 dX7_feed_39 ?_
    refine ag_aload_n E1 dX7_feed_42 rfl 0 rfl ?_
    refine am_geti E 11 (by decide) rfl q1461 dX7_feed_43 ?_
    refine ag_lload_n E1 dX7_feed_46 rfl 1 rfl ?_
    refine ag_bipush E1 dX7_feed_47 kb_8 ?_
    refine ag_iload E1 dX7_feed_49 2 rfl ?_
    refine ag_imul E1 dX7_feed_51 ?_
    refine ag_lshr E1 dX7_feed_52 ?_
    refine ag_ldc2 E1 q1667 dX7_feed_53 ?_
    refine ag_land E1 dX7_feed_56 ?_
    refine ag_l2i E1 dX7_feed_57 ?_
    obtain ⟨hin, h⟩ := h
    refine am_iast E 10 rfl rfl rfl (by decide) hin dX7_feed_58 (fun f_4 e_f_4 => ?_)
    have h := h f_4 e_f_4
    refine ag_aload_n E1 dX7_feed_59 rfl 0 rfl ?_
    refine ag_dup E1 dX7_feed_60 rfl ?_
    refine am_geti E 11 (by decide) rfl q1461 dX7_feed_61 ?_
    refine ag_iconst E1 dX7_feed_64 ki_1 ?_
    refine ag_iadd E1 dX7_feed_65 ?_
    refine am_puti E 11 (by decide) rfl q1461 rfl (ty := .int) (by decide +kernel) rfl rfl dX7_feed_66 (fun f_5 e_f_5 => ?_)
    have h := h f_5 e_f_5
    refine ag_iincN E1 (lv' := fun x4_6 => [(4, .int x4_6), (0, .ref o), (1, .long x1)]) dX7_feed_69 2 rfl ki_m1 (Nat.lt_of_lt_of_le (Nat.le_refl _) (Nat.le_of_ble_eq_true rfl)) (fun _ => rfl) (fun x4_6 e_x4_6 => ?_)
    have h := h x4_6 e_x4_6
    refine ag_goto E1 (tgt := 33) dX7_feed_72 (by decide) ?_
    refine ag_sub (lv' := [(0, .ref o), (1, .long x1), (4, .int x4_6)]) [1, 2, 0] rfl ?_
    exact hK33 _ _ _ h
theorem tlX7_feed_33 (E : EM p R s m args meth c cX7_feed 5 (some .int) D cs b H0 XK 1 22 z u) {Q : Int32 → St → Prop}  : ∀ (n : Nat) (x1 : Int64) (x4 : Int32) (f : St), wlX7_feed_33  Q n x1 x4 f → AM p l e R s m args below meth c D cs b 5 o Z z u (pI Q) 33 [(0, .ref o), (1, .long x1), (4, .int x4)] [] f := by
  intro n
  induction n with
  | zero => intro _ _ _ h; exact h.elim
  | succ n ih => intro x1 x4 f h; exact tbX7_feed_33 E ih h
theorem kX7_feed (l : Launch) (D : va_G) (cs : Nat → ClassId) (b : Nat) (H0 : Heap) (XK : State → Prop) (o : Nat) (Z : cP) (z u : Nat) (f : St) (x1 : Int64) (x3 : Int32) (Q : Int32 → St → Prop) (h : wX7_feed f x1 x3 Q) : CM l D cs b H0 XK o Z z u yX7_feed cX7_feed 5 (some .int) 1 22 [.ref o, .long x1, .int x3] f (pI Q) := by
  refine cm_of (by decide) rfl (Nat.le_of_ble_eq_true rfl) (fun p e R s m below meth c E => ?_)
  have E1 := E.1
  refine ag_sub (lv' := [(0, .ref o), (1, .long x1), (3, .int x3)]) [0, 1, 2] rfl ?_
  refine ag_iload_n E1 dX7_feed_0 rfl 2 rfl ?_
  refine ag_iconst E1 dX7_feed_1 ki_1 ?_
  refine ag_bipush E1 dX7_feed_2 kb_8 ?_
  refine am_callSi E [.int x3, .int (1 : Int32), .int (8 : Int32)] (kX7_in _ _ _ _ _ _ _ _ _ _ _ _ _ _ _ h) (lw_S q1625 q1626 q107 q1627) hdX7_in (Nat.le_of_ble_eq_true rfl) (Nat.le_of_ble_eq_true rfl) rfl (Nat.le_of_ble_eq_true rfl) dX7_feed_4 rfl (fun r_2 f_1 h => ?_)
  refine ag_if_ne E1 (tgt := 13) dX7_feed_7 (by decide) (fun c_7 => ?_) (fun c_7 => ?_)
  · have h := h.1 c_7
    refine ag_aload_n E1 dX7_feed_13 rfl 0 rfl ?_
    refine am_geti E 11 (by decide) rfl q1461 dX7_feed_14 ?_
    refine ag_iload_n E1 dX7_feed_17 rfl 2 rfl ?_
    refine ag_iadd E1 dX7_feed_18 ?_
    refine ag_sipush E1 dX7_feed_19 ks_160 ?_
    refine ag_icmp_le E1 (tgt := 28) dX7_feed_22 (by decide) (fun c_22 => ?_) (fun c_22 => ?_)
    · have h := h.1 c_22
      refine ag_iload_n E1 dX7_feed_28 rfl 2 rfl ?_
      refine ag_iconst E1 dX7_feed_29 ki_1 ?_
      refine ag_isub E1 dX7_feed_30 ?_
      refine ag_topi (fun x4_3 e_x4_3 => ?_)
      have h := h x4_3 e_x4_3
      refine ag_istore E1 (lv' := [(4, .int x4_3), (0, .ref o), (1, .long x1), (3, .int x3)]) dX7_feed_31 (Nat.lt_of_lt_of_le (Nat.le_refl _) (Nat.le_of_ble_eq_true rfl)) rfl ?_
      refine ag_sub (lv' := [(0, .ref o), (1, .long x1), (4, .int x4_3)]) [1, 2, 0] rfl ?_
      obtain ⟨n, h⟩ := h
      exact tlX7_feed_33 E  n _ _ _ h
    · have h := h.2 c_22
      refine ag_bipush E1 dX7_feed_25 kb_m4 ?_
      exact am_iret E rfl ⟨_, rfl, h⟩ dX7_feed_27
  · have h := h.2 c_7
    refine ag_bipush E1 dX7_feed_10 kb_m2 ?_
    exact am_iret E rfl ⟨_, rfl, h⟩ dX7_feed_12
theorem hdX7_feed : yX7_feed.cls = RX7 ∧ yX7_feed.cls ≠ "java/lang/invoke/MethodHandle" ∧ yX7_feed.cls ≠ "java/lang/invoke/VarHandle" ∧ (parseMethodDescriptor yX7_feed.desc).map (fun d => d.parameters.length) = some 2 := by decide +kernel
theorem tbX7_letters_59 (E : EM p R s m args meth c cX7_letters 4 (some .long) D cs b H0 XK 1 22 z u) {Q : Int64 → St → Prop} {K4 : Int64 → Int32 → St → Prop} (hK4 : ∀ (x1 : Int64) (x3 : Int32) (f : St), K4 x1 x3 f → AM p l e R s m args below meth c D cs b 4 o Z z u (pJ Q) 4 [(0, .ref o), (1, .long x1), (3, .int x3)] [] f) {K76 : Int64 → Int32 → St → Prop} (hK76 : ∀ (x1 : Int64) (x3 : Int32) (f : St), K76 x1 x3 f → AM p l e R s m args below meth c D cs b 4 o Z z u (pJ Q) 76 [(1, .long x1), (3, .int x3)] [] f) {x3 : Int32} {t0 : Int64} {f : St} (h : wbX7_letters_59 K4 K76 Q x3 t0 f) : AM p l e R s m args below meth c D cs b 4 o Z z u (pJ Q) 59 [(0, .ref o), (3, .int x3)] [.long t0] f := by
  have E1 := E.1
  refine ag_lstore_n E1 (lv' := [(1, .long t0), (0, .ref o), (3, .int x3)]) dX7_letters_59 rfl (Nat.lt_of_lt_of_le (Nat.le_refl _) (Nat.le_of_ble_eq_true rfl)) rfl ?_
  refine ag_iincN E1 (lv' := fun x3_3 => [(3, .int x3_3), (1, .long t0), (0, .ref o)]) dX7_letters_60 2 rfl ki_1 (Nat.lt_of_lt_of_le (Nat.le_refl _) (Nat.le_of_ble_eq_true rfl)) (fun _ => rfl) (fun x3_3 e_x3_3 => ?_)
  have h := h x3_3 e_x3_3
  refine ag_aload_n E1 dX7_letters_63 rfl 2 rfl ?_
  refine ag_dup E1 dX7_letters_64 rfl ?_
  refine am_geti E 40 (by decide) rfl q1490 dX7_letters_65 ?_
  refine ag_iconst E1 dX7_letters_68 ki_1 ?_
  refine ag_iadd E1 dX7_letters_69 ?_
  refine am_puti E 40 (by decide) rfl q1490 rfl (ty := .int) (by decide +kernel) rfl rfl dX7_letters_70 (fun f_4 e_f_4 => ?_)
  have h := h f_4 e_f_4
  refine ag_goto E1 (tgt := 4) dX7_letters_73 (by decide) ?_
  refine ag_sub (lv' := [(0, .ref o), (1, .long t0), (3, .int x3_3)]) [2, 1, 0] rfl ?_
  exact hK4 _ _ _ h
theorem tbX7_letters_4 (E : EM p R s m args meth c cX7_letters 4 (some .long) D cs b H0 XK 1 22 z u) {Q : Int64 → St → Prop} {K4 : Int64 → Int32 → St → Prop} (hK4 : ∀ (x1 : Int64) (x3 : Int32) (f : St), K4 x1 x3 f → AM p l e R s m args below meth c D cs b 4 o Z z u (pJ Q) 4 [(0, .ref o), (1, .long x1), (3, .int x3)] [] f) {K76 : Int64 → Int32 → St → Prop} (hK76 : ∀ (x1 : Int64) (x3 : Int32) (f : St), K76 x1 x3 f → AM p l e R s m args below meth c D cs b 4 o Z z u (pJ Q) 76 [(1, .long x1), (3, .int x3)] [] f) {x1 : Int64} {x3 : Int32} {f : St} (h : wbX7_letters_4 K4 K76 Q x1 x3 f) : AM p l e R s m args below meth c D cs b 4 o Z z u (pJ Q) 4 [(0, .ref o), (1, .long x1), (3, .int x3)] [] f := by
  have E1 := E.1
  refine ag_aload_n E1 dX7_letters_4 rfl 0 rfl ?_
  refine am_geti E 40 (by decide) rfl q1490 dX7_letters_5 ?_
  refine ag_aload_n E1 dX7_letters_8 rfl 0 rfl ?_
  refine am_geti E 11 (by decide) rfl q1461 dX7_letters_9 ?_
  refine ag_icmp_ge E1 (tgt := 76) dX7_letters_12 (by decide) (fun c_12 => ?_) (fun c_12 => ?_)
  · have h := h.1 c_12
    refine ag_sub (lv' := [(1, .long x1), (3, .int x3)]) [1, 2] rfl ?_
    exact hK76 _ _ _ h
  · have h := h.2 c_12
    refine ag_aload_n E1 dX7_letters_15 rfl 0 rfl ?_
    refine am_geta E 10 (i := 8) (by decide) (by decide) rfl q1460 dX7_letters_16 ?_
    refine ag_aload_n E1 dX7_letters_19 rfl 0 rfl ?_
    refine am_geti E 40 (by decide) rfl q1490 dX7_letters_20 ?_
    obtain ⟨hin, h⟩ := h
    refine am_iald E 10 rfl rfl rfl (by decide) hin dX7_letters_23 ?_
    refine ag_bipush E1 dX7_letters_24 kb_97 ?_
    refine ag_bipush E1 dX7_letters_26 kb_122 ?_
    refine am_callSi E [.int (f 10 (Int32.toNatClampNeg (f 99 40))), .int (97 : Int32), .int (122 : Int32)] (kX7_in _ _ _ _ _ _ _ _ _ _ _ _ _ _ _ h) (lw_S q1625 q1626 q107 q1627) hdX7_in (Nat.le_of_ble_eq_true rfl) (Nat.le_of_ble_eq_true rfl) rfl (Nat.le_of_ble_eq_true rfl) dX7_letters_28 rfl (fun r_2 f_1 h => ?_)
    refine ag_if_eq E1 (tgt := 76) dX7_letters_31 (by decide) (fun c_31 => ?_) (fun c_31 => ?_)
    · have h := h.1 c_31
      refine ag_sub (lv' := [(1, .long x1), (3, .int x3)]) [1, 2] rfl ?_
      exact hK76 _ _ _ h
    · have h := h.2 c_31
      refine ag_iload_n E1 dX7_letters_34 rfl 2 rfl ?_
      refine ag_bipush E1 dX7_letters_35 kb_8 ?_
      refine ag_icmp_ge E1 (tgt := 58) dX7_letters_37 (by decide) (fun c_37 => ?_) (fun c_37 => ?_)
      · have h := h.1 c_37
        refine ag_lload_n E1 dX7_letters_58 rfl 1 rfl ?_
        refine ag_sub (lv' := [(0, .ref o), (3, .int x3)]) [0, 2] rfl ?_
        exact tbX7_letters_59 E hK4 hK76 h
      · have h := h.2 c_37
        refine ag_lload_n E1 dX7_letters_40 rfl 1 rfl ?_
        refine ag_bipush E1 dX7_letters_41 kb_8 ?_
        refine ag_lshl E1 dX7_letters_43 ?_
        refine ag_aload_n E1 dX7_letters_44 rfl 0 rfl ?_
        refine am_geta E 10 (i := 8) (by decide) (by decide) rfl q1460 dX7_letters_45 ?_
        refine ag_aload_n E1 dX7_letters_48 rfl 0 rfl ?_
        refine am_geti E 40 (by decide) rfl q1490 dX7_letters_49 ?_
        obtain ⟨hin, h⟩ := h
        refine am_iald E 10 rfl rfl rfl (by decide) hin dX7_letters_52 ?_
        refine ag_i2l E1 dX7_letters_53 ?_
        refine ag_lor E1 dX7_letters_54 ?_
        refine ag_goto E1 (tgt := 59) dX7_letters_55 (by decide) ?_
        refine ag_sub (lv' := [(0, .ref o), (3, .int x3)]) [0, 2] rfl ?_
        exact tbX7_letters_59 E hK4 hK76 h
theorem tlX7_letters_4 (E : EM p R s m args meth c cX7_letters 4 (some .long) D cs b H0 XK 1 22 z u) {Q : Int64 → St → Prop} {K76 : Int64 → Int32 → St → Prop} (hK76 : ∀ (x1 : Int64) (x3 : Int32) (f : St), K76 x1 x3 f → AM p l e R s m args below meth c D cs b 4 o Z z u (pJ Q) 76 [(1, .long x1), (3, .int x3)] [] f) : ∀ (n : Nat) (x1 : Int64) (x3 : Int32) (f : St), wlX7_letters_4 K76 Q n x1 x3 f → AM p l e R s m args below meth c D cs b 4 o Z z u (pJ Q) 4 [(0, .ref o), (1, .long x1), (3, .int x3)] [] f := by
  intro n
  induction n with
  | zero => intro _ _ _ h; exact h.elim
  | succ n ih => intro x1 x3 f h; exact tbX7_letters_4 E ih hK76 h
theorem tbX7_letters_76 (E : EM p R s m args meth c cX7_letters 4 (some .long) D cs b H0 XK 1 22 z u) {Q : Int64 → St → Prop}  {x1 : Int64} {x3 : Int32} {f : St} (h : wbX7_letters_76  Q x1 x3 f) : AM p l e R s m args below meth c D cs b 4 o Z z u (pJ Q) 76 [(1, .long x1), (3, .int x3)] [] f := by
  have E1 := E.1
  refine ag_iload_n E1 dX7_letters_76 rfl 1 rfl ?_
  refine ag_iconst E1 dX7_letters_77 ki_5 ?_
  refine ag_icmp_le E1 (tgt := 85) dX7_letters_78 (by decide) (fun c_78 => ?_) (fun c_78 => ?_)
  · have h := h.1 c_78
    refine ag_lload_n E1 dX7_letters_85 rfl 0 rfl ?_
    exact am_lret E rfl ⟨_, rfl, h⟩ dX7_letters_86
  · have h := h.2 c_78
    refine ag_lconst E1 (v := 0) dX7_letters_81 rfl ?_
    refine ag_goto E1 (tgt := 86) dX7_letters_82 (by decide) ?_
    exact am_lret E rfl ⟨_, rfl, h⟩ dX7_letters_86
theorem kX7_letters (l : Launch) (D : va_G) (cs : Nat → ClassId) (b : Nat) (H0 : Heap) (XK : State → Prop) (o : Nat) (Z : cP) (z u : Nat) (f : St)  (Q : Int64 → St → Prop) (h : wX7_letters f  Q) : CM l D cs b H0 XK o Z z u yX7_letters cX7_letters 4 (some .long) 1 22 [.ref o] f (pJ Q) := by
  refine cm_of (by decide) rfl (Nat.le_of_ble_eq_true rfl) (fun p e R s m below meth c E => ?_)
  have E1 := E.1
  refine ag_sub (lv' := [(0, .ref o)]) [0] rfl ?_
  refine ag_lconst E1 (v := 0) dX7_letters_0 rfl ?_
  refine ag_lstore_n E1 (lv' := [(1, .long (0 : Int64)), (0, .ref o)]) dX7_letters_1 rfl (Nat.lt_of_lt_of_le (Nat.le_refl _) (Nat.le_of_ble_eq_true rfl)) rfl ?_
  refine ag_iconst E1 dX7_letters_2 ki_0 ?_
  refine ag_istore_n E1 (lv' := [(3, .int (0 : Int32)), (1, .long (0 : Int64)), (0, .ref o)]) dX7_letters_3 rfl (Nat.lt_of_lt_of_le (Nat.le_refl _) (Nat.le_of_ble_eq_true rfl)) rfl ?_
  refine ag_sub (lv' := [(0, .ref o), (1, .long (0 : Int64)), (3, .int (0 : Int32))]) [2, 1, 0] rfl ?_
  obtain ⟨n, h⟩ := h
  refine tlX7_letters_4 E ?_ n _ _ _ h
  · intro x1 x3 f h
    exact tbX7_letters_76 E  h
theorem hdX7_letters : yX7_letters.cls = RX7 ∧ yX7_letters.cls ≠ "java/lang/invoke/MethodHandle" ∧ yX7_letters.cls ≠ "java/lang/invoke/VarHandle" ∧ (parseMethodDescriptor yX7_letters.desc).map (fun d => d.parameters.length) = some 0 := by decide +kernel
theorem tbX7_next_39 (E : EM p R s m args meth c cX7_next 5 none D cs b H0 XK 2 45 z u) {Q : St → Prop} {K0 : St → Prop} (hK0 : ∀  (f : St), K0  f → AM p l e R s m args below meth c D cs b 5 o Z z u (pV Q) 0 [(0, .ref o)] [] f) {K52 : St → Prop} (hK52 : ∀  (f : St), K52  f → AM p l e R s m args below meth c D cs b 5 o Z z u (pV Q) 52 [(0, .ref o)] [] f)  {f : St} (h : wbX7_next_39 K0 K52 Q  f) : AM p l e R s m args below meth c D cs b 5 o Z z u (pV Q) 39 [(0, .ref o)] [] f := by
  have E1 := E.1
  refine ag_aload_n E1 dX7_next_39 rfl 0 rfl ?_
  refine ag_dup E1 dX7_next_40 rfl ?_
  refine am_geti E 40 (by decide) rfl q1490 dX7_next_41 ?_
  refine ag_iconst E1 dX7_next_44 ki_1 ?_
  refine ag_iadd E1 dX7_next_45 ?_
  refine am_puti E 40 (by decide) rfl q1490 rfl (ty := .int) (by decide +kernel) rfl rfl dX7_next_46 (fun f_1 e_f_1 => ?_)
  have h := h f_1 e_f_1
  refine ag_goto E1 (tgt := 0) dX7_next_49 (by decide) ?_
  exact hK0  _ h
theorem tbX7_next_0 (E : EM p R s m args meth c cX7_next 5 none D cs b H0 XK 2 45 z u) {Q : St → Prop} {K0 : St → Prop} (hK0 : ∀  (f : St), K0  f → AM p l e R s m args below meth c D cs b 5 o Z z u (pV Q) 0 [(0, .ref o)] [] f) {K52 : St → Prop} (hK52 : ∀  (f : St), K52  f → AM p l e R s m args below meth c D cs b 5 o Z z u (pV Q) 52 [(0, .ref o)] [] f)  {f : St} (h : wbX7_next_0 K0 K52 Q  f) : AM p l e R s m args below meth c D cs b 5 o Z z u (pV Q) 0 [(0, .ref o)] [] f := by
  have E1 := E.1
  refine ag_aload_n E1 dX7_next_0 rfl 0 rfl ?_
  refine am_geti E 40 (by decide) rfl q1490 dX7_next_1 ?_
  refine ag_aload_n E1 dX7_next_4 rfl 0 rfl ?_
  refine am_geti E 11 (by decide) rfl q1461 dX7_next_5 ?_
  refine ag_icmp_ge E1 (tgt := 52) dX7_next_8 (by decide) (fun c_8 => ?_) (fun c_8 => ?_)
  · have h := h.1 c_8
    exact hK52  _ h
  · have h := h.2 c_8
    refine ag_aload_n E1 dX7_next_11 rfl 0 rfl ?_
    refine am_geta E 10 (i := 8) (by decide) (by decide) rfl q1460 dX7_next_12 ?_
    refine ag_aload_n E1 dX7_next_15 rfl 0 rfl ?_
    refine am_geti E 40 (by decide) rfl q1490 dX7_next_16 ?_
    obtain ⟨hin, h⟩ := h
    refine am_iald E 10 rfl rfl rfl (by decide) hin dX7_next_19 ?_
    refine ag_bipush E1 dX7_next_20 kb_32 ?_
    refine ag_icmp_eq E1 (tgt := 39) dX7_next_22 (by decide) (fun c_22 => ?_) (fun c_22 => ?_)
    · have h := h.1 c_22
      exact tbX7_next_39 E hK0 hK52 h
    · have h := h.2 c_22
      refine ag_aload_n E1 dX7_next_25 rfl 0 rfl ?_
      refine am_geta E 10 (i := 8) (by decide) (by decide) rfl q1460 dX7_next_26 ?_
      refine ag_aload_n E1 dX7_next_29 rfl 0 rfl ?_
      refine am_geti E 40 (by decide) rfl q1490 dX7_next_30 ?_
      obtain ⟨hin, h⟩ := h
      refine am_iald E 10 rfl rfl rfl (by decide) hin dX7_next_33 ?_
      refine ag_bipush E1 dX7_next_34 kb_10 ?_
      refine ag_icmp_ne E1 (tgt := 52) dX7_next_36 (by decide) (fun c_36 => ?_) (fun c_36 => ?_)
      · have h := h.1 c_36
        exact hK52  _ h
      · have h := h.2 c_36
        exact tbX7_next_39 E hK0 hK52 h
theorem tlX7_next_0 (E : EM p R s m args meth c cX7_next 5 none D cs b H0 XK 2 45 z u) {Q : St → Prop} {K52 : St → Prop} (hK52 : ∀  (f : St), K52  f → AM p l e R s m args below meth c D cs b 5 o Z z u (pV Q) 52 [(0, .ref o)] [] f) : ∀ (n : Nat)  (f : St), wlX7_next_0 K52 Q n  f → AM p l e R s m args below meth c D cs b 5 o Z z u (pV Q) 0 [(0, .ref o)] [] f := by
  intro n
  induction n with
  | zero => intro  _ h; exact h.elim
  | succ n ih => intro  f h; exact tbX7_next_0 E ih hK52 h
theorem tbX7_next_374 (E : EM p R s m args meth c cX7_next 5 none D cs b H0 XK 2 45 z u) {Q : St → Prop}  {t0 : Int32} {f : St} (h : wbX7_next_374  Q t0 f) : AM p l e R s m args below meth c D cs b 5 o Z z u (pV Q) 374 [(0, .ref o)] [.int t0, .ref o] f := by
  have E1 := E.1
  refine am_puti E 42 (by decide) rfl q1492 rfl (ty := .int) (by decide +kernel) rfl rfl dX7_next_374 (fun f_10 e_f_10 => ?_)
  have h := h f_10 e_f_10
  refine ag_aload_n E1 dX7_next_377 rfl 0 rfl ?_
  refine ag_dup E1 dX7_next_378 rfl ?_
  refine am_geti E 40 (by decide) rfl q1490 dX7_next_379 ?_
  refine ag_iconst E1 dX7_next_382 ki_1 ?_
  refine ag_iadd E1 dX7_next_383 ?_
  refine am_puti E 40 (by decide) rfl q1490 rfl (ty := .int) (by decide +kernel) rfl rfl dX7_next_384 (fun f_11 e_f_11 => ?_)
  have h := h f_11 e_f_11
  exact am_vret E rfl ⟨rfl, h⟩ dX7_next_387
theorem tbX7_next_363 (E : EM p R s m args meth c cX7_next 5 none D cs b H0 XK 2 45 z u) {Q : St → Prop}  {x1 : Int32} {t0 : Int32} {f : St} (h : wbX7_next_363  Q x1 t0 f) : AM p l e R s m args below meth c D cs b 5 o Z z u (pV Q) 363 [(0, .ref o), (1, .int x1)] [.int t0] f := by
  have E1 := E.1
  refine ag_istore_n E1 (lv' := [(2, .int t0), (0, .ref o), (1, .int x1)]) dX7_next_363 rfl (Nat.lt_of_lt_of_le (Nat.le_refl _) (Nat.le_of_ble_eq_true rfl)) rfl ?_
  refine ag_aload_n E1 dX7_next_364 rfl 1 rfl ?_
  refine ag_iload_n E1 dX7_next_365 rfl 0 rfl ?_
  refine ag_if_eq E1 (tgt := 373) dX7_next_366 (by decide) (fun c_366 => ?_) (fun c_366 => ?_)
  · have h := h.1 c_366
    refine ag_iconst E1 dX7_next_373 ki_m1 ?_
    refine ag_sub (lv' := [(0, .ref o)]) [1] rfl ?_
    exact tbX7_next_374 E  h
  · have h := h.2 c_366
    refine ag_iload_n E1 dX7_next_369 rfl 2 rfl ?_
    refine ag_goto E1 (tgt := 374) dX7_next_370 (by decide) ?_
    refine ag_sub (lv' := [(0, .ref o)]) [1] rfl ?_
    exact tbX7_next_374 E  h
theorem tbX7_next_358 (E : EM p R s m args meth c cX7_next 5 none D cs b H0 XK 2 45 z u) {Q : St → Prop}  {x1 : Int32} {f : St} (h : wbX7_next_358  Q x1 f) : AM p l e R s m args below meth c D cs b 5 o Z z u (pV Q) 358 [(0, .ref o), (1, .int x1)] [] f := by
  have E1 := E.1
  refine ag_iconst E1 dX7_next_358 ki_1 ?_
  refine ag_goto E1 (tgt := 363) dX7_next_359 (by decide) ?_
  exact tbX7_next_363 E  h
theorem tbX7_next_274 (E : EM p R s m args meth c cX7_next 5 none D cs b H0 XK 2 45 z u) {Q : St → Prop} {K214 : Int32 → St → Prop} (hK214 : ∀ (x2 : Int32) (f : St), K214 x2 f → AM p l e R s m args below meth c D cs b 5 o Z z u (pV Q) 214 [(0, .ref o), (2, .int x2)] [] f) {K293 : Int32 → St → Prop} (hK293 : ∀ (x2 : Int32) (f : St), K293 x2 f → AM p l e R s m args below meth c D cs b 5 o Z z u (pV Q) 293 [(0, .ref o), (2, .int x2)] [] f) {x2 : Int32} {t0 : Int32} {f : St} (h : wbX7_next_274 K214 K293 Q x2 t0 f) : AM p l e R s m args below meth c D cs b 5 o Z z u (pV Q) 274 [(0, .ref o), (2, .int x2)] [.int t0, .ref o] f := by
  have E1 := E.1
  refine am_puti E 43 (by decide) rfl q1493 rfl (ty := .int) (by decide +kernel) rfl rfl dX7_next_274 (fun f_14 e_f_14 => ?_)
  have h := h f_14 e_f_14
  refine ag_iincN E1 (lv' := fun x2_15 => [(2, .int x2_15), (0, .ref o)]) dX7_next_277 1 rfl ki_1 (Nat.lt_of_lt_of_le (Nat.le_refl _) (Nat.le_of_ble_eq_true rfl)) (fun _ => rfl) (fun x2_15 e_x2_15 => ?_)
  have h := h x2_15 e_x2_15
  refine ag_aload_n E1 dX7_next_280 rfl 1 rfl ?_
  refine ag_dup E1 dX7_next_281 rfl ?_
  refine am_geti E 40 (by decide) rfl q1490 dX7_next_282 ?_
  refine ag_iconst E1 dX7_next_285 ki_1 ?_
  refine ag_iadd E1 dX7_next_286 ?_
  refine am_puti E 40 (by decide) rfl q1490 rfl (ty := .int) (by decide +kernel) rfl rfl dX7_next_287 (fun f_16 e_f_16 => ?_)
  have h := h f_16 e_f_16
  refine ag_goto E1 (tgt := 214) dX7_next_290 (by decide) ?_
  refine ag_sub (lv' := [(0, .ref o), (2, .int x2_15)]) [1, 0] rfl ?_
  exact hK214 _ _ h
theorem tbX7_next_214 (E : EM p R s m args meth c cX7_next 5 none D cs b H0 XK 2 45 z u) {Q : St → Prop} {K214 : Int32 → St → Prop} (hK214 : ∀ (x2 : Int32) (f : St), K214 x2 f → AM p l e R s m args below meth c D cs b 5 o Z z u (pV Q) 214 [(0, .ref o), (2, .int x2)] [] f) {K293 : Int32 → St → Prop} (hK293 : ∀ (x2 : Int32) (f : St), K293 x2 f → AM p l e R s m args below meth c D cs b 5 o Z z u (pV Q) 293 [(0, .ref o), (2, .int x2)] [] f) {x2 : Int32} {f : St} (h : wbX7_next_214 K214 K293 Q x2 f) : AM p l e R s m args below meth c D cs b 5 o Z z u (pV Q) 214 [(0, .ref o), (2, .int x2)] [] f := by
  have E1 := E.1
  refine ag_aload_n E1 dX7_next_214 rfl 0 rfl ?_
  refine am_geti E 40 (by decide) rfl q1490 dX7_next_215 ?_
  refine ag_aload_n E1 dX7_next_218 rfl 0 rfl ?_
  refine am_geti E 11 (by decide) rfl q1461 dX7_next_219 ?_
  refine ag_icmp_ge E1 (tgt := 293) dX7_next_222 (by decide) (fun c_222 => ?_) (fun c_222 => ?_)
  · have h := h.1 c_222
    exact hK293 _ _ h
  · have h := h.2 c_222
    refine ag_aload_n E1 dX7_next_225 rfl 0 rfl ?_
    refine am_geta E 10 (i := 8) (by decide) (by decide) rfl q1460 dX7_next_226 ?_
    refine ag_aload_n E1 dX7_next_229 rfl 0 rfl ?_
    refine am_geti E 40 (by decide) rfl q1490 dX7_next_230 ?_
    obtain ⟨hin, h⟩ := h
    refine am_iald E 10 rfl rfl rfl (by decide) hin dX7_next_233 ?_
    refine ag_bipush E1 dX7_next_234 kb_48 ?_
    refine ag_bipush E1 dX7_next_236 kb_57 ?_
    refine am_callSi E [.int (f 10 (Int32.toNatClampNeg (f 99 40))), .int (48 : Int32), .int (57 : Int32)] (kX7_in _ _ _ _ _ _ _ _ _ _ _ _ _ _ _ h) (lw_S q1625 q1626 q107 q1627) hdX7_in (Nat.le_of_ble_eq_true rfl) (Nat.le_of_ble_eq_true rfl) rfl (Nat.le_of_ble_eq_true rfl) dX7_next_238 rfl (fun r_13 f_12 h => ?_)
    refine ag_if_eq E1 (tgt := 293) dX7_next_241 (by decide) (fun c_241 => ?_) (fun c_241 => ?_)
    · have h := h.1 c_241
      exact hK293 _ _ h
    · have h := h.2 c_241
      refine ag_aload_n E1 dX7_next_244 rfl 0 rfl ?_
      refine ag_iload_n E1 dX7_next_245 rfl 1 rfl ?_
      refine ag_iconst E1 dX7_next_246 ki_4 ?_
      refine ag_icmp_ge E1 (tgt := 273) dX7_next_247 (by decide) (fun c_247 => ?_) (fun c_247 => ?_)
      · have h := h.1 c_247
        refine ag_iconst E1 dX7_next_273 ki_0 ?_
        exact tbX7_next_274 E hK214 hK293 h
      · have h := h.2 c_247
        refine ag_bipush E1 dX7_next_250 kb_10 ?_
        refine ag_aload_n E1 dX7_next_252 rfl 0 rfl ?_
        refine am_geti E 43 (by decide) rfl q1493 dX7_next_253 ?_
        refine ag_imul E1 dX7_next_256 ?_
        refine ag_aload_n E1 dX7_next_257 rfl 0 rfl ?_
        refine am_geta E 10 (i := 8) (by decide) (by decide) rfl q1460 dX7_next_258 ?_
        refine ag_aload_n E1 dX7_next_261 rfl 0 rfl ?_
        refine am_geti E 40 (by decide) rfl q1490 dX7_next_262 ?_
        obtain ⟨hin, h⟩ := h
        refine am_iald E 10 rfl rfl rfl (by decide) hin dX7_next_265 ?_
        refine ag_iadd E1 dX7_next_266 ?_
        refine ag_bipush E1 dX7_next_267 kb_48 ?_
        refine ag_isub E1 dX7_next_269 ?_
        refine ag_goto E1 (tgt := 274) dX7_next_270 (by decide) ?_
        exact tbX7_next_274 E hK214 hK293 h
theorem tlX7_next_214 (E : EM p R s m args meth c cX7_next 5 none D cs b H0 XK 2 45 z u) {Q : St → Prop} {K293 : Int32 → St → Prop} (hK293 : ∀ (x2 : Int32) (f : St), K293 x2 f → AM p l e R s m args below meth c D cs b 5 o Z z u (pV Q) 293 [(0, .ref o), (2, .int x2)] [] f) : ∀ (n : Nat) (x2 : Int32) (f : St), wlX7_next_214 K293 Q n x2 f → AM p l e R s m args below meth c D cs b 5 o Z z u (pV Q) 214 [(0, .ref o), (2, .int x2)] [] f := by
  intro n
  induction n with
  | zero => intro _ _ h; exact h.elim
  | succ n ih => intro x2 f h; exact tbX7_next_214 E ih hK293 h
theorem tbX7_next_304 (E : EM p R s m args meth c cX7_next 5 none D cs b H0 XK 2 45 z u) {Q : St → Prop}  {t0 : Int32} {f : St} (h : wbX7_next_304  Q t0 f) : AM p l e R s m args below meth c D cs b 5 o Z z u (pV Q) 304 [] [.int t0, .ref o] f := by
  have E1 := E.1
  refine am_puti E 42 (by decide) rfl q1492 rfl (ty := .int) (by decide +kernel) rfl rfl dX7_next_304 (fun f_17 e_f_17 => ?_)
  have h := h f_17 e_f_17
  refine ag_goto E1 (tgt := 387) dX7_next_307 (by decide) ?_
  exact am_vret E rfl ⟨rfl, h⟩ dX7_next_387
theorem tbX7_next_293 (E : EM p R s m args meth c cX7_next 5 none D cs b H0 XK 2 45 z u) {Q : St → Prop}  {x2 : Int32} {f : St} (h : wbX7_next_293  Q x2 f) : AM p l e R s m args below meth c D cs b 5 o Z z u (pV Q) 293 [(0, .ref o), (2, .int x2)] [] f := by
  have E1 := E.1
  refine ag_aload_n E1 dX7_next_293 rfl 0 rfl ?_
  refine ag_iload_n E1 dX7_next_294 rfl 1 rfl ?_
  refine ag_iconst E1 dX7_next_295 ki_4 ?_
  refine ag_icmp_le E1 (tgt := 303) dX7_next_296 (by decide) (fun c_296 => ?_) (fun c_296 => ?_)
  · have h := h.1 c_296
    refine ag_iconst E1 dX7_next_303 ki_1 ?_
    refine ag_sub (lv' := []) [] rfl ?_
    exact tbX7_next_304 E  h
  · have h := h.2 c_296
    refine ag_iconst E1 dX7_next_299 ki_m1 ?_
    refine ag_goto E1 (tgt := 304) dX7_next_300 (by decide) ?_
    refine ag_sub (lv' := []) [] rfl ?_
    exact tbX7_next_304 E  h
theorem tbX7_next_111 (E : EM p R s m args meth c cX7_next 5 none D cs b H0 XK 2 45 z u) {Q : St → Prop} {K111 : Int64 → Int32 → St → Prop} (hK111 : ∀ (x2 : Int64) (x4 : Int32) (f : St), K111 x2 x4 f → AM p l e R s m args below meth c D cs b 5 o Z z u (pV Q) 111 [(0, .ref o), (2, .long x2), (4, .int x4)] [] f) {K136 : Int32 → St → Prop} (hK136 : ∀ (x4 : Int32) (f : St), K136 x4 f → AM p l e R s m args below meth c D cs b 5 o Z z u (pV Q) 136 [(0, .ref o), (4, .int x4)] [] f) {x2 : Int64} {x4 : Int32} {f : St} (h : wbX7_next_111 K111 K136 Q x2 x4 f) : AM p l e R s m args below meth c D cs b 5 o Z z u (pV Q) 111 [(0, .ref o), (2, .long x2), (4, .int x4)] [] f := by
  have E1 := E.1
  refine ag_iload E1 dX7_next_111 2 rfl ?_
  refine ag_bipush E1 dX7_next_113 kb_11 ?_
  refine ag_icmp_ge E1 (tgt := 136) dX7_next_115 (by decide) (fun c_115 => ?_) (fun c_115 => ?_)
  · have h := h.1 c_115
    refine ag_sub (lv' := [(0, .ref o), (4, .int x4)]) [0, 2] rfl ?_
    exact hK136 _ _ h
  · have h := h.2 c_115
    refine ag_aload_n E1 dX7_next_118 rfl 0 rfl ?_
    refine am_geta E 44 (i := 26) (by decide) (by decide) rfl q1494 dX7_next_119 ?_
    refine ag_iload E1 dX7_next_122 2 rfl ?_
    obtain ⟨hin, h⟩ := h
    refine am_lald E rfl hin dX7_next_124 ?_
    refine ag_lload_n E1 dX7_next_125 rfl 1 rfl ?_
    refine ag_lcmp E1 dX7_next_126 ?_
    refine ag_if_eq E1 (tgt := 136) dX7_next_127 (by decide) (fun c_127 => ?_) (fun c_127 => ?_)
    · have h := h.1 c_127
      refine ag_sub (lv' := [(0, .ref o), (4, .int x4)]) [0, 2] rfl ?_
      exact hK136 _ _ h
    · have h := h.2 c_127
      refine ag_iincN E1 (lv' := fun x4_20 => [(4, .int x4_20), (0, .ref o), (2, .long x2)]) dX7_next_130 2 rfl ki_1 (Nat.lt_of_lt_of_le (Nat.le_refl _) (Nat.le_of_ble_eq_true rfl)) (fun _ => rfl) (fun x4_20 e_x4_20 => ?_)
      have h := h x4_20 e_x4_20
      refine ag_goto E1 (tgt := 111) dX7_next_133 (by decide) ?_
      refine ag_sub (lv' := [(0, .ref o), (2, .long x2), (4, .int x4_20)]) [1, 2, 0] rfl ?_
      exact hK111 _ _ _ h
theorem tlX7_next_111 (E : EM p R s m args meth c cX7_next 5 none D cs b H0 XK 2 45 z u) {Q : St → Prop} {K136 : Int32 → St → Prop} (hK136 : ∀ (x4 : Int32) (f : St), K136 x4 f → AM p l e R s m args below meth c D cs b 5 o Z z u (pV Q) 136 [(0, .ref o), (4, .int x4)] [] f) : ∀ (n : Nat) (x2 : Int64) (x4 : Int32) (f : St), wlX7_next_111 K136 Q n x2 x4 f → AM p l e R s m args below meth c D cs b 5 o Z z u (pV Q) 111 [(0, .ref o), (2, .long x2), (4, .int x4)] [] f := by
  intro n
  induction n with
  | zero => intro _ _ _ h; exact h.elim
  | succ n ih => intro x2 x4 f h; exact tbX7_next_111 E ih hK136 h
theorem tbX7_next_195 (E : EM p R s m args meth c cX7_next 5 none D cs b H0 XK 2 45 z u) {Q : St → Prop}  {t0 : Int32} {f : St} (h : wbX7_next_195  Q t0 f) : AM p l e R s m args below meth c D cs b 5 o Z z u (pV Q) 195 [] [.int t0, .ref o] f := by
  have E1 := E.1
  refine am_puti E 43 (by decide) rfl q1493 rfl (ty := .int) (by decide +kernel) rfl rfl dX7_next_195 (fun f_22 e_f_22 => ?_)
  have h := h f_22 e_f_22
  refine ag_goto E1 (tgt := 387) dX7_next_198 (by decide) ?_
  exact am_vret E rfl ⟨rfl, h⟩ dX7_next_387
theorem tbX7_next_176 (E : EM p R s m args meth c cX7_next 5 none D cs b H0 XK 2 45 z u) {Q : St → Prop}  {x4 : Int32} {t0 : Int32} {f : St} (h : wbX7_next_176  Q x4 t0 f) : AM p l e R s m args below meth c D cs b 5 o Z z u (pV Q) 176 [(0, .ref o), (4, .int x4)] [.int t0, .ref o] f := by
  have E1 := E.1
  refine am_puti E 42 (by decide) rfl q1492 rfl (ty := .int) (by decide +kernel) rfl rfl dX7_next_176 (fun f_21 e_f_21 => ?_)
  have h := h f_21 e_f_21
  refine ag_aload_n E1 dX7_next_179 rfl 0 rfl ?_
  refine ag_iload E1 dX7_next_180 1 rfl ?_
  refine ag_iconst E1 dX7_next_182 ki_2 ?_
  refine ag_icmp_ge E1 (tgt := 191) dX7_next_183 (by decide) (fun c_183 => ?_) (fun c_183 => ?_)
  · have h := h.1 c_183
    refine ag_iload E1 dX7_next_191 1 rfl ?_
    refine ag_iconst E1 dX7_next_193 ki_2 ?_
    refine ag_isub E1 dX7_next_194 ?_
    refine ag_sub (lv' := []) [] rfl ?_
    exact tbX7_next_195 E  h
  · have h := h.2 c_183
    refine ag_iload E1 dX7_next_186 1 rfl ?_
    refine ag_goto E1 (tgt := 195) dX7_next_188 (by decide) ?_
    refine ag_sub (lv' := []) [] rfl ?_
    exact tbX7_next_195 E  h
theorem tbX7_next_136 (E : EM p R s m args meth c cX7_next 5 none D cs b H0 XK 2 45 z u) {Q : St → Prop}  {x4 : Int32} {f : St} (h : wbX7_next_136  Q x4 f) : AM p l e R s m args below meth c D cs b 5 o Z z u (pV Q) 136 [(0, .ref o), (4, .int x4)] [] f := by
  have E1 := E.1
  refine ag_aload_n E1 dX7_next_136 rfl 0 rfl ?_
  refine ag_iload E1 dX7_next_137 1 rfl ?_
  refine ag_iconst E1 dX7_next_139 ki_2 ?_
  refine ag_icmp_ge E1 (tgt := 147) dX7_next_140 (by decide) (fun c_140 => ?_) (fun c_140 => ?_)
  · have h := h.1 c_140
    refine ag_iload E1 dX7_next_147 1 rfl ?_
    refine ag_bipush E1 dX7_next_149 kb_8 ?_
    refine ag_icmp_ge E1 (tgt := 158) dX7_next_151 (by decide) (fun c_151 => ?_) (fun c_151 => ?_)
    · have h := h.1 c_151
      refine ag_iload E1 dX7_next_158 1 rfl ?_
      refine ag_bipush E1 dX7_next_160 kb_11 ?_
      refine ag_icmp_ne E1 (tgt := 169) dX7_next_162 (by decide) (fun c_162 => ?_) (fun c_162 => ?_)
      · have h := h.1 c_162
        refine ag_iconst E1 dX7_next_169 ki_4 ?_
        refine ag_iload E1 dX7_next_170 1 rfl ?_
        refine ag_iadd E1 dX7_next_172 ?_
        refine ag_bipush E1 dX7_next_173 kb_8 ?_
        refine ag_isub E1 dX7_next_175 ?_
        exact tbX7_next_176 E  h
      · have h := h.2 c_162
        refine ag_iconst E1 dX7_next_165 ki_m1 ?_
        refine ag_goto E1 (tgt := 176) dX7_next_166 (by decide) ?_
        exact tbX7_next_176 E  h
    · have h := h.2 c_151
      refine ag_iconst E1 dX7_next_154 ki_2 ?_
      refine ag_goto E1 (tgt := 176) dX7_next_155 (by decide) ?_
      exact tbX7_next_176 E  h
  · have h := h.2 c_140
    refine ag_iconst E1 dX7_next_143 ki_3 ?_
    refine ag_goto E1 (tgt := 176) dX7_next_144 (by decide) ?_
    exact tbX7_next_176 E  h
theorem tbX7_next_52 (E : EM p R s m args meth c cX7_next 5 none D cs b H0 XK 2 45 z u) {Q : St → Prop}   {f : St} (h : wbX7_next_52  Q  f) : AM p l e R s m args below meth c D cs b 5 o Z z u (pV Q) 52 [(0, .ref o)] [] f := by
  have E1 := E.1
  refine ag_aload_n E1 dX7_next_52 rfl 0 rfl ?_
  refine ag_aload_n E1 dX7_next_53 rfl 0 rfl ?_
  refine am_geti E 40 (by decide) rfl q1490 dX7_next_54 ?_
  refine am_puti E 41 (by decide) rfl q1491 rfl (ty := .int) (by decide +kernel) rfl rfl dX7_next_57 (fun f_2 e_f_2 => ?_)
  have h := h f_2 e_f_2
  refine ag_aload_n E1 dX7_next_60 rfl 0 rfl ?_
  refine ag_iconst E1 dX7_next_61 ki_0 ?_
  refine am_puti E 42 (by decide) rfl q1492 rfl (ty := .int) (by decide +kernel) rfl rfl dX7_next_62 (fun f_3 e_f_3 => ?_)
  have h := h f_3 e_f_3
  refine ag_aload_n E1 dX7_next_65 rfl 0 rfl ?_
  refine ag_iconst E1 dX7_next_66 ki_0 ?_
  refine am_puti E 43 (by decide) rfl q1493 rfl (ty := .int) (by decide +kernel) rfl rfl dX7_next_67 (fun f_4 e_f_4 => ?_)
  have h := h f_4 e_f_4
  refine ag_aload_n E1 dX7_next_70 rfl 0 rfl ?_
  refine am_geti E 40 (by decide) rfl q1490 dX7_next_71 ?_
  refine ag_aload_n E1 dX7_next_74 rfl 0 rfl ?_
  refine am_geti E 11 (by decide) rfl q1461 dX7_next_75 ?_
  refine ag_icmp_ne E1 (tgt := 82) dX7_next_78 (by decide) (fun c_78 => ?_) (fun c_78 => ?_)
  · have h := h.1 c_78
    refine ag_aload_n E1 dX7_next_82 rfl 0 rfl ?_
    refine am_geta E 10 (i := 8) (by decide) (by decide) rfl q1460 dX7_next_83 ?_
    refine ag_aload_n E1 dX7_next_86 rfl 0 rfl ?_
    refine am_geti E 40 (by decide) rfl q1490 dX7_next_87 ?_
    obtain ⟨hin, h⟩ := h
    refine am_iald E 10 rfl rfl rfl (by decide) hin dX7_next_90 ?_
    refine ag_topi (fun x1_5 e_x1_5 => ?_)
    have h := h x1_5 e_x1_5
    refine ag_istore_n E1 (lv' := [(1, .int x1_5), (0, .ref o)]) dX7_next_91 rfl (Nat.lt_of_lt_of_le (Nat.le_refl _) (Nat.le_of_ble_eq_true rfl)) rfl ?_
    refine ag_iload_n E1 dX7_next_92 rfl 0 rfl ?_
    refine ag_bipush E1 dX7_next_93 kb_97 ?_
    refine ag_bipush E1 dX7_next_95 kb_122 ?_
    refine am_callSi E [.int x1_5, .int (97 : Int32), .int (122 : Int32)] (kX7_in _ _ _ _ _ _ _ _ _ _ _ _ _ _ _ h) (lw_S q1625 q1626 q107 q1627) hdX7_in (Nat.le_of_ble_eq_true rfl) (Nat.le_of_ble_eq_true rfl) rfl (Nat.le_of_ble_eq_true rfl) dX7_next_97 rfl (fun r_7 f_6 h => ?_)
    refine ag_if_eq E1 (tgt := 201) dX7_next_100 (by decide) (fun c_100 => ?_) (fun c_100 => ?_)
    · have h := h.1 c_100
      refine ag_iload_n E1 dX7_next_201 rfl 0 rfl ?_
      refine ag_bipush E1 dX7_next_202 kb_48 ?_
      refine ag_bipush E1 dX7_next_204 kb_57 ?_
      refine am_callSi E [.int x1_5, .int (48 : Int32), .int (57 : Int32)] (kX7_in _ _ _ _ _ _ _ _ _ _ _ _ _ _ _ h) (lw_S q1625 q1626 q107 q1627) hdX7_in (Nat.le_of_ble_eq_true rfl) (Nat.le_of_ble_eq_true rfl) rfl (Nat.le_of_ble_eq_true rfl) dX7_next_206 rfl (fun r_9 f_8 h => ?_)
      refine ag_if_eq E1 (tgt := 310) dX7_next_209 (by decide) (fun c_209 => ?_) (fun c_209 => ?_)
      · have h := h.1 c_209
        refine ag_iload_n E1 dX7_next_310 rfl 0 rfl ?_
        refine ag_bipush E1 dX7_next_311 kb_40 ?_
        refine ag_icmp_eq E1 (tgt := 358) dX7_next_313 (by decide) (fun c_313 => ?_) (fun c_313 => ?_)
        · have h := h.1 c_313
          refine ag_sub (lv' := [(0, .ref o), (1, .int x1_5)]) [1, 0] rfl ?_
          exact tbX7_next_358 E  h
        · have h := h.2 c_313
          refine ag_iload_n E1 dX7_next_316 rfl 0 rfl ?_
          refine ag_bipush E1 dX7_next_317 kb_41 ?_
          refine ag_icmp_eq E1 (tgt := 358) dX7_next_319 (by decide) (fun c_319 => ?_) (fun c_319 => ?_)
          · have h := h.1 c_319
            refine ag_sub (lv' := [(0, .ref o), (1, .int x1_5)]) [1, 0] rfl ?_
            exact tbX7_next_358 E  h
          · have h := h.2 c_319
            refine ag_iload_n E1 dX7_next_322 rfl 0 rfl ?_
            refine ag_bipush E1 dX7_next_323 kb_59 ?_
            refine ag_icmp_eq E1 (tgt := 358) dX7_next_325 (by decide) (fun c_325 => ?_) (fun c_325 => ?_)
            · have h := h.1 c_325
              refine ag_sub (lv' := [(0, .ref o), (1, .int x1_5)]) [1, 0] rfl ?_
              exact tbX7_next_358 E  h
            · have h := h.2 c_325
              refine ag_iload_n E1 dX7_next_328 rfl 0 rfl ?_
              refine ag_bipush E1 dX7_next_329 kb_43 ?_
              refine ag_icmp_eq E1 (tgt := 358) dX7_next_331 (by decide) (fun c_331 => ?_) (fun c_331 => ?_)
              · have h := h.1 c_331
                refine ag_sub (lv' := [(0, .ref o), (1, .int x1_5)]) [1, 0] rfl ?_
                exact tbX7_next_358 E  h
              · have h := h.2 c_331
                refine ag_iload_n E1 dX7_next_334 rfl 0 rfl ?_
                refine ag_bipush E1 dX7_next_335 kb_45 ?_
                refine ag_icmp_eq E1 (tgt := 358) dX7_next_337 (by decide) (fun c_337 => ?_) (fun c_337 => ?_)
                · have h := h.1 c_337
                  refine ag_sub (lv' := [(0, .ref o), (1, .int x1_5)]) [1, 0] rfl ?_
                  exact tbX7_next_358 E  h
                · have h := h.2 c_337
                  refine ag_iload_n E1 dX7_next_340 rfl 0 rfl ?_
                  refine ag_bipush E1 dX7_next_341 kb_42 ?_
                  refine ag_icmp_eq E1 (tgt := 358) dX7_next_343 (by decide) (fun c_343 => ?_) (fun c_343 => ?_)
                  · have h := h.1 c_343
                    refine ag_sub (lv' := [(0, .ref o), (1, .int x1_5)]) [1, 0] rfl ?_
                    exact tbX7_next_358 E  h
                  · have h := h.2 c_343
                    refine ag_iload_n E1 dX7_next_346 rfl 0 rfl ?_
                    refine ag_bipush E1 dX7_next_347 kb_60 ?_
                    refine ag_icmp_eq E1 (tgt := 358) dX7_next_349 (by decide) (fun c_349 => ?_) (fun c_349 => ?_)
                    · have h := h.1 c_349
                      refine ag_sub (lv' := [(0, .ref o), (1, .int x1_5)]) [1, 0] rfl ?_
                      exact tbX7_next_358 E  h
                    · have h := h.2 c_349
                      refine ag_iload_n E1 dX7_next_352 rfl 0 rfl ?_
                      refine ag_bipush E1 dX7_next_353 kb_61 ?_
                      refine ag_icmp_ne E1 (tgt := 362) dX7_next_355 (by decide) (fun c_355 => ?_) (fun c_355 => ?_)
                      · have h := h.1 c_355
                        refine ag_iconst E1 dX7_next_362 ki_0 ?_
                        refine ag_sub (lv' := [(0, .ref o), (1, .int x1_5)]) [1, 0] rfl ?_
                        exact tbX7_next_363 E  h
                      · have h := h.2 c_355
                        refine ag_sub (lv' := [(0, .ref o), (1, .int x1_5)]) [1, 0] rfl ?_
                        exact tbX7_next_358 E  h
      · have h := h.2 c_209
        refine ag_iconst E1 dX7_next_212 ki_0 ?_
        refine ag_istore_n E1 (lv' := [(2, .int (0 : Int32)), (1, .int x1_5), (0, .ref o)]) dX7_next_213 rfl (Nat.lt_of_lt_of_le (Nat.le_refl _) (Nat.le_of_ble_eq_true rfl)) rfl ?_
        refine ag_sub (lv' := [(0, .ref o), (2, .int (0 : Int32))]) [2, 0] rfl ?_
        obtain ⟨n, h⟩ := h
        refine tlX7_next_214 E ?_ n _ _ h
        · intro x2 f h
          exact tbX7_next_293 E  h
    · have h := h.2 c_100
      refine ag_aload_n E1 dX7_next_103 rfl 1 rfl ?_
      refine am_callVl E [] (kX7_letters _ _ _ _ _ _ _ _ _ _ _  _ h) (lw_V q1676 q1678 qs49 q107 q1679) hdX7_letters (Nat.le_of_ble_eq_true rfl) (Nat.le_of_ble_eq_true rfl) rfl (Nat.le_of_ble_eq_true rfl) dX7_next_104 rfl (fun r_19 f_18 h => ?_)
      refine ag_lstore_n E1 (lv' := [(2, .long r_19), (1, .int x1_5), (0, .ref o)]) dX7_next_107 rfl (Nat.lt_of_lt_of_le (Nat.le_refl _) (Nat.le_of_ble_eq_true rfl)) rfl ?_
      refine ag_iconst E1 dX7_next_108 ki_0 ?_
      refine ag_istore E1 (lv' := [(4, .int (0 : Int32)), (2, .long r_19), (1, .int x1_5), (0, .ref o)]) dX7_next_109 (Nat.lt_of_lt_of_le (Nat.le_refl _) (Nat.le_of_ble_eq_true rfl)) rfl ?_
      refine ag_sub (lv' := [(0, .ref o), (2, .long r_19), (4, .int (0 : Int32))]) [3, 1, 0] rfl ?_
      obtain ⟨n, h⟩ := h
      refine tlX7_next_111 E ?_ n _ _ _ h
      · intro x4 f h
        exact tbX7_next_136 E  h
  · have h := h.2 c_78
    exact am_vret E rfl ⟨rfl, h⟩ dX7_next_81
theorem kX7_next (l : Launch) (D : va_G) (cs : Nat → ClassId) (b : Nat) (H0 : Heap) (XK : State → Prop) (o : Nat) (Z : cP) (z u : Nat) (f : St)  (Q : St → Prop) (h : wX7_next f  Q) : CM l D cs b H0 XK o Z z u yX7_next cX7_next 5 none 2 45 [.ref o] f (pV Q) := by
  refine cm_of (by decide) rfl (Nat.le_of_ble_eq_true rfl) (fun p e R s m below meth c E => ?_)
  have E1 := E.1
  refine ag_sub (lv' := [(0, .ref o)]) [0] rfl ?_
  obtain ⟨n, h⟩ := h
  refine tlX7_next_0 E ?_ n  _ h
  · intro f h
    exact tbX7_next_52 E  h
theorem hdX7_next : yX7_next.cls = RX7 ∧ yX7_next.cls ≠ "java/lang/invoke/MethodHandle" ∧ yX7_next.cls ≠ "java/lang/invoke/VarHandle" ∧ (parseMethodDescriptor yX7_next.desc).map (fun d => d.parameters.length) = some 0 := by decide +kernel
theorem kX7_puts (l : Launch) (D : va_G) (cs : Nat → ClassId) (b : Nat) (H0 : Heap) (XK : State → Prop) (o : Nat) (Z : cP) (z u : Nat) (f : St) (x1 : Int32) (Q : St → Prop) (h : wX7_puts f x1 Q) : CM l D cs b H0 XK o Z z u yX7_puts cX7_puts 2 none 0 0 [.ref o, .int x1] f (pV Q) := by
  refine cm_of (by decide) rfl (Nat.le_of_ble_eq_true rfl) (fun p e R s m below meth c E => ?_)
  have E1 := E.1
  refine ag_sub (lv' := [(0, .ref o), (1, .int x1)]) [0, 1] rfl ?_
  refine ag_aload_n E1 dX7_puts_0 rfl 0 rfl ?_
  refine am_geta E 12 (i := 9) (by decide) (by decide) rfl q1462 dX7_puts_1 ?_
  refine ag_sipush E1 dX7_puts_4 ks_200 ?_
  refine ag_aload_n E1 dX7_puts_7 rfl 0 rfl ?_
  refine am_geti E 14 (by decide) rfl q1464 dX7_puts_8 ?_
  refine ag_imul E1 dX7_puts_11 ?_
  refine ag_aload_n E1 dX7_puts_12 rfl 0 rfl ?_
  refine am_geti E 48 (by decide) rfl q1498 dX7_puts_13 ?_
  refine ag_iadd E1 dX7_puts_16 ?_
  refine ag_iload_n E1 dX7_puts_17 rfl 1 rfl ?_
  obtain ⟨hin, h⟩ := h
  refine am_iast E 12 rfl rfl rfl (by decide) hin dX7_puts_18 (fun f_1 e_f_1 => ?_)
  have h := h f_1 e_f_1
  refine ag_aload_n E1 dX7_puts_19 rfl 0 rfl ?_
  refine ag_dup E1 dX7_puts_20 rfl ?_
  refine am_geti E 48 (by decide) rfl q1498 dX7_puts_21 ?_
  refine ag_iconst E1 dX7_puts_24 ki_1 ?_
  refine ag_iadd E1 dX7_puts_25 ?_
  refine am_puti E 48 (by decide) rfl q1498 rfl (ty := .int) (by decide +kernel) rfl rfl dX7_puts_26 (fun f_2 e_f_2 => ?_)
  have h := h f_2 e_f_2
  exact am_vret E rfl ⟨rfl, h⟩ dX7_puts_29
theorem hdX7_puts : yX7_puts.cls = RX7 ∧ yX7_puts.cls ≠ "java/lang/invoke/MethodHandle" ∧ yX7_puts.cls ≠ "java/lang/invoke/VarHandle" ∧ (parseMethodDescriptor yX7_puts.desc).map (fun d => d.parameters.length) = some 1 := by decide +kernel
theorem kX7_rank (l : Launch) (D : va_G) (cs : Nat → ClassId) (b : Nat) (H0 : Heap) (XK : State → Prop) (o : Nat) (Z : cP) (z u : Nat) (f : St) (x0 : Int32) (Q : Int32 → St → Prop) (h : wX7_rank f x0 Q) : CM l D cs b H0 XK o Z z u yX7_rank cX7_rank 1 (some .int) 0 0 [.int x0] f (pI Q) := by
  refine cm_of (by decide) rfl (Nat.le_of_ble_eq_true rfl) (fun p e R s m below meth c E => ?_)
  have E1 := E.1
  refine ag_sub (lv' := [(0, .int x0)]) [0] rfl ?_
  refine ag_iload_n E1 dX7_rank_0 rfl 0 rfl ?_
  refine ag_if_ne E1 (tgt := 8) dX7_rank_1 (by decide) (fun c_1 => ?_) (fun c_1 => ?_)
  · have h := h.1 c_1
    refine ag_iload_n E1 dX7_rank_8 rfl 0 rfl ?_
    refine ag_bipush E1 dX7_rank_9 kb_11 ?_
    refine ag_icmp_ne E1 (tgt := 18) dX7_rank_11 (by decide) (fun c_11 => ?_) (fun c_11 => ?_)
    · have h := h.1 c_11
      refine ag_iload_n E1 dX7_rank_18 rfl 0 rfl ?_
      refine ag_bipush E1 dX7_rank_19 kb_12 ?_
      refine ag_icmp_ne E1 (tgt := 28) dX7_rank_21 (by decide) (fun c_21 => ?_) (fun c_21 => ?_)
      · have h := h.1 c_21
        refine ag_iload_n E1 dX7_rank_28 rfl 0 rfl ?_
        refine ag_bipush E1 dX7_rank_29 kb_13 ?_
        refine ag_icmp_ne E1 (tgt := 38) dX7_rank_31 (by decide) (fun c_31 => ?_) (fun c_31 => ?_)
        · have h := h.1 c_31
          refine ag_iload_n E1 dX7_rank_38 rfl 0 rfl ?_
          refine ag_bipush E1 dX7_rank_39 kb_15 ?_
          refine ag_icmp_gt E1 (tgt := 48) dX7_rank_41 (by decide) (fun c_41 => ?_) (fun c_41 => ?_)
          · have h := h.1 c_41
            refine ag_iload_n E1 dX7_rank_48 rfl 0 rfl ?_
            refine ag_bipush E1 dX7_rank_49 kb_17 ?_
            refine ag_icmp_gt E1 (tgt := 58) dX7_rank_51 (by decide) (fun c_51 => ?_) (fun c_51 => ?_)
            · have h := h.1 c_51
              refine ag_iload_n E1 dX7_rank_58 rfl 0 rfl ?_
              refine ag_bipush E1 dX7_rank_59 kb_18 ?_
              refine ag_icmp_ne E1 (tgt := 69) dX7_rank_61 (by decide) (fun c_61 => ?_) (fun c_61 => ?_)
              · have h := h.1 c_61
                refine ag_bipush E1 dX7_rank_69 kb_7 ?_
                exact am_iret E rfl ⟨_, rfl, h⟩ dX7_rank_71
              · have h := h.2 c_61
                refine ag_bipush E1 dX7_rank_64 kb_6 ?_
                refine ag_goto E1 (tgt := 71) dX7_rank_66 (by decide) ?_
                exact am_iret E rfl ⟨_, rfl, h⟩ dX7_rank_71
            · have h := h.2 c_51
              refine ag_iconst E1 dX7_rank_54 ki_5 ?_
              refine ag_goto E1 (tgt := 71) dX7_rank_55 (by decide) ?_
              exact am_iret E rfl ⟨_, rfl, h⟩ dX7_rank_71
          · have h := h.2 c_41
            refine ag_iconst E1 dX7_rank_44 ki_4 ?_
            refine ag_goto E1 (tgt := 71) dX7_rank_45 (by decide) ?_
            exact am_iret E rfl ⟨_, rfl, h⟩ dX7_rank_71
        · have h := h.2 c_31
          refine ag_iconst E1 dX7_rank_34 ki_3 ?_
          refine ag_goto E1 (tgt := 71) dX7_rank_35 (by decide) ?_
          exact am_iret E rfl ⟨_, rfl, h⟩ dX7_rank_71
      · have h := h.2 c_21
        refine ag_iconst E1 dX7_rank_24 ki_2 ?_
        refine ag_goto E1 (tgt := 71) dX7_rank_25 (by decide) ?_
        exact am_iret E rfl ⟨_, rfl, h⟩ dX7_rank_71
    · have h := h.2 c_11
      refine ag_iconst E1 dX7_rank_14 ki_1 ?_
      refine ag_goto E1 (tgt := 71) dX7_rank_15 (by decide) ?_
      exact am_iret E rfl ⟨_, rfl, h⟩ dX7_rank_71
  · have h := h.2 c_1
    refine ag_iconst E1 dX7_rank_4 ki_0 ?_
    refine ag_goto E1 (tgt := 71) dX7_rank_5 (by decide) ?_
    exact am_iret E rfl ⟨_, rfl, h⟩ dX7_rank_71
theorem hdX7_rank : yX7_rank.cls ≠ "java/lang/invoke/MethodHandle" ∧ yX7_rank.cls ≠ "java/lang/invoke/VarHandle" ∧ (parseMethodDescriptor yX7_rank.desc).map (fun d => d.parameters.length) = some 1 := by decide +kernel
theorem tbX7_unwinds_67 (E : EM p R s m args meth c cX7_unwinds 3 none D cs b H0 XK 1 21 z u) {Q : St → Prop} {K0 : Int32 → St → Prop} (hK0 : ∀ (x1 : Int32) (f : St), K0 x1 f → AM p l e R s m args below meth c D cs b 3 o Z z u (pV Q) 0 [(0, .ref o), (1, .int x1)] [] f) {x1 : Int32} {x2 : Int32} {t0 : Int32} {t1 : Int32} {f : St} (h : wbX7_unwinds_67 K0 Q x1 x2 t0 t1 f) : AM p l e R s m args below meth c D cs b 3 o Z z u (pV Q) 67 [(0, .ref o), (1, .int x1), (2, .int x2)] [.int t0, .int t1, .ref o] f := by
  have E1 := E.1
  refine ag_isub E1 dX7_unwinds_67 ?_
  refine am_puti E 47 (by decide) rfl q1497 rfl (ty := .int) (by decide +kernel) rfl rfl dX7_unwinds_68 (fun f_5 e_f_5 => ?_)
  have h := h f_5 e_f_5
  refine ag_aload_n E1 dX7_unwinds_71 rfl 0 rfl ?_
  refine ag_iload_n E1 dX7_unwinds_72 rfl 2 rfl ?_
  refine am_callVv E [.int x2] (kX7_puts _ _ _ _ _ _ _ _ _ _ _ _ _ h) (lw_V q1685 q1687 qs51 q107 q1688) hdX7_puts (Nat.le_of_ble_eq_true rfl) (Nat.le_of_ble_eq_true rfl) rfl (Nat.le_of_ble_eq_true rfl) dX7_unwinds_73 rfl (fun f_6 h => ?_)
  refine ag_goto E1 (tgt := 0) dX7_unwinds_76 (by decide) ?_
  refine ag_sub (lv' := [(0, .ref o), (1, .int x1)]) [0, 1] rfl ?_
  exact hK0 _ _ h
theorem tbX7_unwinds_62 (E : EM p R s m args meth c cX7_unwinds 3 none D cs b H0 XK 1 21 z u) {Q : St → Prop} {K0 : Int32 → St → Prop} (hK0 : ∀ (x1 : Int32) (f : St), K0 x1 f → AM p l e R s m args below meth c D cs b 3 o Z z u (pV Q) 0 [(0, .ref o), (1, .int x1)] [] f) {x1 : Int32} {x2 : Int32} {t0 : Int32} {f : St} (h : wbX7_unwinds_62 K0 Q x1 x2 t0 f) : AM p l e R s m args below meth c D cs b 3 o Z z u (pV Q) 62 [(0, .ref o), (1, .int x1), (2, .int x2)] [.int t0, .ref o] f := by
  have E1 := E.1
  refine ag_iconst E1 dX7_unwinds_62 ki_1 ?_
  refine ag_goto E1 (tgt := 67) dX7_unwinds_63 (by decide) ?_
  exact tbX7_unwinds_67 E hK0 h
theorem tbX7_unwinds_0 (E : EM p R s m args meth c cX7_unwinds 3 none D cs b H0 XK 1 21 z u) {Q : St → Prop} {K0 : Int32 → St → Prop} (hK0 : ∀ (x1 : Int32) (f : St), K0 x1 f → AM p l e R s m args below meth c D cs b 3 o Z z u (pV Q) 0 [(0, .ref o), (1, .int x1)] [] f) {x1 : Int32} {f : St} (h : wbX7_unwinds_0 K0 Q x1 f) : AM p l e R s m args below meth c D cs b 3 o Z z u (pV Q) 0 [(0, .ref o), (1, .int x1)] [] f := by
  have E1 := E.1
  refine ag_aload_n E1 dX7_unwinds_0 rfl 0 rfl ?_
  refine am_geti E 46 (by decide) rfl q1496 dX7_unwinds_1 ?_
  refine ag_if_le E1 (tgt := 79) dX7_unwinds_4 (by decide) (fun c_4 => ?_) (fun c_4 => ?_)
  · have h := h.1 c_4
    exact am_vret E rfl ⟨rfl, h⟩ dX7_unwinds_79
  · have h := h.2 c_4
    refine ag_aload_n E1 dX7_unwinds_7 rfl 0 rfl ?_
    refine am_geta E 45 (i := 27) (by decide) (by decide) rfl q1495 dX7_unwinds_8 ?_
    refine ag_aload_n E1 dX7_unwinds_11 rfl 0 rfl ?_
    refine am_geti E 46 (by decide) rfl q1496 dX7_unwinds_12 ?_
    refine ag_iconst E1 dX7_unwinds_15 ki_1 ?_
    refine ag_isub E1 dX7_unwinds_16 ?_
    obtain ⟨hin, h⟩ := h
    refine am_iald E 45 rfl rfl rfl (by decide) hin dX7_unwinds_17 ?_
    refine am_callSi E [.int (f 45 (Int32.toNatClampNeg ((f 99 46) - (1 : Int32))))] (kX7_rank _ _ _ _ _ _ _ _ _ _ _ _ _ h) (lw_S q1693 q1694 q107 q1695) hdX7_rank (Nat.le_of_ble_eq_true rfl) (Nat.le_of_ble_eq_true rfl) rfl (Nat.le_of_ble_eq_true rfl) dX7_unwinds_18 rfl (fun r_2 f_1 h => ?_)
    refine ag_iload_n E1 dX7_unwinds_21 rfl 1 rfl ?_
    refine ag_icmp_lt E1 (tgt := 79) dX7_unwinds_22 (by decide) (fun c_22 => ?_) (fun c_22 => ?_)
    · have h := h.1 c_22
      exact am_vret E rfl ⟨rfl, h⟩ dX7_unwinds_79
    · have h := h.2 c_22
      refine ag_aload_n E1 dX7_unwinds_25 rfl 0 rfl ?_
      refine ag_dup E1 dX7_unwinds_26 rfl ?_
      refine am_geti E 46 (by decide) rfl q1496 dX7_unwinds_27 ?_
      refine ag_iconst E1 dX7_unwinds_30 ki_1 ?_
      refine ag_isub E1 dX7_unwinds_31 ?_
      refine am_puti E 46 (by decide) rfl q1496 rfl (ty := .int) (by decide +kernel) rfl rfl dX7_unwinds_32 (fun f_3 e_f_3 => ?_)
      have h := h f_3 e_f_3
      refine ag_aload_n E1 dX7_unwinds_35 rfl 0 rfl ?_
      refine am_geta E 45 (i := 27) (by decide) (by decide) rfl q1495 dX7_unwinds_36 ?_
      refine ag_aload_n E1 dX7_unwinds_39 rfl 0 rfl ?_
      refine am_geti E 46 (by decide) rfl q1496 dX7_unwinds_40 ?_
      obtain ⟨hin, h⟩ := h
      refine am_iald E 45 rfl rfl rfl (by decide) hin dX7_unwinds_43 ?_
      refine ag_topi (fun x2_4 e_x2_4 => ?_)
      have h := h x2_4 e_x2_4
      refine ag_istore_n E1 (lv' := [(2, .int x2_4), (0, .ref o), (1, .int x1)]) dX7_unwinds_44 rfl (Nat.lt_of_lt_of_le (Nat.le_refl _) (Nat.le_of_ble_eq_true rfl)) rfl ?_
      refine ag_aload_n E1 dX7_unwinds_45 rfl 1 rfl ?_
      refine ag_dup E1 dX7_unwinds_46 rfl ?_
      refine am_geti E 47 (by decide) rfl q1497 dX7_unwinds_47 ?_
      refine ag_iload_n E1 dX7_unwinds_50 rfl 0 rfl ?_
      refine ag_bipush E1 dX7_unwinds_51 kb_13 ?_
      refine ag_icmp_eq E1 (tgt := 62) dX7_unwinds_53 (by decide) (fun c_53 => ?_) (fun c_53 => ?_)
      · have h := h.1 c_53
        refine ag_sub (lv' := [(0, .ref o), (1, .int x1), (2, .int x2_4)]) [1, 2, 0] rfl ?_
        exact tbX7_unwinds_62 E hK0 h
      · have h := h.2 c_53
        refine ag_iload_n E1 dX7_unwinds_56 rfl 0 rfl ?_
        refine ag_bipush E1 dX7_unwinds_57 kb_19 ?_
        refine ag_icmp_ne E1 (tgt := 66) dX7_unwinds_59 (by decide) (fun c_59 => ?_) (fun c_59 => ?_)
        · have h := h.1 c_59
          refine ag_iconst E1 dX7_unwinds_66 ki_0 ?_
          refine ag_sub (lv' := [(0, .ref o), (1, .int x1), (2, .int x2_4)]) [1, 2, 0] rfl ?_
          exact tbX7_unwinds_67 E hK0 h
        · have h := h.2 c_59
          refine ag_sub (lv' := [(0, .ref o), (1, .int x1), (2, .int x2_4)]) [1, 2, 0] rfl ?_
          exact tbX7_unwinds_62 E hK0 h
theorem tlX7_unwinds_0 (E : EM p R s m args meth c cX7_unwinds 3 none D cs b H0 XK 1 21 z u) {Q : St → Prop}  : ∀ (n : Nat) (x1 : Int32) (f : St), wlX7_unwinds_0  Q n x1 f → AM p l e R s m args below meth c D cs b 3 o Z z u (pV Q) 0 [(0, .ref o), (1, .int x1)] [] f := by
  intro n
  induction n with
  | zero => intro _ _ h; exact h.elim
  | succ n ih => intro x1 f h; exact tbX7_unwinds_0 E ih h
theorem kX7_unwinds (l : Launch) (D : va_G) (cs : Nat → ClassId) (b : Nat) (H0 : Heap) (XK : State → Prop) (o : Nat) (Z : cP) (z u : Nat) (f : St) (x1 : Int32) (Q : St → Prop) (h : wX7_unwinds f x1 Q) : CM l D cs b H0 XK o Z z u yX7_unwinds cX7_unwinds 3 none 1 21 [.ref o, .int x1] f (pV Q) := by
  refine cm_of (by decide) rfl (Nat.le_of_ble_eq_true rfl) (fun p e R s m below meth c E => ?_)
  have E1 := E.1
  refine ag_sub (lv' := [(0, .ref o), (1, .int x1)]) [0, 1] rfl ?_
  obtain ⟨n, h⟩ := h
  exact tlX7_unwinds_0 E  n _ _ h
theorem hdX7_unwinds : yX7_unwinds.cls = RX7 ∧ yX7_unwinds.cls ≠ "java/lang/invoke/MethodHandle" ∧ yX7_unwinds.cls ≠ "java/lang/invoke/VarHandle" ∧ (parseMethodDescriptor yX7_unwinds.desc).map (fun d => d.parameters.length) = some 1 := by decide +kernel
theorem kX7_holds (l : Launch) (D : va_G) (cs : Nat → ClassId) (b : Nat) (H0 : Heap) (XK : State → Prop) (o : Nat) (Z : cP) (z u : Nat) (f : St) (x1 : Int32) (Q : St → Prop) (h : wX7_holds f x1 Q) : CM l D cs b H0 XK o Z z u yX7_holds cX7_holds 2 none 0 0 [.ref o, .int x1] f (pV Q) := by
  refine cm_of (by decide) rfl (Nat.le_of_ble_eq_true rfl) (fun p e R s m below meth c E => ?_)
  have E1 := E.1
  refine ag_sub (lv' := [(0, .ref o), (1, .int x1)]) [0, 1] rfl ?_
  refine ag_aload_n E1 dX7_holds_0 rfl 0 rfl ?_
  refine am_geta E 45 (i := 27) (by decide) (by decide) rfl q1495 dX7_holds_1 ?_
  refine ag_aload_n E1 dX7_holds_4 rfl 0 rfl ?_
  refine am_geti E 46 (by decide) rfl q1496 dX7_holds_5 ?_
  refine ag_iload_n E1 dX7_holds_8 rfl 1 rfl ?_
  obtain ⟨hin, h⟩ := h
  refine am_iast E 45 rfl rfl rfl (by decide) hin dX7_holds_9 (fun f_1 e_f_1 => ?_)
  have h := h f_1 e_f_1
  refine ag_aload_n E1 dX7_holds_10 rfl 0 rfl ?_
  refine ag_dup E1 dX7_holds_11 rfl ?_
  refine am_geti E 46 (by decide) rfl q1496 dX7_holds_12 ?_
  refine ag_iconst E1 dX7_holds_15 ki_1 ?_
  refine ag_iadd E1 dX7_holds_16 ?_
  refine am_puti E 46 (by decide) rfl q1496 rfl (ty := .int) (by decide +kernel) rfl rfl dX7_holds_17 (fun f_2 e_f_2 => ?_)
  have h := h f_2 e_f_2
  exact am_vret E rfl ⟨rfl, h⟩ dX7_holds_20
theorem hdX7_holds : yX7_holds.cls = RX7 ∧ yX7_holds.cls ≠ "java/lang/invoke/MethodHandle" ∧ yX7_holds.cls ≠ "java/lang/invoke/VarHandle" ∧ (parseMethodDescriptor yX7_holds.desc).map (fun d => d.parameters.length) = some 1 := by decide +kernel
theorem kX7_opensOne (l : Launch) (D : va_G) (cs : Nat → ClassId) (b : Nat) (H0 : Heap) (XK : State → Prop) (o : Nat) (Z : cP) (z u : Nat) (f : St) (x1 : Int32) (Q : Int32 → St → Prop) (h : wX7_opensOne f x1 Q) : CM l D cs b H0 XK o Z z u yX7_opensOne cX7_opensOne 2 (some .boolean) 1 21 [.ref o, .int x1] f (pI Q) := by
  refine cm_of (by decide) rfl (Nat.le_of_ble_eq_true rfl) (fun p e R s m below meth c E => ?_)
  have E1 := E.1
  refine ag_sub (lv' := [(0, .ref o), (1, .int x1)]) [0, 1] rfl ?_
  refine ag_aload_n E1 dX7_opensOne_0 rfl 0 rfl ?_
  refine am_geti E 47 (by decide) rfl q1497 dX7_opensOne_1 ?_
  refine ag_iconst E1 dX7_opensOne_4 ki_5 ?_
  refine ag_icmp_ne E1 (tgt := 10) dX7_opensOne_5 (by decide) (fun c_5 => ?_) (fun c_5 => ?_)
  · have h := h.1 c_5
    refine ag_aload_n E1 dX7_opensOne_10 rfl 0 rfl ?_
    refine ag_dup E1 dX7_opensOne_11 rfl ?_
    refine am_geti E 47 (by decide) rfl q1497 dX7_opensOne_12 ?_
    refine ag_iconst E1 dX7_opensOne_15 ki_1 ?_
    refine ag_iadd E1 dX7_opensOne_16 ?_
    refine am_puti E 47 (by decide) rfl q1497 rfl (ty := .int) (by decide +kernel) rfl rfl dX7_opensOne_17 (fun f_1 e_f_1 => ?_)
    have h := h f_1 e_f_1
    refine ag_aload_n E1 dX7_opensOne_20 rfl 0 rfl ?_
    refine ag_iload_n E1 dX7_opensOne_21 rfl 1 rfl ?_
    refine am_callVv E [.int x1] (kX7_holds _ _ _ _ _ _ _ _ _ _ _ _ _ h) (lw_V q1700 q1702 qs54 q107 q1703) hdX7_holds (Nat.le_of_ble_eq_true rfl) (Nat.le_of_ble_eq_true rfl) rfl (Nat.le_of_ble_eq_true rfl) dX7_opensOne_22 rfl (fun f_2 h => ?_)
    refine ag_iconst E1 dX7_opensOne_25 ki_1 ?_
    exact am_zret E rfl (Or.inr rfl) ⟨_, rfl, h⟩ dX7_opensOne_26
  · have h := h.2 c_5
    refine ag_iconst E1 dX7_opensOne_8 ki_0 ?_
    exact am_zret E rfl (Or.inl rfl) ⟨_, rfl, h⟩ dX7_opensOne_9
theorem hdX7_opensOne : yX7_opensOne.cls = RX7 ∧ yX7_opensOne.cls ≠ "java/lang/invoke/MethodHandle" ∧ yX7_opensOne.cls ≠ "java/lang/invoke/VarHandle" ∧ (parseMethodDescriptor yX7_opensOne.desc).map (fun d => d.parameters.length) = some 1 := by decide +kernel
theorem kX7_signOf (l : Launch) (D : va_G) (cs : Nat → ClassId) (b : Nat) (H0 : Heap) (XK : State → Prop) (o : Nat) (Z : cP) (z u : Nat) (f : St)  (Q : Int32 → St → Prop) (h : wX7_signOf f  Q) : CM l D cs b H0 XK o Z z u yX7_signOf cX7_signOf 1 (some .int) 0 0 [.ref o] f (pI Q) := by
  refine cm_of (by decide) rfl (Nat.le_of_ble_eq_true rfl) (fun p e R s m below meth c E => ?_)
  have E1 := E.1
  refine ag_sub (lv' := [(0, .ref o)]) [0] rfl ?_
  refine ag_aload_n E1 dX7_signOf_0 rfl 0 rfl ?_
  refine am_geti E 42 (by decide) rfl q1492 dX7_signOf_1 ?_
  refine ag_iconst E1 dX7_signOf_4 ki_4 ?_
  refine ag_icmp_ne E1 (tgt := 13) dX7_signOf_5 (by decide) (fun c_5 => ?_) (fun c_5 => ?_)
  · have h := h.1 c_5
    refine ag_aload_n E1 dX7_signOf_13 rfl 0 rfl ?_
    refine am_geti E 42 (by decide) rfl q1492 dX7_signOf_14 ?_
    refine ag_iconst E1 dX7_signOf_17 ki_5 ?_
    refine ag_icmp_ne E1 (tgt := 26) dX7_signOf_18 (by decide) (fun c_18 => ?_) (fun c_18 => ?_)
    · have h := h.1 c_18
      refine ag_aload_n E1 dX7_signOf_26 rfl 0 rfl ?_
      refine am_geti E 42 (by decide) rfl q1492 dX7_signOf_27 ?_
      refine ag_bipush E1 dX7_signOf_30 kb_60 ?_
      refine ag_icmp_ne E1 (tgt := 40) dX7_signOf_32 (by decide) (fun c_32 => ?_) (fun c_32 => ?_)
      · have h := h.1 c_32
        refine ag_aload_n E1 dX7_signOf_40 rfl 0 rfl ?_
        refine am_geti E 42 (by decide) rfl q1492 dX7_signOf_41 ?_
        refine ag_bipush E1 dX7_signOf_44 kb_61 ?_
        refine ag_icmp_ne E1 (tgt := 54) dX7_signOf_46 (by decide) (fun c_46 => ?_) (fun c_46 => ?_)
        · have h := h.1 c_46
          refine ag_aload_n E1 dX7_signOf_54 rfl 0 rfl ?_
          refine am_geti E 42 (by decide) rfl q1492 dX7_signOf_55 ?_
          refine ag_bipush E1 dX7_signOf_58 kb_43 ?_
          refine ag_icmp_ne E1 (tgt := 68) dX7_signOf_60 (by decide) (fun c_60 => ?_) (fun c_60 => ?_)
          · have h := h.1 c_60
            refine ag_aload_n E1 dX7_signOf_68 rfl 0 rfl ?_
            refine am_geti E 42 (by decide) rfl q1492 dX7_signOf_69 ?_
            refine ag_bipush E1 dX7_signOf_72 kb_45 ?_
            refine ag_icmp_ne E1 (tgt := 82) dX7_signOf_74 (by decide) (fun c_74 => ?_) (fun c_74 => ?_)
            · have h := h.1 c_74
              refine ag_aload_n E1 dX7_signOf_82 rfl 0 rfl ?_
              refine am_geti E 42 (by decide) rfl q1492 dX7_signOf_83 ?_
              refine ag_bipush E1 dX7_signOf_86 kb_42 ?_
              refine ag_icmp_ne E1 (tgt := 96) dX7_signOf_88 (by decide) (fun c_88 => ?_) (fun c_88 => ?_)
              · have h := h.1 c_88
                refine ag_iconst E1 dX7_signOf_96 ki_m1 ?_
                exact am_iret E rfl ⟨_, rfl, h⟩ dX7_signOf_97
              · have h := h.2 c_88
                refine ag_bipush E1 dX7_signOf_91 kb_18 ?_
                refine ag_goto E1 (tgt := 97) dX7_signOf_93 (by decide) ?_
                exact am_iret E rfl ⟨_, rfl, h⟩ dX7_signOf_97
            · have h := h.2 c_74
              refine ag_bipush E1 dX7_signOf_77 kb_17 ?_
              refine ag_goto E1 (tgt := 97) dX7_signOf_79 (by decide) ?_
              exact am_iret E rfl ⟨_, rfl, h⟩ dX7_signOf_97
          · have h := h.2 c_60
            refine ag_bipush E1 dX7_signOf_63 kb_16 ?_
            refine ag_goto E1 (tgt := 97) dX7_signOf_65 (by decide) ?_
            exact am_iret E rfl ⟨_, rfl, h⟩ dX7_signOf_97
        · have h := h.2 c_46
          refine ag_bipush E1 dX7_signOf_49 kb_15 ?_
          refine ag_goto E1 (tgt := 97) dX7_signOf_51 (by decide) ?_
          exact am_iret E rfl ⟨_, rfl, h⟩ dX7_signOf_97
      · have h := h.2 c_32
        refine ag_bipush E1 dX7_signOf_35 kb_14 ?_
        refine ag_goto E1 (tgt := 97) dX7_signOf_37 (by decide) ?_
        exact am_iret E rfl ⟨_, rfl, h⟩ dX7_signOf_97
    · have h := h.2 c_18
      refine ag_bipush E1 dX7_signOf_21 kb_12 ?_
      refine ag_goto E1 (tgt := 97) dX7_signOf_23 (by decide) ?_
      exact am_iret E rfl ⟨_, rfl, h⟩ dX7_signOf_97
  · have h := h.2 c_5
    refine ag_bipush E1 dX7_signOf_8 kb_11 ?_
    refine ag_goto E1 (tgt := 97) dX7_signOf_10 (by decide) ?_
    exact am_iret E rfl ⟨_, rfl, h⟩ dX7_signOf_97
theorem hdX7_signOf : yX7_signOf.cls = RX7 ∧ yX7_signOf.cls ≠ "java/lang/invoke/MethodHandle" ∧ yX7_signOf.cls ≠ "java/lang/invoke/VarHandle" ∧ (parseMethodDescriptor yX7_signOf.desc).map (fun d => d.parameters.length) = some 0 := by decide +kernel
theorem tbX7_between_55 (E : EM p R s m args meth c cX7_between 2 (some .boolean) D cs b H0 XK 2 43 z u) {Q : Int32 → St → Prop}  {x1 : Int32} {f : St} (h : wbX7_between_55  Q x1 f) : AM p l e R s m args below meth c D cs b 2 o Z z u (pI Q) 55 [(0, .ref o), (1, .int x1)] [] f := by
  have E1 := E.1
  refine ag_aload_n E1 dX7_between_55 rfl 0 rfl ?_
  refine ag_iload_n E1 dX7_between_56 rfl 1 rfl ?_
  refine am_callVv E [.int x1] (kX7_holds _ _ _ _ _ _ _ _ _ _ _ _ _ h) (lw_V q1700 q1702 qs54 q107 q1703) hdX7_holds (Nat.le_of_ble_eq_true rfl) (Nat.le_of_ble_eq_true rfl) rfl (Nat.le_of_ble_eq_true rfl) dX7_between_57 rfl (fun f_8 h => ?_)
  refine ag_iconst E1 dX7_between_60 ki_1 ?_
  exact am_zret E rfl (Or.inr rfl) ⟨_, rfl, h⟩ dX7_between_61
theorem tbX7_between_17 (E : EM p R s m args meth c cX7_between 2 (some .boolean) D cs b H0 XK 2 43 z u) {Q : Int32 → St → Prop}  {x1 : Int32} {t0 : Int32} {f : St} (h : wbX7_between_17  Q x1 t0 f) : AM p l e R s m args below meth c D cs b 2 o Z z u (pI Q) 17 [(0, .ref o), (1, .int x1)] [.int t0, .ref o] f := by
  have E1 := E.1
  refine am_callVv E [.int t0] (kX7_unwinds _ _ _ _ _ _ _ _ _ _ _ _ _ h) (lw_V q1689 q1691 qs52 q107 q1692) hdX7_unwinds (Nat.le_of_ble_eq_true rfl) (Nat.le_of_ble_eq_true rfl) rfl (Nat.le_of_ble_eq_true rfl) dX7_between_17 rfl (fun f_5 h => ?_)
  refine ag_iload_n E1 dX7_between_20 rfl 1 rfl ?_
  refine am_callSi E [.int x1] (kX7_rank _ _ _ _ _ _ _ _ _ _ _ _ _ h) (lw_S q1693 q1694 q107 q1695) hdX7_rank (Nat.le_of_ble_eq_true rfl) (Nat.le_of_ble_eq_true rfl) rfl (Nat.le_of_ble_eq_true rfl) dX7_between_21 rfl (fun r_7 f_6 h => ?_)
  refine ag_iconst E1 dX7_between_24 ki_4 ?_
  refine ag_icmp_ne E1 (tgt := 55) dX7_between_25 (by decide) (fun c_25 => ?_) (fun c_25 => ?_)
  · have h := h.1 c_25
    exact tbX7_between_55 E  h
  · have h := h.2 c_25
    refine ag_aload_n E1 dX7_between_28 rfl 0 rfl ?_
    refine am_geti E 46 (by decide) rfl q1496 dX7_between_29 ?_
    refine ag_if_le E1 (tgt := 55) dX7_between_32 (by decide) (fun c_32 => ?_) (fun c_32 => ?_)
    · have h := h.1 c_32
      exact tbX7_between_55 E  h
    · have h := h.2 c_32
      refine ag_aload_n E1 dX7_between_35 rfl 0 rfl ?_
      refine am_geta E 45 (i := 27) (by decide) (by decide) rfl q1495 dX7_between_36 ?_
      refine ag_aload_n E1 dX7_between_39 rfl 0 rfl ?_
      refine am_geti E 46 (by decide) rfl q1496 dX7_between_40 ?_
      refine ag_iconst E1 dX7_between_43 ki_1 ?_
      refine ag_isub E1 dX7_between_44 ?_
      obtain ⟨hin, h⟩ := h
      refine am_iald E 45 rfl rfl rfl (by decide) hin dX7_between_45 ?_
      refine am_callSi E [.int (f_6 45 (Int32.toNatClampNeg ((f_6 99 46) - (1 : Int32))))] (kX7_rank _ _ _ _ _ _ _ _ _ _ _ _ _ h) (lw_S q1693 q1694 q107 q1695) hdX7_rank (Nat.le_of_ble_eq_true rfl) (Nat.le_of_ble_eq_true rfl) rfl (Nat.le_of_ble_eq_true rfl) dX7_between_46 rfl (fun r_10 f_9 h => ?_)
      refine ag_iconst E1 dX7_between_49 ki_4 ?_
      refine ag_icmp_ne E1 (tgt := 55) dX7_between_50 (by decide) (fun c_50 => ?_) (fun c_50 => ?_)
      · have h := h.1 c_50
        exact tbX7_between_55 E  h
      · have h := h.2 c_50
        refine ag_iconst E1 dX7_between_53 ki_0 ?_
        exact am_zret E rfl (Or.inl rfl) ⟨_, rfl, h⟩ dX7_between_54
theorem kX7_between (l : Launch) (D : va_G) (cs : Nat → ClassId) (b : Nat) (H0 : Heap) (XK : State → Prop) (o : Nat) (Z : cP) (z u : Nat) (f : St) (x1 : Int32) (Q : Int32 → St → Prop) (h : wX7_between f x1 Q) : CM l D cs b H0 XK o Z z u yX7_between cX7_between 2 (some .boolean) 2 43 [.ref o, .int x1] f (pI Q) := by
  refine cm_of (by decide) rfl (Nat.le_of_ble_eq_true rfl) (fun p e R s m below meth c E => ?_)
  have E1 := E.1
  refine ag_sub (lv' := [(0, .ref o), (1, .int x1)]) [0, 1] rfl ?_
  refine ag_aload_n E1 dX7_between_0 rfl 0 rfl ?_
  refine ag_iload_n E1 dX7_between_1 rfl 1 rfl ?_
  refine am_callSi E [.int x1] (kX7_rank _ _ _ _ _ _ _ _ _ _ _ _ _ h) (lw_S q1693 q1694 q107 q1695) hdX7_rank (Nat.le_of_ble_eq_true rfl) (Nat.le_of_ble_eq_true rfl) rfl (Nat.le_of_ble_eq_true rfl) dX7_between_2 rfl (fun r_2 f_1 h => ?_)
  refine ag_iconst E1 dX7_between_5 ki_4 ?_
  refine ag_icmp_ne E1 (tgt := 13) dX7_between_6 (by decide) (fun c_6 => ?_) (fun c_6 => ?_)
  · have h := h.1 c_6
    refine ag_iload_n E1 dX7_between_13 rfl 1 rfl ?_
    refine am_callSi E [.int x1] (kX7_rank _ _ _ _ _ _ _ _ _ _ _ _ _ h) (lw_S q1693 q1694 q107 q1695) hdX7_rank (Nat.le_of_ble_eq_true rfl) (Nat.le_of_ble_eq_true rfl) rfl (Nat.le_of_ble_eq_true rfl) dX7_between_14 rfl (fun r_4 f_3 h => ?_)
    exact tbX7_between_17 E  h
  · have h := h.2 c_6
    refine ag_iconst E1 dX7_between_9 ki_5 ?_
    refine ag_goto E1 (tgt := 17) dX7_between_10 (by decide) ?_
    exact tbX7_between_17 E  h
theorem hdX7_between : yX7_between.cls = RX7 ∧ yX7_between.cls ≠ "java/lang/invoke/MethodHandle" ∧ yX7_between.cls ≠ "java/lang/invoke/VarHandle" ∧ (parseMethodDescriptor yX7_between.desc).map (fun d => d.parameters.length) = some 1 := by decide +kernel
theorem tbX7_eRead_262 (E : EM p R s m args meth c cX7_eRead 4 (some .boolean) D cs b H0 XK 3 69 z u) {Q : Int32 → St → Prop} {K14 : Int32 → Int32 → St → Prop} (hK14 : ∀ (x1 : Int32) (x2 : Int32) (f : St), K14 x1 x2 f → AM p l e R s m args below meth c D cs b 4 o Z z u (pI Q) 14 [(0, .ref o), (1, .int x1), (2, .int x2)] [] f) {K159 : St → Prop} (hK159 : ∀  (f : St), K159  f → AM p l e R s m args below meth c D cs b 4 o Z z u (pI Q) 159 [(0, .ref o)] [] f) {x1 : Int32} {t0 : Int32} {f : St} (h : wbX7_eRead_262 K14 K159 Q x1 t0 f) : AM p l e R s m args below meth c D cs b 4 o Z z u (pI Q) 262 [(0, .ref o), (1, .int x1)] [.int t0] f := by
  have E1 := E.1
  refine ag_istore_n E1 (lv' := [(2, .int t0), (0, .ref o), (1, .int x1)]) dX7_eRead_262 rfl (Nat.lt_of_lt_of_le (Nat.le_refl _) (Nat.le_of_ble_eq_true rfl)) rfl ?_
  refine ag_goto E1 (tgt := 14) dX7_eRead_263 (by decide) ?_
  refine ag_sub (lv' := [(0, .ref o), (1, .int x1), (2, .int t0)]) [1, 2, 0] rfl ?_
  exact hK14 _ _ _ h
theorem tbX7_eRead_61 (E : EM p R s m args meth c cX7_eRead 4 (some .boolean) D cs b H0 XK 3 69 z u) {Q : Int32 → St → Prop} {K14 : Int32 → Int32 → St → Prop} (hK14 : ∀ (x1 : Int32) (x2 : Int32) (f : St), K14 x1 x2 f → AM p l e R s m args below meth c D cs b 4 o Z z u (pI Q) 14 [(0, .ref o), (1, .int x1), (2, .int x2)] [] f) {K159 : St → Prop} (hK159 : ∀  (f : St), K159  f → AM p l e R s m args below meth c D cs b 4 o Z z u (pI Q) 159 [(0, .ref o)] [] f) {x2 : Int32} {t0 : Int32} {f : St} (h : wbX7_eRead_61 K14 K159 Q x2 t0 f) : AM p l e R s m args below meth c D cs b 4 o Z z u (pI Q) 61 [(0, .ref o), (2, .int x2)] [.int t0, .ref o] f := by
  have E1 := E.1
  refine am_callVv E [.int t0] (kX7_puts _ _ _ _ _ _ _ _ _ _ _ _ _ h) (lw_V q1685 q1687 qs51 q107 q1688) hdX7_puts (Nat.le_of_ble_eq_true rfl) (Nat.le_of_ble_eq_true rfl) rfl (Nat.le_of_ble_eq_true rfl) dX7_eRead_61 rfl (fun f_12 h => ?_)
  refine ag_aload_n E1 dX7_eRead_64 rfl 0 rfl ?_
  refine ag_bipush E1 dX7_eRead_65 kb_7 ?_
  refine am_callVv E [.int (7 : Int32)] (kX7_unwinds _ _ _ _ _ _ _ _ _ _ _ _ _ h) (lw_V q1689 q1691 qs52 q107 q1692) hdX7_unwinds (Nat.le_of_ble_eq_true rfl) (Nat.le_of_ble_eq_true rfl) rfl (Nat.le_of_ble_eq_true rfl) dX7_eRead_67 rfl (fun f_13 h => ?_)
  refine ag_iconst E1 dX7_eRead_70 ki_0 ?_
  refine ag_istore_n E1 (lv' := [(1, .int (0 : Int32)), (0, .ref o), (2, .int x2)]) dX7_eRead_71 rfl (Nat.lt_of_lt_of_le (Nat.le_refl _) (Nat.le_of_ble_eq_true rfl)) rfl ?_
  refine ag_goto E1 (tgt := 14) dX7_eRead_72 (by decide) ?_
  refine ag_sub (lv' := [(0, .ref o), (1, .int (0 : Int32)), (2, .int x2)]) [1, 0, 2] rfl ?_
  exact hK14 _ _ _ h
theorem tbX7_eRead_38 (E : EM p R s m args meth c cX7_eRead 4 (some .boolean) D cs b H0 XK 3 69 z u) {Q : Int32 → St → Prop} {K14 : Int32 → Int32 → St → Prop} (hK14 : ∀ (x1 : Int32) (x2 : Int32) (f : St), K14 x1 x2 f → AM p l e R s m args below meth c D cs b 4 o Z z u (pI Q) 14 [(0, .ref o), (1, .int x1), (2, .int x2)] [] f) {K159 : St → Prop} (hK159 : ∀  (f : St), K159  f → AM p l e R s m args below meth c D cs b 4 o Z z u (pI Q) 159 [(0, .ref o)] [] f) {x2 : Int32} {f : St} (h : wbX7_eRead_38 K14 K159 Q x2 f) : AM p l e R s m args below meth c D cs b 4 o Z z u (pI Q) 38 [(0, .ref o), (2, .int x2)] [] f := by
  have E1 := E.1
  refine ag_aload_n E1 dX7_eRead_38 rfl 0 rfl ?_
  refine ag_aload_n E1 dX7_eRead_39 rfl 0 rfl ?_
  refine am_geti E 42 (by decide) rfl q1492 dX7_eRead_40 ?_
  refine ag_iconst E1 dX7_eRead_43 ki_1 ?_
  refine ag_icmp_ne E1 (tgt := 57) dX7_eRead_44 (by decide) (fun c_44 => ?_) (fun c_44 => ?_)
  · have h := h.1 c_44
    refine ag_aload_n E1 dX7_eRead_57 rfl 0 rfl ?_
    refine am_geti E 43 (by decide) rfl q1493 dX7_eRead_58 ?_
    exact tbX7_eRead_61 E hK14 hK159 h
  · have h := h.2 c_44
    refine ag_ldc E1 q1684 dX7_eRead_47 ?_
    refine ag_aload_n E1 dX7_eRead_49 rfl 0 rfl ?_
    refine am_geti E 43 (by decide) rfl q1493 dX7_eRead_50 ?_
    refine ag_iadd E1 dX7_eRead_53 ?_
    refine ag_goto E1 (tgt := 61) dX7_eRead_54 (by decide) ?_
    exact tbX7_eRead_61 E hK14 hK159 h
theorem tbX7_eRead_99 (E : EM p R s m args meth c cX7_eRead 4 (some .boolean) D cs b H0 XK 3 69 z u) {Q : Int32 → St → Prop} {K14 : Int32 → Int32 → St → Prop} (hK14 : ∀ (x1 : Int32) (x2 : Int32) (f : St), K14 x1 x2 f → AM p l e R s m args below meth c D cs b 4 o Z z u (pI Q) 14 [(0, .ref o), (1, .int x1), (2, .int x2)] [] f) {K159 : St → Prop} (hK159 : ∀  (f : St), K159  f → AM p l e R s m args below meth c D cs b 4 o Z z u (pI Q) 159 [(0, .ref o)] [] f) {x1 : Int32} {f : St} (h : wbX7_eRead_99 K14 K159 Q x1 f) : AM p l e R s m args below meth c D cs b 4 o Z z u (pI Q) 99 [(0, .ref o), (1, .int x1)] [] f := by
  have E1 := E.1
  refine ag_aload_n E1 dX7_eRead_99 rfl 0 rfl ?_
  refine am_geti E 42 (by decide) rfl q1492 dX7_eRead_100 ?_
  refine ag_bipush E1 dX7_eRead_103 kb_45 ?_
  refine ag_icmp_ne E1 (tgt := 124) dX7_eRead_105 (by decide) (fun c_105 => ?_) (fun c_105 => ?_)
  · have h := h.1 c_105
    refine ag_aload_n E1 dX7_eRead_124 rfl 0 rfl ?_
    refine am_geti E 42 (by decide) rfl q1492 dX7_eRead_125 ?_
    refine ag_bipush E1 dX7_eRead_128 kb_40 ?_
    refine ag_icmp_ne E1 (tgt := 148) dX7_eRead_130 (by decide) (fun c_130 => ?_) (fun c_130 => ?_)
    · have h := h.1 c_130
      refine ag_iconst E1 dX7_eRead_148 ki_0 ?_
      exact am_zret E rfl (Or.inl rfl) ⟨_, rfl, h⟩ dX7_eRead_149
    · have h := h.2 c_130
      refine ag_aload_n E1 dX7_eRead_133 rfl 0 rfl ?_
      refine ag_iconst E1 dX7_eRead_134 ki_0 ?_
      refine am_callVi E [.int (0 : Int32)] (kX7_opensOne _ _ _ _ _ _ _ _ _ _ _ _ _ h) (lw_V q1696 q1698 qs53 q107 q1699) hdX7_opensOne (Nat.le_of_ble_eq_true rfl) (Nat.le_of_ble_eq_true rfl) rfl (Nat.le_of_ble_eq_true rfl) dX7_eRead_135 rfl (fun r_15 f_14 h => ?_)
      refine ag_if_ne E1 (tgt := 143) dX7_eRead_138 (by decide) (fun c_138 => ?_) (fun c_138 => ?_)
      · have h := h.1 c_138
        refine ag_iconst E1 dX7_eRead_143 ki_1 ?_
        refine ag_istore_n E1 (lv' := [(2, .int (1 : Int32)), (0, .ref o), (1, .int x1)]) dX7_eRead_144 rfl (Nat.lt_of_lt_of_le (Nat.le_refl _) (Nat.le_of_ble_eq_true rfl)) rfl ?_
        refine ag_goto E1 (tgt := 14) dX7_eRead_145 (by decide) ?_
        refine ag_sub (lv' := [(0, .ref o), (1, .int x1), (2, .int (1 : Int32))]) [1, 2, 0] rfl ?_
        exact hK14 _ _ _ h
      · have h := h.2 c_138
        refine ag_iconst E1 dX7_eRead_141 ki_0 ?_
        exact am_zret E rfl (Or.inl rfl) ⟨_, rfl, h⟩ dX7_eRead_142
  · have h := h.2 c_105
    refine ag_aload_n E1 dX7_eRead_108 rfl 0 rfl ?_
    refine ag_bipush E1 dX7_eRead_109 kb_19 ?_
    refine am_callVi E [.int (19 : Int32)] (kX7_opensOne _ _ _ _ _ _ _ _ _ _ _ _ _ h) (lw_V q1696 q1698 qs53 q107 q1699) hdX7_opensOne (Nat.le_of_ble_eq_true rfl) (Nat.le_of_ble_eq_true rfl) rfl (Nat.le_of_ble_eq_true rfl) dX7_eRead_111 rfl (fun r_17 f_16 h => ?_)
    refine ag_if_ne E1 (tgt := 119) dX7_eRead_114 (by decide) (fun c_114 => ?_) (fun c_114 => ?_)
    · have h := h.1 c_114
      refine ag_iconst E1 dX7_eRead_119 ki_0 ?_
      refine ag_istore_n E1 (lv' := [(2, .int (0 : Int32)), (0, .ref o), (1, .int x1)]) dX7_eRead_120 rfl (Nat.lt_of_lt_of_le (Nat.le_refl _) (Nat.le_of_ble_eq_true rfl)) rfl ?_
      refine ag_goto E1 (tgt := 14) dX7_eRead_121 (by decide) ?_
      refine ag_sub (lv' := [(0, .ref o), (1, .int x1), (2, .int (0 : Int32))]) [1, 2, 0] rfl ?_
      exact hK14 _ _ _ h
    · have h := h.2 c_114
      refine ag_iconst E1 dX7_eRead_117 ki_0 ?_
      exact am_zret E rfl (Or.inl rfl) ⟨_, rfl, h⟩ dX7_eRead_118
theorem tbX7_eRead_14 (E : EM p R s m args meth c cX7_eRead 4 (some .boolean) D cs b H0 XK 3 69 z u) {Q : Int32 → St → Prop} {K14 : Int32 → Int32 → St → Prop} (hK14 : ∀ (x1 : Int32) (x2 : Int32) (f : St), K14 x1 x2 f → AM p l e R s m args below meth c D cs b 4 o Z z u (pI Q) 14 [(0, .ref o), (1, .int x1), (2, .int x2)] [] f) {K159 : St → Prop} (hK159 : ∀  (f : St), K159  f → AM p l e R s m args below meth c D cs b 4 o Z z u (pI Q) 159 [(0, .ref o)] [] f) {x1 : Int32} {x2 : Int32} {f : St} (h : wbX7_eRead_14 K14 K159 Q x1 x2 f) : AM p l e R s m args below meth c D cs b 4 o Z z u (pI Q) 14 [(0, .ref o), (1, .int x1), (2, .int x2)] [] f := by
  have E1 := E.1
  refine ag_aload_n E1 dX7_eRead_14 rfl 0 rfl ?_
  refine am_callVv E [] (kX7_next _ _ _ _ _ _ _ _ _ _ _  _ h) (lw_V q1672 q1674 qs48 q107 q1675) hdX7_next (Nat.le_of_ble_eq_true rfl) (Nat.le_of_ble_eq_true rfl) rfl (Nat.le_of_ble_eq_true rfl) dX7_eRead_15 rfl (fun f_3 h => ?_)
  refine ag_iload_n E1 dX7_eRead_18 rfl 1 rfl ?_
  refine ag_if_eq E1 (tgt := 150) dX7_eRead_19 (by decide) (fun c_19 => ?_) (fun c_19 => ?_)
  · have h := h.1 c_19
    refine ag_aload_n E1 dX7_eRead_150 rfl 0 rfl ?_
    refine am_geti E 42 (by decide) rfl q1492 dX7_eRead_151 ?_
    refine ag_bipush E1 dX7_eRead_154 kb_59 ?_
    refine ag_icmp_ne E1 (tgt := 177) dX7_eRead_156 (by decide) (fun c_156 => ?_) (fun c_156 => ?_)
    · have h := h.1 c_156
      refine ag_aload_n E1 dX7_eRead_177 rfl 0 rfl ?_
      refine am_geti E 42 (by decide) rfl q1492 dX7_eRead_178 ?_
      refine ag_bipush E1 dX7_eRead_181 kb_41 ?_
      refine ag_icmp_ne E1 (tgt := 229) dX7_eRead_183 (by decide) (fun c_183 => ?_) (fun c_183 => ?_)
      · have h := h.1 c_183
        refine ag_aload_n E1 dX7_eRead_229 rfl 0 rfl ?_
        refine am_callVi E [] (kX7_signOf _ _ _ _ _ _ _ _ _ _ _  _ h) (lw_V q1704 q1706 qs55 q107 q1707) hdX7_signOf (Nat.le_of_ble_eq_true rfl) (Nat.le_of_ble_eq_true rfl) rfl (Nat.le_of_ble_eq_true rfl) dX7_eRead_230 rfl (fun r_5 f_4 h => ?_)
        refine ag_istore_n E1 (lv' := [(3, .int r_5), (0, .ref o), (1, .int x1), (2, .int x2)]) dX7_eRead_233 rfl (Nat.lt_of_lt_of_le (Nat.le_refl _) (Nat.le_of_ble_eq_true rfl)) rfl ?_
        refine ag_iload_n E1 dX7_eRead_234 rfl 0 rfl ?_
        refine ag_iconst E1 dX7_eRead_235 ki_m1 ?_
        refine ag_icmp_eq E1 (tgt := 247) dX7_eRead_236 (by decide) (fun c_236 => ?_) (fun c_236 => ?_)
        · have h := h.1 c_236
          refine ag_iconst E1 dX7_eRead_247 ki_0 ?_
          exact am_zret E rfl (Or.inl rfl) ⟨_, rfl, h⟩ dX7_eRead_248
        · have h := h.2 c_236
          refine ag_aload_n E1 dX7_eRead_239 rfl 1 rfl ?_
          refine ag_iload_n E1 dX7_eRead_240 rfl 0 rfl ?_
          refine am_callVi E [.int r_5] (kX7_between _ _ _ _ _ _ _ _ _ _ _ _ _ h) (lw_V q1708 q1710 qs56 q107 q1711) hdX7_between (Nat.le_of_ble_eq_true rfl) (Nat.le_of_ble_eq_true rfl) rfl (Nat.le_of_ble_eq_true rfl) dX7_eRead_241 rfl (fun r_7 f_6 h => ?_)
          refine ag_if_ne E1 (tgt := 249) dX7_eRead_244 (by decide) (fun c_244 => ?_) (fun c_244 => ?_)
          · have h := h.1 c_244
            refine ag_iconst E1 dX7_eRead_249 ki_1 ?_
            refine ag_istore_n E1 (lv' := [(1, .int (1 : Int32)), (3, .int r_5), (0, .ref o), (2, .int x2)]) dX7_eRead_250 rfl (Nat.lt_of_lt_of_le (Nat.le_refl _) (Nat.le_of_ble_eq_true rfl)) rfl ?_
            refine ag_iload_n E1 dX7_eRead_251 rfl 1 rfl ?_
            refine ag_bipush E1 dX7_eRead_252 kb_12 ?_
            refine ag_icmp_gt E1 (tgt := 261) dX7_eRead_254 (by decide) (fun c_254 => ?_) (fun c_254 => ?_)
            · have h := h.1 c_254
              refine ag_iconst E1 dX7_eRead_261 ki_0 ?_
              refine ag_sub (lv' := [(0, .ref o), (1, .int (1 : Int32))]) [2, 0] rfl ?_
              exact tbX7_eRead_262 E hK14 hK159 h
            · have h := h.2 c_254
              refine ag_iconst E1 dX7_eRead_257 ki_1 ?_
              refine ag_goto E1 (tgt := 262) dX7_eRead_258 (by decide) ?_
              refine ag_sub (lv' := [(0, .ref o), (1, .int (1 : Int32))]) [2, 0] rfl ?_
              exact tbX7_eRead_262 E hK14 hK159 h
          · have h := h.2 c_244
            refine ag_iconst E1 dX7_eRead_247 ki_0 ?_
            exact am_zret E rfl (Or.inl rfl) ⟨_, rfl, h⟩ dX7_eRead_248
      · have h := h.2 c_183
        refine ag_aload_n E1 dX7_eRead_186 rfl 0 rfl ?_
        refine ag_iconst E1 dX7_eRead_187 ki_1 ?_
        refine am_callVv E [.int (1 : Int32)] (kX7_unwinds _ _ _ _ _ _ _ _ _ _ _ _ _ h) (lw_V q1689 q1691 qs52 q107 q1692) hdX7_unwinds (Nat.le_of_ble_eq_true rfl) (Nat.le_of_ble_eq_true rfl) rfl (Nat.le_of_ble_eq_true rfl) dX7_eRead_188 rfl (fun f_8 h => ?_)
        refine ag_aload_n E1 dX7_eRead_191 rfl 0 rfl ?_
        refine am_geti E 46 (by decide) rfl q1496 dX7_eRead_192 ?_
        refine ag_if_ne E1 (tgt := 200) dX7_eRead_195 (by decide) (fun c_195 => ?_) (fun c_195 => ?_)
        · have h := h.1 c_195
          refine ag_aload_n E1 dX7_eRead_200 rfl 0 rfl ?_
          refine ag_dup E1 dX7_eRead_201 rfl ?_
          refine am_geti E 46 (by decide) rfl q1496 dX7_eRead_202 ?_
          refine ag_iconst E1 dX7_eRead_205 ki_1 ?_
          refine ag_isub E1 dX7_eRead_206 ?_
          refine am_puti E 46 (by decide) rfl q1496 rfl (ty := .int) (by decide +kernel) rfl rfl dX7_eRead_207 (fun f_9 e_f_9 => ?_)
          have h := h f_9 e_f_9
          refine ag_aload_n E1 dX7_eRead_210 rfl 0 rfl ?_
          refine ag_dup E1 dX7_eRead_211 rfl ?_
          refine am_geti E 47 (by decide) rfl q1497 dX7_eRead_212 ?_
          refine ag_iconst E1 dX7_eRead_215 ki_1 ?_
          refine ag_isub E1 dX7_eRead_216 ?_
          refine am_puti E 47 (by decide) rfl q1497 rfl (ty := .int) (by decide +kernel) rfl rfl dX7_eRead_217 (fun f_10 e_f_10 => ?_)
          have h := h f_10 e_f_10
          refine ag_aload_n E1 dX7_eRead_220 rfl 0 rfl ?_
          refine ag_bipush E1 dX7_eRead_221 kb_7 ?_
          refine am_callVv E [.int (7 : Int32)] (kX7_unwinds _ _ _ _ _ _ _ _ _ _ _ _ _ h) (lw_V q1689 q1691 qs52 q107 q1692) hdX7_unwinds (Nat.le_of_ble_eq_true rfl) (Nat.le_of_ble_eq_true rfl) rfl (Nat.le_of_ble_eq_true rfl) dX7_eRead_223 rfl (fun f_11 h => ?_)
          refine ag_goto E1 (tgt := 14) dX7_eRead_226 (by decide) ?_
          exact hK14 _ _ _ h
        · have h := h.2 c_195
          refine ag_iconst E1 dX7_eRead_198 ki_0 ?_
          exact am_zret E rfl (Or.inl rfl) ⟨_, rfl, h⟩ dX7_eRead_199
    · have h := h.2 c_156
      refine ag_sub (lv' := [(0, .ref o)]) [0] rfl ?_
      exact hK159  _ h
  · have h := h.2 c_19
    refine ag_aload_n E1 dX7_eRead_22 rfl 0 rfl ?_
    refine am_geti E 42 (by decide) rfl q1492 dX7_eRead_23 ?_
    refine ag_iconst E1 dX7_eRead_26 ki_1 ?_
    refine ag_icmp_eq E1 (tgt := 38) dX7_eRead_27 (by decide) (fun c_27 => ?_) (fun c_27 => ?_)
    · have h := h.1 c_27
      refine ag_sub (lv' := [(0, .ref o), (2, .int x2)]) [0, 2] rfl ?_
      exact tbX7_eRead_38 E hK14 hK159 h
    · have h := h.2 c_27
      refine ag_aload_n E1 dX7_eRead_30 rfl 0 rfl ?_
      refine am_geti E 42 (by decide) rfl q1492 dX7_eRead_31 ?_
      refine ag_iconst E1 dX7_eRead_34 ki_2 ?_
      refine ag_icmp_ne E1 (tgt := 75) dX7_eRead_35 (by decide) (fun c_35 => ?_) (fun c_35 => ?_)
      · have h := h.1 c_35
        refine ag_aload_n E1 dX7_eRead_75 rfl 0 rfl ?_
        refine am_geti E 42 (by decide) rfl q1492 dX7_eRead_76 ?_
        refine ag_bipush E1 dX7_eRead_79 kb_6 ?_
        refine ag_icmp_ne E1 (tgt := 99) dX7_eRead_81 (by decide) (fun c_81 => ?_) (fun c_81 => ?_)
        · have h := h.1 c_81
          refine ag_sub (lv' := [(0, .ref o), (1, .int x1)]) [0, 1] rfl ?_
          exact tbX7_eRead_99 E hK14 hK159 h
        · have h := h.2 c_81
          refine ag_iload_n E1 dX7_eRead_84 rfl 2 rfl ?_
          refine ag_if_eq E1 (tgt := 99) dX7_eRead_85 (by decide) (fun c_85 => ?_) (fun c_85 => ?_)
          · have h := h.1 c_85
            refine ag_sub (lv' := [(0, .ref o), (1, .int x1)]) [0, 1] rfl ?_
            exact tbX7_eRead_99 E hK14 hK159 h
          · have h := h.2 c_85
            refine ag_aload_n E1 dX7_eRead_88 rfl 0 rfl ?_
            refine ag_bipush E1 dX7_eRead_89 kb_13 ?_
            refine am_callVi E [.int (13 : Int32)] (kX7_opensOne _ _ _ _ _ _ _ _ _ _ _ _ _ h) (lw_V q1696 q1698 qs53 q107 q1699) hdX7_opensOne (Nat.le_of_ble_eq_true rfl) (Nat.le_of_ble_eq_true rfl) rfl (Nat.le_of_ble_eq_true rfl) dX7_eRead_91 rfl (fun r_19 f_18 h => ?_)
            refine ag_if_ne E1 (tgt := 14) dX7_eRead_94 (by decide) (fun c_94 => ?_) (fun c_94 => ?_)
            · have h := h.1 c_94
              exact hK14 _ _ _ h
            · have h := h.2 c_94
              refine ag_iconst E1 dX7_eRead_97 ki_0 ?_
              exact am_zret E rfl (Or.inl rfl) ⟨_, rfl, h⟩ dX7_eRead_98
      · have h := h.2 c_35
        refine ag_sub (lv' := [(0, .ref o), (2, .int x2)]) [0, 2] rfl ?_
        exact tbX7_eRead_38 E hK14 hK159 h
theorem tlX7_eRead_14 (E : EM p R s m args meth c cX7_eRead 4 (some .boolean) D cs b H0 XK 3 69 z u) {Q : Int32 → St → Prop} {K159 : St → Prop} (hK159 : ∀  (f : St), K159  f → AM p l e R s m args below meth c D cs b 4 o Z z u (pI Q) 159 [(0, .ref o)] [] f) : ∀ (n : Nat) (x1 : Int32) (x2 : Int32) (f : St), wlX7_eRead_14 K159 Q n x1 x2 f → AM p l e R s m args below meth c D cs b 4 o Z z u (pI Q) 14 [(0, .ref o), (1, .int x1), (2, .int x2)] [] f := by
  intro n
  induction n with
  | zero => intro _ _ _ h; exact h.elim
  | succ n ih => intro x1 x2 f h; exact tbX7_eRead_14 E ih hK159 h
theorem kX7_eRead (l : Launch) (D : va_G) (cs : Nat → ClassId) (b : Nat) (H0 : Heap) (XK : State → Prop) (o : Nat) (Z : cP) (z u : Nat) (f : St)  (Q : Int32 → St → Prop) (h : wX7_eRead f  Q) : CM l D cs b H0 XK o Z z u yX7_eRead cX7_eRead 4 (some .boolean) 3 69 [.ref o] f (pI Q) := by
  refine cm_of (by decide) rfl (Nat.le_of_ble_eq_true rfl) (fun p e R s m below meth c E => ?_)
  have E1 := E.1
  refine ag_sub (lv' := [(0, .ref o)]) [0] rfl ?_
  refine ag_aload_n E1 dX7_eRead_0 rfl 0 rfl ?_
  refine ag_iconst E1 dX7_eRead_1 ki_0 ?_
  refine am_puti E 46 (by decide) rfl q1496 rfl (ty := .int) (by decide +kernel) rfl rfl dX7_eRead_2 (fun f_1 e_f_1 => ?_)
  have h := h f_1 e_f_1
  refine ag_aload_n E1 dX7_eRead_5 rfl 0 rfl ?_
  refine ag_iconst E1 dX7_eRead_6 ki_0 ?_
  refine am_puti E 47 (by decide) rfl q1497 rfl (ty := .int) (by decide +kernel) rfl rfl dX7_eRead_7 (fun f_2 e_f_2 => ?_)
  have h := h f_2 e_f_2
  refine ag_iconst E1 dX7_eRead_10 ki_1 ?_
  refine ag_istore_n E1 (lv' := [(1, .int (1 : Int32)), (0, .ref o)]) dX7_eRead_11 rfl (Nat.lt_of_lt_of_le (Nat.le_refl _) (Nat.le_of_ble_eq_true rfl)) rfl ?_
  refine ag_iconst E1 dX7_eRead_12 ki_1 ?_
  refine ag_istore_n E1 (lv' := [(2, .int (1 : Int32)), (1, .int (1 : Int32)), (0, .ref o)]) dX7_eRead_13 rfl (Nat.lt_of_lt_of_le (Nat.le_refl _) (Nat.le_of_ble_eq_true rfl)) rfl ?_
  refine ag_sub (lv' := [(0, .ref o), (1, .int (1 : Int32)), (2, .int (1 : Int32))]) [2, 1, 0] rfl ?_
  obtain ⟨n, h⟩ := h
  refine tlX7_eRead_14 E ?_ n _ _ _ h
  · intro f h
    refine ag_aload_n E1 dX7_eRead_159 rfl 0 rfl ?_
    refine ag_iconst E1 dX7_eRead_160 ki_1 ?_
    refine am_callVv E [.int (1 : Int32)] (kX7_unwinds _ _ _ _ _ _ _ _ _ _ _ _ _ h) (lw_V q1689 q1691 qs52 q107 q1692) hdX7_unwinds (Nat.le_of_ble_eq_true rfl) (Nat.le_of_ble_eq_true rfl) rfl (Nat.le_of_ble_eq_true rfl) dX7_eRead_161 rfl (fun f_20 h => ?_)
    refine ag_aload_n E1 dX7_eRead_164 rfl 0 rfl ?_
    refine am_geti E 46 (by decide) rfl q1496 dX7_eRead_165 ?_
    refine ag_if_ne E1 (tgt := 175) dX7_eRead_168 (by decide) (fun c_168 => ?_) (fun c_168 => ?_)
    · have h := h.1 c_168
      refine ag_iconst E1 dX7_eRead_175 ki_0 ?_
      exact am_zret E rfl (Or.inl rfl) ⟨_, rfl, h⟩ dX7_eRead_176
    · have h := h.2 c_168
      refine ag_iconst E1 dX7_eRead_171 ki_1 ?_
      refine ag_goto E1 (tgt := 176) dX7_eRead_172 (by decide) ?_
      exact am_zret E rfl (Or.inr rfl) ⟨_, rfl, h⟩ dX7_eRead_176
theorem hdX7_eRead : yX7_eRead.cls = RX7 ∧ yX7_eRead.cls ≠ "java/lang/invoke/MethodHandle" ∧ yX7_eRead.cls ≠ "java/lang/invoke/VarHandle" ∧ (parseMethodDescriptor yX7_eRead.desc).map (fun d => d.parameters.length) = some 0 := by decide +kernel
theorem tbX7_text_94 (E : EM p R s m args meth c cX7_text 3 (some .int) D cs b H0 XK 4 92 z u) {Q : Int32 → St → Prop} {K26 : Int32 → Int32 → St → Prop} (hK26 : ∀ (x1 : Int32) (x2 : Int32) (f : St), K26 x1 x2 f → AM p l e R s m args below meth c D cs b 3 o Z z u (pI Q) 26 [(0, .ref o), (1, .int x1), (2, .int x2)] [] f) {K101 : Int32 → St → Prop} (hK101 : ∀ (x1 : Int32) (f : St), K101 x1 f → AM p l e R s m args below meth c D cs b 3 o Z z u (pI Q) 101 [(0, .ref o), (1, .int x1)] [] f) {x2 : Int32} {t0 : Int32} {f : St} (h : wbX7_text_94 K26 K101 Q x2 t0 f) : AM p l e R s m args below meth c D cs b 3 o Z z u (pI Q) 94 [(0, .ref o), (2, .int x2)] [.int t0] f := by
  have E1 := E.1
  refine ag_istore_n E1 (lv' := [(1, .int t0), (0, .ref o), (2, .int x2)]) dX7_text_94 rfl (Nat.lt_of_lt_of_le (Nat.le_refl _) (Nat.le_of_ble_eq_true rfl)) rfl ?_
  refine ag_iincN E1 (lv' := fun x2_5 => [(2, .int x2_5), (1, .int t0), (0, .ref o)]) dX7_text_95 2 rfl ki_1 (Nat.lt_of_lt_of_le (Nat.le_refl _) (Nat.le_of_ble_eq_true rfl)) (fun _ => rfl) (fun x2_5 e_x2_5 => ?_)
  have h := h x2_5 e_x2_5
  refine ag_goto E1 (tgt := 26) dX7_text_98 (by decide) ?_
  refine ag_sub (lv' := [(0, .ref o), (1, .int t0), (2, .int x2_5)]) [2, 1, 0] rfl ?_
  exact hK26 _ _ _ h
theorem tbX7_text_93 (E : EM p R s m args meth c cX7_text 3 (some .int) D cs b H0 XK 4 92 z u) {Q : Int32 → St → Prop} {K26 : Int32 → Int32 → St → Prop} (hK26 : ∀ (x1 : Int32) (x2 : Int32) (f : St), K26 x1 x2 f → AM p l e R s m args below meth c D cs b 3 o Z z u (pI Q) 26 [(0, .ref o), (1, .int x1), (2, .int x2)] [] f) {K101 : Int32 → St → Prop} (hK101 : ∀ (x1 : Int32) (f : St), K101 x1 f → AM p l e R s m args below meth c D cs b 3 o Z z u (pI Q) 101 [(0, .ref o), (1, .int x1)] [] f) {x2 : Int32} {f : St} (h : wbX7_text_93 K26 K101 Q x2 f) : AM p l e R s m args below meth c D cs b 3 o Z z u (pI Q) 93 [(0, .ref o), (2, .int x2)] [] f := by
  have E1 := E.1
  refine ag_iconst E1 dX7_text_93 ki_0 ?_
  exact tbX7_text_94 E hK26 hK101 h
theorem tbX7_text_60 (E : EM p R s m args meth c cX7_text 3 (some .int) D cs b H0 XK 4 92 z u) {Q : Int32 → St → Prop} {K26 : Int32 → Int32 → St → Prop} (hK26 : ∀ (x1 : Int32) (x2 : Int32) (f : St), K26 x1 x2 f → AM p l e R s m args below meth c D cs b 3 o Z z u (pI Q) 26 [(0, .ref o), (1, .int x1), (2, .int x2)] [] f) {K101 : Int32 → St → Prop} (hK101 : ∀ (x1 : Int32) (f : St), K101 x1 f → AM p l e R s m args below meth c D cs b 3 o Z z u (pI Q) 101 [(0, .ref o), (1, .int x1)] [] f) {x2 : Int32} {t0 : Int32} {f : St} (h : wbX7_text_60 K26 K101 Q x2 t0 f) : AM p l e R s m args below meth c D cs b 3 o Z z u (pI Q) 60 [(0, .ref o), (2, .int x2)] [.int t0] f := by
  have E1 := E.1
  refine ag_istore_n E1 (lv' := [(1, .int t0), (0, .ref o), (2, .int x2)]) dX7_text_60 rfl (Nat.lt_of_lt_of_le (Nat.le_refl _) (Nat.le_of_ble_eq_true rfl)) rfl ?_
  refine ag_aload_n E1 dX7_text_61 rfl 1 rfl ?_
  refine am_geta E 13 (i := 10) (by decide) (by decide) rfl q1463 dX7_text_62 ?_
  refine ag_iconst E1 dX7_text_65 ki_4 ?_
  refine ag_aload_n E1 dX7_text_66 rfl 1 rfl ?_
  refine am_geti E 14 (by decide) rfl q1464 dX7_text_67 ?_
  refine ag_imul E1 dX7_text_70 ?_
  refine ag_iload_n E1 dX7_text_71 rfl 2 rfl ?_
  refine ag_iadd E1 dX7_text_72 ?_
  refine ag_aload_n E1 dX7_text_73 rfl 1 rfl ?_
  refine am_geti E 48 (by decide) rfl q1498 dX7_text_74 ?_
  obtain ⟨hin, h⟩ := h
  refine am_iast E 13 rfl rfl rfl (by decide) hin dX7_text_77 (fun f_4 e_f_4 => ?_)
  have h := h f_4 e_f_4
  refine ag_iload_n E1 dX7_text_78 rfl 0 rfl ?_
  refine ag_if_eq E1 (tgt := 93) dX7_text_79 (by decide) (fun c_79 => ?_) (fun c_79 => ?_)
  · have h := h.1 c_79
    refine ag_sub (lv' := [(0, .ref o), (2, .int x2)]) [1, 2] rfl ?_
    exact tbX7_text_93 E hK26 hK101 h
  · have h := h.2 c_79
    refine ag_aload_n E1 dX7_text_82 rfl 1 rfl ?_
    refine am_callVi E [] (kX7_eRead _ _ _ _ _ _ _ _ _ _ _  _ h) (lw_V q1680 q1682 qs50 q107 q1683) hdX7_eRead (Nat.le_of_ble_eq_true rfl) (Nat.le_of_ble_eq_true rfl) rfl (Nat.le_of_ble_eq_true rfl) dX7_text_83 rfl (fun r_7 f_6 h => ?_)
    refine ag_if_eq E1 (tgt := 93) dX7_text_86 (by decide) (fun c_86 => ?_) (fun c_86 => ?_)
    · have h := h.1 c_86
      refine ag_sub (lv' := [(0, .ref o), (2, .int x2)]) [1, 2] rfl ?_
      exact tbX7_text_93 E hK26 hK101 h
    · have h := h.2 c_86
      refine ag_iconst E1 dX7_text_89 ki_1 ?_
      refine ag_goto E1 (tgt := 94) dX7_text_90 (by decide) ?_
      refine ag_sub (lv' := [(0, .ref o), (2, .int x2)]) [1, 2] rfl ?_
      exact tbX7_text_94 E hK26 hK101 h
theorem tbX7_text_59 (E : EM p R s m args meth c cX7_text 3 (some .int) D cs b H0 XK 4 92 z u) {Q : Int32 → St → Prop} {K26 : Int32 → Int32 → St → Prop} (hK26 : ∀ (x1 : Int32) (x2 : Int32) (f : St), K26 x1 x2 f → AM p l e R s m args below meth c D cs b 3 o Z z u (pI Q) 26 [(0, .ref o), (1, .int x1), (2, .int x2)] [] f) {K101 : Int32 → St → Prop} (hK101 : ∀ (x1 : Int32) (f : St), K101 x1 f → AM p l e R s m args below meth c D cs b 3 o Z z u (pI Q) 101 [(0, .ref o), (1, .int x1)] [] f) {x2 : Int32} {f : St} (h : wbX7_text_59 K26 K101 Q x2 f) : AM p l e R s m args below meth c D cs b 3 o Z z u (pI Q) 59 [(0, .ref o), (2, .int x2)] [] f := by
  have E1 := E.1
  refine ag_iconst E1 dX7_text_59 ki_0 ?_
  exact tbX7_text_60 E hK26 hK101 h
theorem tbX7_text_26 (E : EM p R s m args meth c cX7_text 3 (some .int) D cs b H0 XK 4 92 z u) {Q : Int32 → St → Prop} {K26 : Int32 → Int32 → St → Prop} (hK26 : ∀ (x1 : Int32) (x2 : Int32) (f : St), K26 x1 x2 f → AM p l e R s m args below meth c D cs b 3 o Z z u (pI Q) 26 [(0, .ref o), (1, .int x1), (2, .int x2)] [] f) {K101 : Int32 → St → Prop} (hK101 : ∀ (x1 : Int32) (f : St), K101 x1 f → AM p l e R s m args below meth c D cs b 3 o Z z u (pI Q) 101 [(0, .ref o), (1, .int x1)] [] f) {x1 : Int32} {x2 : Int32} {f : St} (h : wbX7_text_26 K26 K101 Q x1 x2 f) : AM p l e R s m args below meth c D cs b 3 o Z z u (pI Q) 26 [(0, .ref o), (1, .int x1), (2, .int x2)] [] f := by
  have E1 := E.1
  refine ag_iload_n E1 dX7_text_26 rfl 2 rfl ?_
  refine ag_iconst E1 dX7_text_27 ki_2 ?_
  refine ag_icmp_ge E1 (tgt := 101) dX7_text_28 (by decide) (fun c_28 => ?_) (fun c_28 => ?_)
  · have h := h.1 c_28
    refine ag_sub (lv' := [(0, .ref o), (1, .int x1)]) [0, 1] rfl ?_
    exact hK101 _ _ h
  · have h := h.2 c_28
    refine ag_iload_n E1 dX7_text_31 rfl 1 rfl ?_
    refine ag_if_eq E1 (tgt := 101) dX7_text_32 (by decide) (fun c_32 => ?_) (fun c_32 => ?_)
    · have h := h.1 c_32
      refine ag_sub (lv' := [(0, .ref o), (1, .int x1)]) [0, 1] rfl ?_
      exact hK101 _ _ h
    · have h := h.2 c_32
      refine ag_aload_n E1 dX7_text_35 rfl 0 rfl ?_
      refine am_callVv E [] (kX7_next _ _ _ _ _ _ _ _ _ _ _  _ h) (lw_V q1672 q1674 qs48 q107 q1675) hdX7_next (Nat.le_of_ble_eq_true rfl) (Nat.le_of_ble_eq_true rfl) rfl (Nat.le_of_ble_eq_true rfl) dX7_text_36 rfl (fun f_3 h => ?_)
      refine ag_aload_n E1 dX7_text_39 rfl 0 rfl ?_
      refine am_geti E 42 (by decide) rfl q1492 dX7_text_40 ?_
      refine ag_iconst E1 dX7_text_43 ki_3 ?_
      refine ag_icmp_ne E1 (tgt := 59) dX7_text_44 (by decide) (fun c_44 => ?_) (fun c_44 => ?_)
      · have h := h.1 c_44
        refine ag_sub (lv' := [(0, .ref o), (2, .int x2)]) [0, 2] rfl ?_
        exact tbX7_text_59 E hK26 hK101 h
      · have h := h.2 c_44
        refine ag_aload_n E1 dX7_text_47 rfl 0 rfl ?_
        refine am_geti E 43 (by decide) rfl q1493 dX7_text_48 ?_
        refine ag_iload_n E1 dX7_text_51 rfl 2 rfl ?_
        refine ag_icmp_ne E1 (tgt := 59) dX7_text_52 (by decide) (fun c_52 => ?_) (fun c_52 => ?_)
        · have h := h.1 c_52
          refine ag_sub (lv' := [(0, .ref o), (2, .int x2)]) [0, 2] rfl ?_
          exact tbX7_text_59 E hK26 hK101 h
        · have h := h.2 c_52
          refine ag_iconst E1 dX7_text_55 ki_1 ?_
          refine ag_goto E1 (tgt := 60) dX7_text_56 (by decide) ?_
          refine ag_sub (lv' := [(0, .ref o), (2, .int x2)]) [0, 2] rfl ?_
          exact tbX7_text_60 E hK26 hK101 h
theorem tlX7_text_26 (E : EM p R s m args meth c cX7_text 3 (some .int) D cs b H0 XK 4 92 z u) {Q : Int32 → St → Prop} {K101 : Int32 → St → Prop} (hK101 : ∀ (x1 : Int32) (f : St), K101 x1 f → AM p l e R s m args below meth c D cs b 3 o Z z u (pI Q) 101 [(0, .ref o), (1, .int x1)] [] f) : ∀ (n : Nat) (x1 : Int32) (x2 : Int32) (f : St), wlX7_text_26 K101 Q n x1 x2 f → AM p l e R s m args below meth c D cs b 3 o Z z u (pI Q) 26 [(0, .ref o), (1, .int x1), (2, .int x2)] [] f := by
  intro n
  induction n with
  | zero => intro _ _ _ h; exact h.elim
  | succ n ih => intro x1 x2 f h; exact tbX7_text_26 E ih hK101 h
theorem tbX7_text_122 (E : EM p R s m args meth c cX7_text 3 (some .int) D cs b H0 XK 4 92 z u) {Q : Int32 → St → Prop}  {x1 : Int32} {f : St} (h : wbX7_text_122  Q x1 f) : AM p l e R s m args below meth c D cs b 3 o Z z u (pI Q) 122 [(0, .ref o), (1, .int x1)] [] f := by
  have E1 := E.1
  refine ag_aload_n E1 dX7_text_122 rfl 0 rfl ?_
  refine am_geta E 13 (i := 10) (by decide) (by decide) rfl q1463 dX7_text_123 ?_
  refine ag_iconst E1 dX7_text_126 ki_4 ?_
  refine ag_aload_n E1 dX7_text_127 rfl 0 rfl ?_
  refine am_geti E 14 (by decide) rfl q1464 dX7_text_128 ?_
  refine ag_imul E1 dX7_text_131 ?_
  refine ag_iconst E1 dX7_text_132 ki_2 ?_
  refine ag_iadd E1 dX7_text_133 ?_
  refine ag_aload_n E1 dX7_text_134 rfl 0 rfl ?_
  refine am_geti E 48 (by decide) rfl q1498 dX7_text_135 ?_
  obtain ⟨hin, h⟩ := h
  refine am_iast E 13 rfl rfl rfl (by decide) hin dX7_text_138 (fun f_8 e_f_8 => ?_)
  have h := h f_8 e_f_8
  refine ag_aload_n E1 dX7_text_139 rfl 0 rfl ?_
  refine ag_iconst E1 dX7_text_140 ki_0 ?_
  refine am_puti E 11 (by decide) rfl q1461 rfl (ty := .int) (by decide +kernel) rfl rfl dX7_text_141 (fun f_9 e_f_9 => ?_)
  have h := h f_9 e_f_9
  refine ag_iload_n E1 dX7_text_144 rfl 1 rfl ?_
  refine ag_if_ne E1 (tgt := 156) dX7_text_145 (by decide) (fun c_145 => ?_) (fun c_145 => ?_)
  · have h := h.1 c_145
    refine ag_aload_n E1 dX7_text_156 rfl 0 rfl ?_
    refine ag_dup E1 dX7_text_157 rfl ?_
    refine am_geti E 14 (by decide) rfl q1464 dX7_text_158 ?_
    refine ag_iconst E1 dX7_text_161 ki_1 ?_
    refine ag_iadd E1 dX7_text_162 ?_
    refine am_puti E 14 (by decide) rfl q1464 rfl (ty := .int) (by decide +kernel) rfl rfl dX7_text_163 (fun f_10 e_f_10 => ?_)
    have h := h f_10 e_f_10
    refine ag_aload_n E1 dX7_text_166 rfl 0 rfl ?_
    refine am_geti E 14 (by decide) rfl q1464 dX7_text_167 ?_
    refine ag_iconst E1 dX7_text_170 ki_1 ?_
    refine ag_isub E1 dX7_text_171 ?_
    exact am_iret E rfl ⟨_, rfl, h⟩ dX7_text_172
  · have h := h.2 c_145
    refine ag_bipush E1 dX7_text_148 kb_m100 ?_
    refine ag_aload_n E1 dX7_text_150 rfl 0 rfl ?_
    refine am_geti E 41 (by decide) rfl q1491 dX7_text_151 ?_
    refine ag_isub E1 dX7_text_154 ?_
    exact am_iret E rfl ⟨_, rfl, h⟩ dX7_text_155
theorem tbX7_text_121 (E : EM p R s m args meth c cX7_text 3 (some .int) D cs b H0 XK 4 92 z u) {Q : Int32 → St → Prop}  {t0 : Int32} {f : St} (h : wbX7_text_121  Q t0 f) : AM p l e R s m args below meth c D cs b 3 o Z z u (pI Q) 121 [(0, .ref o)] [.int t0] f := by
  have E1 := E.1
  refine ag_istore_n E1 (lv' := [(1, .int t0), (0, .ref o)]) dX7_text_121 rfl (Nat.lt_of_lt_of_le (Nat.le_refl _) (Nat.le_of_ble_eq_true rfl)) rfl ?_
  refine ag_sub (lv' := [(0, .ref o), (1, .int t0)]) [1, 0] rfl ?_
  exact tbX7_text_122 E  h
theorem tbX7_text_101 (E : EM p R s m args meth c cX7_text 3 (some .int) D cs b H0 XK 4 92 z u) {Q : Int32 → St → Prop}  {x1 : Int32} {f : St} (h : wbX7_text_101  Q x1 f) : AM p l e R s m args below meth c D cs b 3 o Z z u (pI Q) 101 [(0, .ref o), (1, .int x1)] [] f := by
  have E1 := E.1
  refine ag_iload_n E1 dX7_text_101 rfl 1 rfl ?_
  refine ag_if_eq E1 (tgt := 122) dX7_text_102 (by decide) (fun c_102 => ?_) (fun c_102 => ?_)
  · have h := h.1 c_102
    exact tbX7_text_122 E  h
  · have h := h.2 c_102
    refine ag_aload_n E1 dX7_text_105 rfl 0 rfl ?_
    refine am_callVv E [] (kX7_next _ _ _ _ _ _ _ _ _ _ _  _ h) (lw_V q1672 q1674 qs48 q107 q1675) hdX7_next (Nat.le_of_ble_eq_true rfl) (Nat.le_of_ble_eq_true rfl) rfl (Nat.le_of_ble_eq_true rfl) dX7_text_106 rfl (fun f_11 h => ?_)
    refine ag_aload_n E1 dX7_text_109 rfl 0 rfl ?_
    refine am_geti E 42 (by decide) rfl q1492 dX7_text_110 ?_
    refine ag_if_ne E1 (tgt := 120) dX7_text_113 (by decide) (fun c_113 => ?_) (fun c_113 => ?_)
    · have h := h.1 c_113
      refine ag_iconst E1 dX7_text_120 ki_0 ?_
      refine ag_sub (lv' := [(0, .ref o)]) [0] rfl ?_
      exact tbX7_text_121 E  h
    · have h := h.2 c_113
      refine ag_iconst E1 dX7_text_116 ki_1 ?_
      refine ag_goto E1 (tgt := 121) dX7_text_117 (by decide) ?_
      refine ag_sub (lv' := [(0, .ref o)]) [0] rfl ?_
      exact tbX7_text_121 E  h
theorem kX7_text (l : Launch) (D : va_G) (cs : Nat → ClassId) (b : Nat) (H0 : Heap) (XK : State → Prop) (o : Nat) (Z : cP) (z u : Nat) (f : St)  (Q : Int32 → St → Prop) (h : wX7_text f  Q) : CM l D cs b H0 XK o Z z u yX7_text cX7_text 3 (some .int) 4 92 [.ref o] f (pI Q) := by
  refine cm_of (by decide) rfl (Nat.le_of_ble_eq_true rfl) (fun p e R s m below meth c E => ?_)
  have E1 := E.1
  refine ag_sub (lv' := [(0, .ref o)]) [0] rfl ?_
  refine ag_aload_n E1 dX7_text_0 rfl 0 rfl ?_
  refine am_geti E 14 (by decide) rfl q1464 dX7_text_1 ?_
  refine ag_bipush E1 dX7_text_4 kb_6 ?_
  refine ag_icmp_ne E1 (tgt := 12) dX7_text_6 (by decide) (fun c_6 => ?_) (fun c_6 => ?_)
  · have h := h.1 c_6
    refine ag_aload_n E1 dX7_text_12 rfl 0 rfl ?_
    refine ag_iconst E1 dX7_text_13 ki_0 ?_
    refine am_puti E 40 (by decide) rfl q1490 rfl (ty := .int) (by decide +kernel) rfl rfl dX7_text_14 (fun f_1 e_f_1 => ?_)
    have h := h f_1 e_f_1
    refine ag_aload_n E1 dX7_text_17 rfl 0 rfl ?_
    refine ag_iconst E1 dX7_text_18 ki_0 ?_
    refine am_puti E 48 (by decide) rfl q1498 rfl (ty := .int) (by decide +kernel) rfl rfl dX7_text_19 (fun f_2 e_f_2 => ?_)
    have h := h f_2 e_f_2
    refine ag_iconst E1 dX7_text_22 ki_1 ?_
    refine ag_istore_n E1 (lv' := [(1, .int (1 : Int32)), (0, .ref o)]) dX7_text_23 rfl (Nat.lt_of_lt_of_le (Nat.le_refl _) (Nat.le_of_ble_eq_true rfl)) rfl ?_
    refine ag_iconst E1 dX7_text_24 ki_0 ?_
    refine ag_istore_n E1 (lv' := [(2, .int (0 : Int32)), (1, .int (1 : Int32)), (0, .ref o)]) dX7_text_25 rfl (Nat.lt_of_lt_of_le (Nat.le_refl _) (Nat.le_of_ble_eq_true rfl)) rfl ?_
    refine ag_sub (lv' := [(0, .ref o), (1, .int (1 : Int32)), (2, .int (0 : Int32))]) [2, 1, 0] rfl ?_
    obtain ⟨n, h⟩ := h
    refine tlX7_text_26 E ?_ n _ _ _ h
    · intro x1 f h
      exact tbX7_text_101 E  h
  · have h := h.2 c_6
    refine ag_bipush E1 dX7_text_9 kb_m4 ?_
    exact am_iret E rfl ⟨_, rfl, h⟩ dX7_text_11
theorem hdX7_text : yX7_text.cls = RX7 ∧ yX7_text.cls ≠ "java/lang/invoke/MethodHandle" ∧ yX7_text.cls ≠ "java/lang/invoke/VarHandle" ∧ (parseMethodDescriptor yX7_text.desc).map (fun d => d.parameters.length) = some 0 := by decide +kernel
end
