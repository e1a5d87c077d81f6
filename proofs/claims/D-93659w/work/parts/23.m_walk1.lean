/-! walks of the reference's methods (by program) -/
set_option maxRecDepth 100000
set_option maxHeartbeats 4000000
section
variable {p : Program} {l : Launch} {e : Env} {R : Room} {s : State} {m : MethodId} {args : Array Value} {below : List Frame} {meth : Method} {c : Code} {D : va_G} {cs : Nat → ClassId} {b o z u : Nat} {Z : cP} {H0 : Heap} {XK : State → Prop}
theorem kX7_force (l : Launch) (D : va_G) (cs : Nat → ClassId) (b : Nat) (H0 : Heap) (XK : State → Prop) (o : Nat) (Z : cP) (z u : Nat) (f : St) (x1 : Int32) (Q : Int32 → St → Prop) (h : wX7_force f x1 Q) : CM l D cs b H0 XK o Z z u yX7_force cX7_force 3 (some .int) 1 22 [.ref o, .int x1] f (pI Q) := by
  refine cm_of (by decide) rfl (Nat.le_of_ble_eq_true rfl) (fun p e R s m below meth c E => ?_)
  have E1 := E.1
  refine ag_sub (lv' := [(0, .ref o), (1, .int x1)]) [0, 1] rfl ?_
  refine ag_iload_n E1 dX7_force_0 rfl 1 rfl ?_
  refine ag_iconst E1 dX7_force_1 ki_0 ?_
  refine ag_aload_n E1 dX7_force_2 rfl 0 rfl ?_
  refine am_geti E 14 (by decide) rfl q1464 dX7_force_3 ?_
  refine ag_iconst E1 dX7_force_6 ki_1 ?_
  refine ag_isub E1 dX7_force_7 ?_
  refine am_callSi E [.int x1, .int (0 : Int32), .int ((f 99 14) - (1 : Int32))] (kX7_in _ _ _ _ _ _ _ _ _ _ _ _ _ _ _ h) (lw_S q1625 q1626 q107 q1627) hdX7_in (Nat.le_of_ble_eq_true rfl) (Nat.le_of_ble_eq_true rfl) rfl (Nat.le_of_ble_eq_true rfl) dX7_force_8 rfl (fun r_2 f_1 h => ?_)
  refine ag_if_ne E1 (tgt := 17) dX7_force_11 (by decide) (fun c_11 => ?_) (fun c_11 => ?_)
  · have h := h.1 c_11
    refine ag_aload_n E1 dX7_force_17 rfl 0 rfl ?_
    refine am_geti E 15 (by decide) rfl q1465 dX7_force_18 ?_
    refine ag_topi (fun x2_3 e_x2_3 => ?_)
    have h := h x2_3 e_x2_3
    refine ag_istore_n E1 (lv' := [(2, .int x2_3), (0, .ref o), (1, .int x1)]) dX7_force_21 rfl (Nat.lt_of_lt_of_le (Nat.le_refl _) (Nat.le_of_ble_eq_true rfl)) rfl ?_
    refine ag_aload_n E1 dX7_force_22 rfl 1 rfl ?_
    refine ag_iload_n E1 dX7_force_23 rfl 2 rfl ?_
    refine am_puti E 15 (by decide) rfl q1465 rfl (ty := .int) (by decide +kernel) rfl rfl dX7_force_24 (fun f_4 e_f_4 => ?_)
    have h := h f_4 e_f_4
    refine ag_iload_n E1 dX7_force_27 rfl 0 rfl ?_
    exact am_iret E rfl ⟨_, rfl, h⟩ dX7_force_28
  · have h := h.2 c_11
    refine ag_bipush E1 dX7_force_14 kb_m2 ?_
    exact am_iret E rfl ⟨_, rfl, h⟩ dX7_force_16
theorem hdX7_force : yX7_force.cls = RX7 ∧ yX7_force.cls ≠ "java/lang/invoke/MethodHandle" ∧ yX7_force.cls ≠ "java/lang/invoke/VarHandle" ∧ (parseMethodDescriptor yX7_force.desc).map (fun d => d.parameters.length) = some 1 := by decide +kernel
theorem kX7_names (l : Launch) (D : va_G) (cs : Nat → ClassId) (b : Nat) (H0 : Heap) (XK : State → Prop) (o : Nat) (Z : cP) (z u : Nat) (f : St) (x1 : Int32) (x2 : Int32) (x3 : Int32) (x4 : Int32) (x5 : Int32) (Q : St → Prop) (h : wX7_names f x1 x2 x3 x4 x5 Q) : CM l D cs b H0 XK o Z z u yX7_names cX7_names 6 none 0 0 [.ref o, .int x1, .int x2, .int x3, .int x4, .int x5] f (pV Q) := by
  refine cm_of (by decide) rfl (Nat.le_of_ble_eq_true rfl) (fun p e R s m below meth c E => ?_)
  have E1 := E.1
  refine ag_sub (lv' := [(0, .ref o), (1, .int x1), (2, .int x2), (3, .int x3), (4, .int x4), (5, .int x5)]) [0, 1, 2, 3, 4, 5] rfl ?_
  refine ag_aload_n E1 dX7_names_0 rfl 0 rfl ?_
  refine am_geta E 50 (i := 29) (by decide) (by decide) rfl q1500 dX7_names_1 ?_
  refine ag_iconst E1 dX7_names_4 ki_0 ?_
  refine ag_iload_n E1 dX7_names_5 rfl 1 rfl ?_
  obtain ⟨hin, h⟩ := h
  refine am_iast E 50 rfl rfl rfl (by decide) hin dX7_names_6 (fun f_1 e_f_1 => ?_)
  have h := h f_1 e_f_1
  refine ag_aload_n E1 dX7_names_7 rfl 0 rfl ?_
  refine am_geta E 50 (i := 29) (by decide) (by decide) rfl q1500 dX7_names_8 ?_
  refine ag_iconst E1 dX7_names_11 ki_1 ?_
  refine ag_iload_n E1 dX7_names_12 rfl 2 rfl ?_
  obtain ⟨hin, h⟩ := h
  refine am_iast E 50 rfl rfl rfl (by decide) hin dX7_names_13 (fun f_2 e_f_2 => ?_)
  have h := h f_2 e_f_2
  refine ag_aload_n E1 dX7_names_14 rfl 0 rfl ?_
  refine am_geta E 50 (i := 29) (by decide) (by decide) rfl q1500 dX7_names_15 ?_
  refine ag_iconst E1 dX7_names_18 ki_2 ?_
  refine ag_iload_n E1 dX7_names_19 rfl 3 rfl ?_
  obtain ⟨hin, h⟩ := h
  refine am_iast E 50 rfl rfl rfl (by decide) hin dX7_names_20 (fun f_3 e_f_3 => ?_)
  have h := h f_3 e_f_3
  refine ag_aload_n E1 dX7_names_21 rfl 0 rfl ?_
  refine am_geta E 50 (i := 29) (by decide) (by decide) rfl q1500 dX7_names_22 ?_
  refine ag_iconst E1 dX7_names_25 ki_3 ?_
  refine ag_iload E1 dX7_names_26 4 rfl ?_
  obtain ⟨hin, h⟩ := h
  refine am_iast E 50 rfl rfl rfl (by decide) hin dX7_names_28 (fun f_4 e_f_4 => ?_)
  have h := h f_4 e_f_4
  refine ag_aload_n E1 dX7_names_29 rfl 0 rfl ?_
  refine am_geta E 50 (i := 29) (by decide) (by decide) rfl q1500 dX7_names_30 ?_
  refine ag_iconst E1 dX7_names_33 ki_4 ?_
  refine ag_iload E1 dX7_names_34 5 rfl ?_
  obtain ⟨hin, h⟩ := h
  refine am_iast E 50 rfl rfl rfl (by decide) hin dX7_names_36 (fun f_5 e_f_5 => ?_)
  have h := h f_5 e_f_5
  refine ag_aload_n E1 dX7_names_37 rfl 0 rfl ?_
  refine am_geta E 50 (i := 29) (by decide) (by decide) rfl q1500 dX7_names_38 ?_
  refine ag_iconst E1 dX7_names_41 ki_5 ?_
  refine ag_aload_n E1 dX7_names_42 rfl 0 rfl ?_
  refine am_geti E 6 (by decide) rfl q1456 dX7_names_43 ?_
  obtain ⟨hin, h⟩ := h
  refine am_iast E 50 rfl rfl rfl (by decide) hin dX7_names_46 (fun f_6 e_f_6 => ?_)
  have h := h f_6 e_f_6
  exact am_vret E rfl ⟨rfl, h⟩ dX7_names_47
theorem hdX7_names : yX7_names.cls = RX7 ∧ yX7_names.cls ≠ "java/lang/invoke/MethodHandle" ∧ yX7_names.cls ≠ "java/lang/invoke/VarHandle" ∧ (parseMethodDescriptor yX7_names.desc).map (fun d => d.parameters.length) = some 5 := by decide +kernel
theorem tbX7_two_52 (E : EM p R s m args meth c cX7_two 3 (some .int) D cs b H0 XK 0 0 z u) {Q : Int32 → St → Prop}   {f : St} (h : wbX7_two_52  Q  f) : AM p l e R s m args below meth c D cs b 3 o Z z u (pI Q) 52 [] [] f := by
  have E1 := E.1
  refine ag_iconst E1 dX7_two_52 ki_1 ?_
  refine ag_goto E1 (tgt := 57) dX7_two_53 (by decide) ?_
  exact am_iret E rfl ⟨_, rfl, h⟩ dX7_two_57
theorem kX7_two (l : Launch) (D : va_G) (cs : Nat → ClassId) (b : Nat) (H0 : Heap) (XK : State → Prop) (o : Nat) (Z : cP) (z u : Nat) (f : St) (x0 : Int32) (x1 : Int32) (x2 : Int32) (Q : Int32 → St → Prop) (h : wX7_two f x0 x1 x2 Q) : CM l D cs b H0 XK o Z z u yX7_two cX7_two 3 (some .int) 0 0 [.int x0, .int x1, .int x2] f (pI Q) := by
  refine cm_of (by decide) rfl (Nat.le_of_ble_eq_true rfl) (fun p e R s m below meth c E => ?_)
  have E1 := E.1
  refine ag_sub (lv' := [(0, .int x0), (1, .int x1), (2, .int x2)]) [0, 1, 2] rfl ?_
  refine ag_iload_n E1 dX7_two_0 rfl 0 rfl ?_
  rcases Classical.em (x0 = (11 : Int32)) with c_1_0 | c_1_0
  · have h := h.1 c_1_0
    refine ag_tableIn E1 (tgt := 44) (off := 43) dX7_two_1 (by rw [c_1_0]; decide) (by rw [c_1_0]; decide) (by rw [c_1_0]; decide) (by decide) ?_
    refine ag_iload_n E1 dX7_two_44 rfl 1 rfl ?_
    refine ag_if_ne E1 (tgt := 52) dX7_two_45 (by decide) (fun c_45 => ?_) (fun c_45 => ?_)
    · have h := h.1 c_45
      refine ag_sub (lv' := []) [] rfl ?_
      exact tbX7_two_52 E  h
    · have h := h.2 c_45
      refine ag_iload_n E1 dX7_two_48 rfl 2 rfl ?_
      refine ag_if_eq E1 (tgt := 56) dX7_two_49 (by decide) (fun c_49 => ?_) (fun c_49 => ?_)
      · have h := h.1 c_49
        refine ag_iconst E1 dX7_two_56 ki_0 ?_
        exact am_iret E rfl ⟨_, rfl, h⟩ dX7_two_57
      · have h := h.2 c_49
        refine ag_sub (lv' := []) [] rfl ?_
        exact tbX7_two_52 E  h
  · have h := h.2 c_1_0
    have n_0 := lv_neT c_1_0 (show (11 : Int32).toInt = 11 by decide)
    rcases Classical.em (x0 = (12 : Int32)) with c_1_1 | c_1_1
    · have h := h.1 c_1_1
      refine ag_tableIn E1 (tgt := 58) (off := 57) dX7_two_1 (by rw [c_1_1]; decide) (by rw [c_1_1]; decide) (by rw [c_1_1]; decide) (by decide) ?_
      refine ag_iload_n E1 dX7_two_58 rfl 1 rfl ?_
      refine ag_if_eq E1 (tgt := 70) dX7_two_59 (by decide) (fun c_59 => ?_) (fun c_59 => ?_)
      · have h := h.1 c_59
        refine ag_iconst E1 dX7_two_70 ki_0 ?_
        exact am_iret E rfl ⟨_, rfl, h⟩ dX7_two_71
      · have h := h.2 c_59
        refine ag_iload_n E1 dX7_two_62 rfl 2 rfl ?_
        refine ag_if_eq E1 (tgt := 70) dX7_two_63 (by decide) (fun c_63 => ?_) (fun c_63 => ?_)
        · have h := h.1 c_63
          refine ag_iconst E1 dX7_two_70 ki_0 ?_
          exact am_iret E rfl ⟨_, rfl, h⟩ dX7_two_71
        · have h := h.2 c_63
          refine ag_iconst E1 dX7_two_66 ki_1 ?_
          refine ag_goto E1 (tgt := 71) dX7_two_67 (by decide) ?_
          exact am_iret E rfl ⟨_, rfl, h⟩ dX7_two_71
    · have h := h.2 c_1_1
      have n_1 := lv_neT c_1_1 (show (12 : Int32).toInt = 12 by decide)
      rcases Classical.em (x0 = (13 : Int32)) with c_1_2 | c_1_2
      · have h := h.1 c_1_2
        refine ag_tableIn E1 (tgt := 102) (off := 101) dX7_two_1 (by rw [c_1_2]; decide) (by rw [c_1_2]; decide) (by rw [c_1_2]; decide) (by decide) ?_
        refine ag_iload_n E1 dX7_two_102 rfl 1 rfl ?_
        refine ag_iload_n E1 dX7_two_103 rfl 2 rfl ?_
        refine ag_imul E1 dX7_two_104 ?_
        exact am_iret E rfl ⟨_, rfl, h⟩ dX7_two_105
      · have h := h.2 c_1_2
        have n_2 := lv_neT c_1_2 (show (13 : Int32).toInt = 13 by decide)
        rcases Classical.em (x0 = (14 : Int32)) with c_1_3 | c_1_3
        · have h := h.1 c_1_3
          refine ag_tableIn E1 (tgt := 72) (off := 71) dX7_two_1 (by rw [c_1_3]; decide) (by rw [c_1_3]; decide) (by rw [c_1_3]; decide) (by decide) ?_
          refine ag_iload_n E1 dX7_two_72 rfl 1 rfl ?_
          refine ag_iload_n E1 dX7_two_73 rfl 2 rfl ?_
          refine ag_icmp_ge E1 (tgt := 81) dX7_two_74 (by decide) (fun c_74 => ?_) (fun c_74 => ?_)
          · have h := h.1 c_74
            refine ag_iconst E1 dX7_two_81 ki_0 ?_
            exact am_iret E rfl ⟨_, rfl, h⟩ dX7_two_82
          · have h := h.2 c_74
            refine ag_iconst E1 dX7_two_77 ki_1 ?_
            refine ag_goto E1 (tgt := 82) dX7_two_78 (by decide) ?_
            exact am_iret E rfl ⟨_, rfl, h⟩ dX7_two_82
        · have h := h.2 c_1_3
          have n_3 := lv_neT c_1_3 (show (14 : Int32).toInt = 14 by decide)
          rcases Classical.em (x0 = (15 : Int32)) with c_1_4 | c_1_4
          · have h := h.1 c_1_4
            refine ag_tableIn E1 (tgt := 83) (off := 82) dX7_two_1 (by rw [c_1_4]; decide) (by rw [c_1_4]; decide) (by rw [c_1_4]; decide) (by decide) ?_
            refine ag_iload_n E1 dX7_two_83 rfl 1 rfl ?_
            refine ag_iload_n E1 dX7_two_84 rfl 2 rfl ?_
            refine ag_icmp_ne E1 (tgt := 92) dX7_two_85 (by decide) (fun c_85 => ?_) (fun c_85 => ?_)
            · have h := h.1 c_85
              refine ag_iconst E1 dX7_two_92 ki_0 ?_
              exact am_iret E rfl ⟨_, rfl, h⟩ dX7_two_93
            · have h := h.2 c_85
              refine ag_iconst E1 dX7_two_88 ki_1 ?_
              refine ag_goto E1 (tgt := 93) dX7_two_89 (by decide) ?_
              exact am_iret E rfl ⟨_, rfl, h⟩ dX7_two_93
          · have h := h.2 c_1_4
            have n_4 := lv_neT c_1_4 (show (15 : Int32).toInt = 15 by decide)
            rcases Classical.em (x0 = (16 : Int32)) with c_1_5 | c_1_5
            · have h := h.1 c_1_5
              refine ag_tableIn E1 (tgt := 94) (off := 93) dX7_two_1 (by rw [c_1_5]; decide) (by rw [c_1_5]; decide) (by rw [c_1_5]; decide) (by decide) ?_
              refine ag_iload_n E1 dX7_two_94 rfl 1 rfl ?_
              refine ag_iload_n E1 dX7_two_95 rfl 2 rfl ?_
              refine ag_iadd E1 dX7_two_96 ?_
              exact am_iret E rfl ⟨_, rfl, h⟩ dX7_two_97
            · have h := h.2 c_1_5
              have n_5 := lv_neT c_1_5 (show (16 : Int32).toInt = 16 by decide)
              rcases Classical.em (x0 = (17 : Int32)) with c_1_6 | c_1_6
              · have h := h.1 c_1_6
                refine ag_tableIn E1 (tgt := 98) (off := 97) dX7_two_1 (by rw [c_1_6]; decide) (by rw [c_1_6]; decide) (by rw [c_1_6]; decide) (by decide) ?_
                refine ag_iload_n E1 dX7_two_98 rfl 1 rfl ?_
                refine ag_iload_n E1 dX7_two_99 rfl 2 rfl ?_
                refine ag_isub E1 dX7_two_100 ?_
                exact am_iret E rfl ⟨_, rfl, h⟩ dX7_two_101
              · have h := h.2 c_1_6
                have n_6 := lv_neT c_1_6 (show (17 : Int32).toInt = 17 by decide)
                refine ag_tableOut E1 (tgt := 102) dX7_two_1 (by omega) (by decide) ?_
                refine ag_iload_n E1 dX7_two_102 rfl 1 rfl ?_
                refine ag_iload_n E1 dX7_two_103 rfl 2 rfl ?_
                refine ag_imul E1 dX7_two_104 ?_
                exact am_iret E rfl ⟨_, rfl, h⟩ dX7_two_105
theorem hdX7_two : yX7_two.cls ≠ "java/lang/invoke/MethodHandle" ∧ yX7_two.cls ≠ "java/lang/invoke/VarHandle" ∧ (parseMethodDescriptor yX7_two.desc).map (fun d => d.parameters.length) = some 3 := by decide +kernel
theorem tbX7_worth_191 (E : EM p R s m args meth c cX7_worth 5 (some .int) D cs b H0 XK 1 22 z u) {Q : Int32 → St → Prop} {K16 : Int32 → Int32 → Int32 → St → Prop} (hK16 : ∀ (x1 : Int32) (x2 : Int32) (x3 : Int32) (f : St), K16 x1 x2 x3 f → AM p l e R s m args below meth c D cs b 5 o Z z u (pI Q) 16 [(0, .ref o), (1, .int x1), (2, .int x2), (3, .int x3)] [] f) {x1 : Int32} {x2 : Int32} {x3 : Int32} {f : St} (h : wbX7_worth_191 K16 Q x1 x2 x3 f) : AM p l e R s m args below meth c D cs b 5 o Z z u (pI Q) 191 [(0, .ref o), (1, .int x1), (2, .int x2), (3, .int x3)] [] f := by
  have E1 := E.1
  refine ag_iincN E1 (lv' := fun x3_5 => [(3, .int x3_5), (0, .ref o), (1, .int x1), (2, .int x2)]) dX7_worth_191 3 rfl ki_1 (Nat.lt_of_lt_of_le (Nat.le_refl _) (Nat.le_of_ble_eq_true rfl)) (fun _ => rfl) (fun x3_5 e_x3_5 => ?_)
  have h := h x3_5 e_x3_5
  refine ag_goto E1 (tgt := 16) dX7_worth_194 (by decide) ?_
  refine ag_sub (lv' := [(0, .ref o), (1, .int x1), (2, .int x2), (3, .int x3_5)]) [1, 2, 3, 0] rfl ?_
  exact hK16 _ _ _ _ h
theorem tbX7_worth_93 (E : EM p R s m args meth c cX7_worth 5 (some .int) D cs b H0 XK 1 22 z u) {Q : Int32 → St → Prop} {K16 : Int32 → Int32 → Int32 → St → Prop} (hK16 : ∀ (x1 : Int32) (x2 : Int32) (x3 : Int32) (f : St), K16 x1 x2 x3 f → AM p l e R s m args below meth c D cs b 5 o Z z u (pI Q) 16 [(0, .ref o), (1, .int x1), (2, .int x2), (3, .int x3)] [] f) {x1 : Int32} {x2 : Int32} {x3 : Int32} {t0 : Int32} {t1 : Int32} {f : St} (h : wbX7_worth_93 K16 Q x1 x2 x3 t0 t1 f) : AM p l e R s m args below meth c D cs b 5 o Z z u (pI Q) 93 [(0, .ref o), (1, .int x1), (2, .int x2), (3, .int x3)] [.int t0, .int t1, .ref (o + 28)] f := by
  have E1 := E.1
  obtain ⟨hin, h⟩ := h
  refine am_iast E 49 rfl rfl rfl (by decide) hin dX7_worth_93 (fun f_3 e_f_3 => ?_)
  have h := h f_3 e_f_3
  refine ag_iincN E1 (lv' := fun x2_4 => [(2, .int x2_4), (0, .ref o), (1, .int x1), (3, .int x3)]) dX7_worth_94 2 rfl ki_1 (Nat.lt_of_lt_of_le (Nat.le_refl _) (Nat.le_of_ble_eq_true rfl)) (fun _ => rfl) (fun x2_4 e_x2_4 => ?_)
  have h := h x2_4 e_x2_4
  refine ag_goto E1 (tgt := 191) dX7_worth_97 (by decide) ?_
  refine ag_sub (lv' := [(0, .ref o), (1, .int x1), (2, .int x2_4), (3, .int x3)]) [1, 2, 0, 3] rfl ?_
  exact tbX7_worth_191 E hK16 h
theorem tbX7_worth_66 (E : EM p R s m args meth c cX7_worth 5 (some .int) D cs b H0 XK 1 22 z u) {Q : Int32 → St → Prop} {K16 : Int32 → Int32 → Int32 → St → Prop} (hK16 : ∀ (x1 : Int32) (x2 : Int32) (x3 : Int32) (f : St), K16 x1 x2 x3 f → AM p l e R s m args below meth c D cs b 5 o Z z u (pI Q) 16 [(0, .ref o), (1, .int x1), (2, .int x2), (3, .int x3)] [] f) {x1 : Int32} {x2 : Int32} {x3 : Int32} {x4 : Int32} {f : St} (h : wbX7_worth_66 K16 Q x1 x2 x3 x4 f) : AM p l e R s m args below meth c D cs b 5 o Z z u (pI Q) 66 [(0, .ref o), (1, .int x1), (2, .int x2), (3, .int x3), (4, .int x4)] [] f := by
  have E1 := E.1
  refine ag_aload_n E1 dX7_worth_66 rfl 0 rfl ?_
  refine am_geta E 49 (i := 28) (by decide) (by decide) rfl q1499 dX7_worth_67 ?_
  refine ag_iload_n E1 dX7_worth_70 rfl 2 rfl ?_
  refine ag_iload E1 dX7_worth_71 4 rfl ?_
  refine ag_bipush E1 dX7_worth_73 kb_11 ?_
  refine ag_icmp_ge E1 (tgt := 88) dX7_worth_75 (by decide) (fun c_75 => ?_) (fun c_75 => ?_)
  · have h := h.1 c_75
    refine ag_iload E1 dX7_worth_88 4 rfl ?_
    refine ag_ldc E1 q1684 dX7_worth_90 ?_
    refine ag_isub E1 dX7_worth_92 ?_
    refine ag_sub (lv' := [(0, .ref o), (1, .int x1), (2, .int x2), (3, .int x3)]) [0, 1, 2, 3] rfl ?_
    exact tbX7_worth_93 E hK16 h
  · have h := h.2 c_75
    refine ag_aload_n E1 dX7_worth_78 rfl 0 rfl ?_
    refine am_geta E 50 (i := 29) (by decide) (by decide) rfl q1500 dX7_worth_79 ?_
    refine ag_iload E1 dX7_worth_82 4 rfl ?_
    obtain ⟨hin, h⟩ := h
    refine am_iald E 50 rfl rfl rfl (by decide) hin dX7_worth_84 ?_
    refine ag_goto E1 (tgt := 93) dX7_worth_85 (by decide) ?_
    refine ag_sub (lv' := [(0, .ref o), (1, .int x1), (2, .int x2), (3, .int x3)]) [0, 1, 2, 3] rfl ?_
    exact tbX7_worth_93 E hK16 h
theorem tbX7_worth_130 (E : EM p R s m args meth c cX7_worth 5 (some .int) D cs b H0 XK 1 22 z u) {Q : Int32 → St → Prop} {K16 : Int32 → Int32 → Int32 → St → Prop} (hK16 : ∀ (x1 : Int32) (x2 : Int32) (x3 : Int32) (f : St), K16 x1 x2 x3 f → AM p l e R s m args below meth c D cs b 5 o Z z u (pI Q) 16 [(0, .ref o), (1, .int x1), (2, .int x2), (3, .int x3)] [] f) {x1 : Int32} {x2 : Int32} {x3 : Int32} {t0 : Int32} {t1 : Int32} {f : St} (h : wbX7_worth_130 K16 Q x1 x2 x3 t0 t1 f) : AM p l e R s m args below meth c D cs b 5 o Z z u (pI Q) 130 [(0, .ref o), (1, .int x1), (2, .int x2), (3, .int x3)] [.int t0, .int t1, .ref (o + 28)] f := by
  have E1 := E.1
  obtain ⟨hin, h⟩ := h
  refine am_iast E 49 rfl rfl rfl (by decide) hin dX7_worth_130 (fun f_11 e_f_11 => ?_)
  have h := h f_11 e_f_11
  refine ag_goto E1 (tgt := 191) dX7_worth_131 (by decide) ?_
  exact tbX7_worth_191 E hK16 h
theorem tbX7_worth_16 (E : EM p R s m args meth c cX7_worth 5 (some .int) D cs b H0 XK 1 22 z u) {Q : Int32 → St → Prop} {K16 : Int32 → Int32 → Int32 → St → Prop} (hK16 : ∀ (x1 : Int32) (x2 : Int32) (x3 : Int32) (f : St), K16 x1 x2 x3 f → AM p l e R s m args below meth c D cs b 5 o Z z u (pI Q) 16 [(0, .ref o), (1, .int x1), (2, .int x2), (3, .int x3)] [] f) {x1 : Int32} {x2 : Int32} {x3 : Int32} {f : St} (h : wbX7_worth_16 K16 Q x1 x2 x3 f) : AM p l e R s m args below meth c D cs b 5 o Z z u (pI Q) 16 [(0, .ref o), (1, .int x1), (2, .int x2), (3, .int x3)] [] f := by
  have E1 := E.1
  refine ag_iload_n E1 dX7_worth_16 rfl 3 rfl ?_
  refine ag_aload_n E1 dX7_worth_17 rfl 0 rfl ?_
  refine am_geta E 13 (i := 10) (by decide) (by decide) rfl q1463 dX7_worth_18 ?_
  refine ag_iconst E1 dX7_worth_21 ki_4 ?_
  refine ag_aload_n E1 dX7_worth_22 rfl 0 rfl ?_
  refine am_geti E 15 (by decide) rfl q1465 dX7_worth_23 ?_
  refine ag_imul E1 dX7_worth_26 ?_
  refine ag_iload_n E1 dX7_worth_27 rfl 1 rfl ?_
  refine ag_iadd E1 dX7_worth_28 ?_
  refine ag_iconst E1 dX7_worth_29 ki_1 ?_
  refine ag_iadd E1 dX7_worth_30 ?_
  obtain ⟨hin, h⟩ := h
  refine am_iald E 13 rfl rfl rfl (by decide) hin dX7_worth_31 ?_
  refine ag_icmp_ge E1 (tgt := 197) dX7_worth_32 (by decide) (fun c_32 => ?_) (fun c_32 => ?_)
  · have h := h.1 c_32
    refine ag_aload_n E1 dX7_worth_197 rfl 0 rfl ?_
    refine am_geta E 49 (i := 28) (by decide) (by decide) rfl q1499 dX7_worth_198 ?_
    refine ag_iconst E1 dX7_worth_201 ki_0 ?_
    obtain ⟨hin, h⟩ := h
    refine am_iald E 49 rfl rfl rfl (by decide) hin dX7_worth_202 ?_
    exact am_iret E rfl ⟨_, rfl, h⟩ dX7_worth_203
  · have h := h.2 c_32
    refine ag_aload_n E1 dX7_worth_35 rfl 0 rfl ?_
    refine am_geta E 12 (i := 9) (by decide) (by decide) rfl q1462 dX7_worth_36 ?_
    refine ag_sipush E1 dX7_worth_39 ks_200 ?_
    refine ag_aload_n E1 dX7_worth_42 rfl 0 rfl ?_
    refine am_geti E 15 (by decide) rfl q1465 dX7_worth_43 ?_
    refine ag_imul E1 dX7_worth_46 ?_
    refine ag_iload_n E1 dX7_worth_47 rfl 3 rfl ?_
    refine ag_iadd E1 dX7_worth_48 ?_
    obtain ⟨hin, h⟩ := h
    refine am_iald E 12 rfl rfl rfl (by decide) hin dX7_worth_49 ?_
    refine ag_topi (fun x4_2 e_x4_2 => ?_)
    have h := h x4_2 e_x4_2
    refine ag_istore E1 (lv' := [(4, .int x4_2), (0, .ref o), (1, .int x1), (2, .int x2), (3, .int x3)]) dX7_worth_50 (Nat.lt_of_lt_of_le (Nat.le_refl _) (Nat.le_of_ble_eq_true rfl)) rfl ?_
    refine ag_iload E1 dX7_worth_52 0 rfl ?_
    refine ag_ldc E1 q1684 dX7_worth_54 ?_
    refine ag_icmp_ge E1 (tgt := 66) dX7_worth_56 (by decide) (fun c_56 => ?_) (fun c_56 => ?_)
    · have h := h.1 c_56
      refine ag_sub (lv' := [(0, .ref o), (1, .int x1), (2, .int x2), (3, .int x3), (4, .int x4_2)]) [1, 2, 3, 4, 0] rfl ?_
      exact tbX7_worth_66 E hK16 h
    · have h := h.2 c_56
      refine ag_iload E1 dX7_worth_59 0 rfl ?_
      refine ag_bipush E1 dX7_worth_61 kb_11 ?_
      refine ag_icmp_ge E1 (tgt := 100) dX7_worth_63 (by decide) (fun c_63 => ?_) (fun c_63 => ?_)
      · have h := h.1 c_63
        refine ag_iload E1 dX7_worth_100 0 rfl ?_
        refine ag_bipush E1 dX7_worth_102 kb_13 ?_
        refine ag_icmp_ne E1 (tgt := 134) dX7_worth_104 (by decide) (fun c_104 => ?_) (fun c_104 => ?_)
        · have h := h.1 c_104
          refine ag_iload E1 dX7_worth_134 0 rfl ?_
          refine ag_bipush E1 dX7_worth_136 kb_19 ?_
          refine ag_icmp_ne E1 (tgt := 161) dX7_worth_138 (by decide) (fun c_138 => ?_) (fun c_138 => ?_)
          · have h := h.1 c_138
            refine ag_iincN E1 (lv' := fun x2_6 => [(2, .int x2_6), (4, .int x4_2), (0, .ref o), (1, .int x1), (3, .int x3)]) dX7_worth_161 3 rfl ki_m1 (Nat.lt_of_lt_of_le (Nat.le_refl _) (Nat.le_of_ble_eq_true rfl)) (fun _ => rfl) (fun x2_6 e_x2_6 => ?_)
            have h := h x2_6 e_x2_6
            refine ag_aload_n E1 dX7_worth_164 rfl 2 rfl ?_
            refine am_geta E 49 (i := 28) (by decide) (by decide) rfl q1499 dX7_worth_165 ?_
            refine ag_iload_n E1 dX7_worth_168 rfl 0 rfl ?_
            refine ag_iconst E1 dX7_worth_169 ki_1 ?_
            refine ag_isub E1 dX7_worth_170 ?_
            refine ag_iload E1 dX7_worth_171 1 rfl ?_
            refine ag_aload_n E1 dX7_worth_173 rfl 2 rfl ?_
            refine am_geta E 49 (i := 28) (by decide) (by decide) rfl q1499 dX7_worth_174 ?_
            refine ag_iload_n E1 dX7_worth_177 rfl 0 rfl ?_
            refine ag_iconst E1 dX7_worth_178 ki_1 ?_
            refine ag_isub E1 dX7_worth_179 ?_
            obtain ⟨hin, h⟩ := h
            refine am_iald E 49 rfl rfl rfl (by decide) hin dX7_worth_180 ?_
            refine ag_aload_n E1 dX7_worth_181 rfl 2 rfl ?_
            refine am_geta E 49 (i := 28) (by decide) (by decide) rfl q1499 dX7_worth_182 ?_
            refine ag_iload_n E1 dX7_worth_185 rfl 0 rfl ?_
            obtain ⟨hin, h⟩ := h
            refine am_iald E 49 rfl rfl rfl (by decide) hin dX7_worth_186 ?_
            refine am_callSi E [.int x4_2, .int (f 49 (Int32.toNatClampNeg (x2_6 - (1 : Int32)))), .int (f 49 (Int32.toNatClampNeg x2_6))] (kX7_two _ _ _ _ _ _ _ _ _ _ _ _ _ _ _ h) (lw_S q1733 q1734 q107 q1735) hdX7_two (Nat.le_of_ble_eq_true rfl) (Nat.le_of_ble_eq_true rfl) rfl (Nat.le_of_ble_eq_true rfl) dX7_worth_187 rfl (fun r_8 f_7 h => ?_)
            obtain ⟨hin, h⟩ := h
            refine am_iast E 49 rfl rfl rfl (by decide) hin dX7_worth_190 (fun f_9 e_f_9 => ?_)
            have h := h f_9 e_f_9
            refine ag_sub (lv' := [(0, .ref o), (1, .int x1), (2, .int x2_6), (3, .int x3)]) [2, 3, 0, 4] rfl ?_
            exact tbX7_worth_191 E hK16 h
          · have h := h.2 c_138
            refine ag_aload_n E1 dX7_worth_141 rfl 1 rfl ?_
            refine am_geta E 49 (i := 28) (by decide) (by decide) rfl q1499 dX7_worth_142 ?_
            refine ag_iload_n E1 dX7_worth_145 rfl 3 rfl ?_
            refine ag_iconst E1 dX7_worth_146 ki_1 ?_
            refine ag_isub E1 dX7_worth_147 ?_
            refine ag_aload_n E1 dX7_worth_148 rfl 1 rfl ?_
            refine am_geta E 49 (i := 28) (by decide) (by decide) rfl q1499 dX7_worth_149 ?_
            refine ag_iload_n E1 dX7_worth_152 rfl 3 rfl ?_
            refine ag_iconst E1 dX7_worth_153 ki_1 ?_
            refine ag_isub E1 dX7_worth_154 ?_
            obtain ⟨hin, h⟩ := h
            refine am_iald E 49 rfl rfl rfl (by decide) hin dX7_worth_155 ?_
            refine ag_ineg E1 dX7_worth_156 ?_
            obtain ⟨hin, h⟩ := h
            refine am_iast E 49 rfl rfl rfl (by decide) hin dX7_worth_157 (fun f_10 e_f_10 => ?_)
            have h := h f_10 e_f_10
            refine ag_goto E1 (tgt := 191) dX7_worth_158 (by decide) ?_
            refine ag_sub (lv' := [(0, .ref o), (1, .int x1), (2, .int x2), (3, .int x3)]) [1, 2, 3, 4] rfl ?_
            exact tbX7_worth_191 E hK16 h
        · have h := h.2 c_104
          refine ag_aload_n E1 dX7_worth_107 rfl 1 rfl ?_
          refine am_geta E 49 (i := 28) (by decide) (by decide) rfl q1499 dX7_worth_108 ?_
          refine ag_iload_n E1 dX7_worth_111 rfl 3 rfl ?_
          refine ag_iconst E1 dX7_worth_112 ki_1 ?_
          refine ag_isub E1 dX7_worth_113 ?_
          refine ag_aload_n E1 dX7_worth_114 rfl 1 rfl ?_
          refine am_geta E 49 (i := 28) (by decide) (by decide) rfl q1499 dX7_worth_115 ?_
          refine ag_iload_n E1 dX7_worth_118 rfl 3 rfl ?_
          refine ag_iconst E1 dX7_worth_119 ki_1 ?_
          refine ag_isub E1 dX7_worth_120 ?_
          obtain ⟨hin, h⟩ := h
          refine am_iald E 49 rfl rfl rfl (by decide) hin dX7_worth_121 ?_
          refine ag_if_ne E1 (tgt := 129) dX7_worth_122 (by decide) (fun c_122 => ?_) (fun c_122 => ?_)
          · have h := h.1 c_122
            refine ag_iconst E1 dX7_worth_129 ki_0 ?_
            refine ag_sub (lv' := [(0, .ref o), (1, .int x1), (2, .int x2), (3, .int x3)]) [1, 2, 3, 4] rfl ?_
            exact tbX7_worth_130 E hK16 h
          · have h := h.2 c_122
            refine ag_iconst E1 dX7_worth_125 ki_1 ?_
            refine ag_goto E1 (tgt := 130) dX7_worth_126 (by decide) ?_
            refine ag_sub (lv' := [(0, .ref o), (1, .int x1), (2, .int x2), (3, .int x3)]) [1, 2, 3, 4] rfl ?_
            exact tbX7_worth_130 E hK16 h
      · have h := h.2 c_63
        refine ag_sub (lv' := [(0, .ref o), (1, .int x1), (2, .int x2), (3, .int x3), (4, .int x4_2)]) [1, 2, 3, 4, 0] rfl ?_
        exact tbX7_worth_66 E hK16 h
theorem tlX7_worth_16 (E : EM p R s m args meth c cX7_worth 5 (some .int) D cs b H0 XK 1 22 z u) {Q : Int32 → St → Prop}  : ∀ (n : Nat) (x1 : Int32) (x2 : Int32) (x3 : Int32) (f : St), wlX7_worth_16  Q n x1 x2 x3 f → AM p l e R s m args below meth c D cs b 5 o Z z u (pI Q) 16 [(0, .ref o), (1, .int x1), (2, .int x2), (3, .int x3)] [] f := by
  intro n
  induction n with
  | zero => intro _ _ _ _ h; exact h.elim
  | succ n ih => intro x1 x2 x3 f h; exact tbX7_worth_16 E ih h
theorem kX7_worth (l : Launch) (D : va_G) (cs : Nat → ClassId) (b : Nat) (H0 : Heap) (XK : State → Prop) (o : Nat) (Z : cP) (z u : Nat) (f : St) (x1 : Int32) (Q : Int32 → St → Prop) (h : wX7_worth f x1 Q) : CM l D cs b H0 XK o Z z u yX7_worth cX7_worth 5 (some .int) 1 22 [.ref o, .int x1] f (pI Q) := by
  refine cm_of (by decide) rfl (Nat.le_of_ble_eq_true rfl) (fun p e R s m below meth c E => ?_)
  have E1 := E.1
  refine ag_sub (lv' := [(0, .ref o), (1, .int x1)]) [0, 1] rfl ?_
  refine ag_iconst E1 dX7_worth_0 ki_0 ?_
  refine ag_istore_n E1 (lv' := [(2, .int (0 : Int32)), (0, .ref o), (1, .int x1)]) dX7_worth_1 rfl (Nat.lt_of_lt_of_le (Nat.le_refl _) (Nat.le_of_ble_eq_true rfl)) rfl ?_
  refine ag_aload_n E1 dX7_worth_2 rfl 1 rfl ?_
  refine am_geta E 13 (i := 10) (by decide) (by decide) rfl q1463 dX7_worth_3 ?_
  refine ag_iconst E1 dX7_worth_6 ki_4 ?_
  refine ag_aload_n E1 dX7_worth_7 rfl 1 rfl ?_
  refine am_geti E 15 (by decide) rfl q1465 dX7_worth_8 ?_
  refine ag_imul E1 dX7_worth_11 ?_
  refine ag_iload_n E1 dX7_worth_12 rfl 2 rfl ?_
  refine ag_iadd E1 dX7_worth_13 ?_
  obtain ⟨hin, h⟩ := h
  refine am_iald E 13 rfl rfl rfl (by decide) hin dX7_worth_14 ?_
  refine ag_topi (fun x3_1 e_x3_1 => ?_)
  have h := h x3_1 e_x3_1
  refine ag_istore_n E1 (lv' := [(3, .int x3_1), (2, .int (0 : Int32)), (0, .ref o), (1, .int x1)]) dX7_worth_15 rfl (Nat.lt_of_lt_of_le (Nat.le_refl _) (Nat.le_of_ble_eq_true rfl)) rfl ?_
  refine ag_sub (lv' := [(0, .ref o), (1, .int x1), (2, .int (0 : Int32)), (3, .int x3_1)]) [2, 3, 1, 0] rfl ?_
  obtain ⟨n, h⟩ := h
  exact tlX7_worth_16 E  n _ _ _ _ h
theorem hdX7_worth : yX7_worth.cls = RX7 ∧ yX7_worth.cls ≠ "java/lang/invoke/MethodHandle" ∧ yX7_worth.cls ≠ "java/lang/invoke/VarHandle" ∧ (parseMethodDescriptor yX7_worth.desc).map (fun d => d.parameters.length) = some 1 := by decide +kernel
theorem kX7_nearOf (l : Launch) (D : va_G) (cs : Nat → ClassId) (b : Nat) (H0 : Heap) (XK : State → Prop) (o : Nat) (Z : cP) (z u : Nat) (f : St) (x1 : Int32) (x2 : Int32) (Q : Int32 → St → Prop) (h : wX7_nearOf f x1 x2 Q) : CM l D cs b H0 XK o Z z u yX7_nearOf cX7_nearOf 3 (some .int) 2 46 [.ref o, .int x1, .int x2] f (pI Q) := by
  refine cm_of (by decide) rfl (Nat.le_of_ble_eq_true rfl) (fun p e R s m below meth c E => ?_)
  have E1 := E.1
  refine ag_sub (lv' := [(0, .ref o), (1, .int x1), (2, .int x2)]) [0, 1, 2] rfl ?_
  refine ag_aload_n E1 dX7_nearOf_0 rfl 0 rfl ?_
  refine ag_aload_n E1 dX7_nearOf_1 rfl 0 rfl ?_
  refine am_geta E 39 (i := 25) (by decide) (by decide) rfl q1489 dX7_nearOf_2 ?_
  refine ag_bipush E1 dX7_nearOf_5 kb_6 ?_
  refine ag_iload_n E1 dX7_nearOf_7 rfl 1 rfl ?_
  refine ag_imul E1 dX7_nearOf_8 ?_
  refine ag_iload_n E1 dX7_nearOf_9 rfl 2 rfl ?_
  refine ag_iadd E1 dX7_nearOf_10 ?_
  obtain ⟨hin, h⟩ := h
  refine am_iald E 39 rfl rfl rfl (by decide) hin dX7_nearOf_11 ?_
  refine ag_aload_n E1 dX7_nearOf_12 rfl 0 rfl ?_
  refine am_geta E 1 (i := 1) (by decide) (by decide) rfl q1451 dX7_nearOf_13 ?_
  refine ag_iload_n E1 dX7_nearOf_16 rfl 1 rfl ?_
  obtain ⟨hin, h⟩ := h
  refine am_iald E 1 rfl rfl rfl (by decide) hin dX7_nearOf_17 ?_
  refine ag_aload_n E1 dX7_nearOf_18 rfl 0 rfl ?_
  refine am_geta E 1 (i := 1) (by decide) (by decide) rfl q1451 dX7_nearOf_19 ?_
  refine ag_iload_n E1 dX7_nearOf_22 rfl 2 rfl ?_
  obtain ⟨hin, h⟩ := h
  refine am_iald E 1 rfl rfl rfl (by decide) hin dX7_nearOf_23 ?_
  refine ag_iconst E1 dX7_nearOf_24 ki_0 ?_
  refine ag_iconst E1 dX7_nearOf_25 ki_0 ?_
  refine am_callVv E [.int (f 39 (Int32.toNatClampNeg (((6 : Int32) * x1) + x2))), .int (f 1 (Int32.toNatClampNeg x1)), .int (f 1 (Int32.toNatClampNeg x2)), .int (0 : Int32), .int (0 : Int32)] (kX7_names _ _ _ _ _ _ _ _ _ _ _ _ _ _ _ _ _ h) (lw_V q1725 q1727 qs58 q107 q1728) hdX7_names (Nat.le_of_ble_eq_true rfl) (Nat.le_of_ble_eq_true rfl) rfl (Nat.le_of_ble_eq_true rfl) dX7_nearOf_26 rfl (fun f_1 h => ?_)
  refine ag_aload_n E1 dX7_nearOf_29 rfl 0 rfl ?_
  refine ag_iconst E1 dX7_nearOf_30 ki_0 ?_
  refine am_callVi E [.int (0 : Int32)] (kX7_worth _ _ _ _ _ _ _ _ _ _ _ _ _ h) (lw_V q1729 q1731 qs59 q107 q1732) hdX7_worth (Nat.le_of_ble_eq_true rfl) (Nat.le_of_ble_eq_true rfl) rfl (Nat.le_of_ble_eq_true rfl) dX7_nearOf_31 rfl (fun r_3 f_2 h => ?_)
  exact am_iret E rfl ⟨_, rfl, h⟩ dX7_nearOf_34
theorem hdX7_nearOf : yX7_nearOf.cls = RX7 ∧ yX7_nearOf.cls ≠ "java/lang/invoke/MethodHandle" ∧ yX7_nearOf.cls ≠ "java/lang/invoke/VarHandle" ∧ (parseMethodDescriptor yX7_nearOf.desc).map (fun d => d.parameters.length) = some 2 := by decide +kernel
theorem kX7_says (l : Launch) (D : va_G) (cs : Nat → ClassId) (b : Nat) (H0 : Heap) (XK : State → Prop) (o : Nat) (Z : cP) (z u : Nat) (f : St) (x1 : Int32) (x2 : Int32) (Q : Int64 → St → Prop) (h : wX7_says f x1 x2 Q) : CM l D cs b H0 XK o Z z u yX7_says cX7_says 3 (some .long) 3 68 [.ref o, .int x1, .int x2] f (pJ Q) := by
  refine cm_of (by decide) rfl (Nat.le_of_ble_eq_true rfl) (fun p e R s m below meth c E => ?_)
  have E1 := E.1
  refine ag_sub (lv' := [(0, .ref o), (1, .int x1), (2, .int x2)]) [0, 1, 2] rfl ?_
  refine ag_aload_n E1 dX7_says_0 rfl 0 rfl ?_
  refine ag_iload_n E1 dX7_says_1 rfl 1 rfl ?_
  refine am_callVi E [.int x1] (kX7_isTown _ _ _ _ _ _ _ _ _ _ _ _ _ h) (lw_V q1632 q1634 qs46 q107 q1635) hdX7_isTown (Nat.le_of_ble_eq_true rfl) (Nat.le_of_ble_eq_true rfl) rfl (Nat.le_of_ble_eq_true rfl) dX7_says_2 rfl (fun r_2 f_1 h => ?_)
  refine ag_if_eq E1 (tgt := 21) dX7_says_5 (by decide) (fun c_5 => ?_) (fun c_5 => ?_)
  · have h := h.1 c_5
    refine ag_ldc2 E1 q1720 dX7_says_21 ?_
    exact am_lret E rfl ⟨_, rfl, h⟩ dX7_says_24
  · have h := h.2 c_5
    refine ag_aload_n E1 dX7_says_8 rfl 0 rfl ?_
    refine ag_iload_n E1 dX7_says_9 rfl 2 rfl ?_
    refine am_callVi E [.int x2] (kX7_isTown _ _ _ _ _ _ _ _ _ _ _ _ _ h) (lw_V q1632 q1634 qs46 q107 q1635) hdX7_isTown (Nat.le_of_ble_eq_true rfl) (Nat.le_of_ble_eq_true rfl) rfl (Nat.le_of_ble_eq_true rfl) dX7_says_10 rfl (fun r_4 f_3 h => ?_)
    refine ag_if_eq E1 (tgt := 21) dX7_says_13 (by decide) (fun c_13 => ?_) (fun c_13 => ?_)
    · have h := h.1 c_13
      refine ag_ldc2 E1 q1720 dX7_says_21 ?_
      exact am_lret E rfl ⟨_, rfl, h⟩ dX7_says_24
    · have h := h.2 c_13
      refine ag_iload_n E1 dX7_says_16 rfl 1 rfl ?_
      refine ag_iload_n E1 dX7_says_17 rfl 2 rfl ?_
      refine ag_icmp_ne E1 (tgt := 25) dX7_says_18 (by decide) (fun c_18 => ?_) (fun c_18 => ?_)
      · have h := h.1 c_18
        refine ag_aload_n E1 dX7_says_25 rfl 0 rfl ?_
        refine am_callVv E [] (kX7_spreads _ _ _ _ _ _ _ _ _ _ _  _ h) (lw_V q1640 q1642 qs47 q107 q1643) hdX7_spreads (Nat.le_of_ble_eq_true rfl) (Nat.le_of_ble_eq_true rfl) rfl (Nat.le_of_ble_eq_true rfl) dX7_says_26 rfl (fun f_5 h => ?_)
        refine ag_aload_n E1 dX7_says_29 rfl 0 rfl ?_
        refine ag_iload_n E1 dX7_says_30 rfl 1 rfl ?_
        refine ag_iload_n E1 dX7_says_31 rfl 2 rfl ?_
        refine am_callVi E [.int x1, .int x2] (kX7_nearOf _ _ _ _ _ _ _ _ _ _ _ _ _ _ h) (lw_V q1721 q1723 qs57 q107 q1724) hdX7_nearOf (Nat.le_of_ble_eq_true rfl) (Nat.le_of_ble_eq_true rfl) rfl (Nat.le_of_ble_eq_true rfl) dX7_says_32 rfl (fun r_7 f_6 h => ?_)
        refine ag_i2l E1 dX7_says_35 ?_
        exact am_lret E rfl ⟨_, rfl, h⟩ dX7_says_36
      · have h := h.2 c_18
        refine ag_ldc2 E1 q1720 dX7_says_21 ?_
        exact am_lret E rfl ⟨_, rfl, h⟩ dX7_says_24
theorem hdX7_says : yX7_says.cls = RX7 ∧ yX7_says.cls ≠ "java/lang/invoke/MethodHandle" ∧ yX7_says.cls ≠ "java/lang/invoke/VarHandle" ∧ (parseMethodDescriptor yX7_says.desc).map (fun d => d.parameters.length) = some 2 := by decide +kernel
theorem tbX7_worthBy_26 (E : EM p R s m args meth c cX7_worthBy 6 (some .int) D cs b H0 XK 2 46 z u) {Q : Int32 → St → Prop}  {t0 : Int32} {t1 : Int32} {t2 : Int32} {t3 : Int32} {t4 : Int32} {f : St} (h : wbX7_worthBy_26  Q t0 t1 t2 t3 t4 f) : AM p l e R s m args below meth c D cs b 6 o Z z u (pI Q) 26 [(0, .ref o)] [.int t0, .int t1, .int t2, .int t3, .int t4, .ref o] f := by
  have E1 := E.1
  refine am_callVv E [.int t4, .int t3, .int t2, .int t1, .int t0] (kX7_names _ _ _ _ _ _ _ _ _ _ _ _ _ _ _ _ _ h) (lw_V q1725 q1727 qs58 q107 q1728) hdX7_names (Nat.le_of_ble_eq_true rfl) (Nat.le_of_ble_eq_true rfl) rfl (Nat.le_of_ble_eq_true rfl) dX7_worthBy_26 rfl (fun f_1 h => ?_)
  refine ag_aload_n E1 dX7_worthBy_29 rfl 0 rfl ?_
  refine ag_iconst E1 dX7_worthBy_30 ki_1 ?_
  refine am_callVi E [.int (1 : Int32)] (kX7_worth _ _ _ _ _ _ _ _ _ _ _ _ _ h) (lw_V q1729 q1731 qs59 q107 q1732) hdX7_worth (Nat.le_of_ble_eq_true rfl) (Nat.le_of_ble_eq_true rfl) rfl (Nat.le_of_ble_eq_true rfl) dX7_worthBy_31 rfl (fun r_3 f_2 h => ?_)
  refine ag_istore E1 (lv' := [(5, .int r_3), (0, .ref o)]) dX7_worthBy_34 (Nat.lt_of_lt_of_le (Nat.le_refl _) (Nat.le_of_ble_eq_true rfl)) rfl ?_
  refine ag_iload E1 dX7_worthBy_36 0 rfl ?_
  refine ag_sipush E1 dX7_worthBy_38 ks_999 ?_
  refine ag_icmp_le E1 (tgt := 50) dX7_worthBy_41 (by decide) (fun c_41 => ?_) (fun c_41 => ?_)
  · have h := h.1 c_41
    refine ag_iload E1 dX7_worthBy_50 0 rfl ?_
    refine ag_sipush E1 dX7_worthBy_52 ks_m999 ?_
    refine ag_icmp_ge E1 (tgt := 64) dX7_worthBy_55 (by decide) (fun c_55 => ?_) (fun c_55 => ?_)
    · have h := h.1 c_55
      refine ag_iload E1 dX7_worthBy_64 0 rfl ?_
      exact am_iret E rfl ⟨_, rfl, h⟩ dX7_worthBy_66
    · have h := h.2 c_55
      refine ag_sipush E1 dX7_worthBy_58 ks_m999 ?_
      refine ag_goto E1 (tgt := 66) dX7_worthBy_61 (by decide) ?_
      exact am_iret E rfl ⟨_, rfl, h⟩ dX7_worthBy_66
  · have h := h.2 c_41
    refine ag_sipush E1 dX7_worthBy_44 ks_999 ?_
    refine ag_goto E1 (tgt := 66) dX7_worthBy_47 (by decide) ?_
    exact am_iret E rfl ⟨_, rfl, h⟩ dX7_worthBy_66
theorem kX7_worthBy (l : Launch) (D : va_G) (cs : Nat → ClassId) (b : Nat) (H0 : Heap) (XK : State → Prop) (o : Nat) (Z : cP) (z u : Nat) (f : St) (x1 : Int32) (x2 : Int32) (x3 : Int32) (x4 : Int32) (Q : Int32 → St → Prop) (h : wX7_worthBy f x1 x2 x3 x4 Q) : CM l D cs b H0 XK o Z z u yX7_worthBy cX7_worthBy 6 (some .int) 2 46 [.ref o, .int x1, .int x2, .int x3, .int x4] f (pI Q) := by
  refine cm_of (by decide) rfl (Nat.le_of_ble_eq_true rfl) (fun p e R s m below meth c E => ?_)
  have E1 := E.1
  refine ag_sub (lv' := [(0, .ref o), (1, .int x1), (2, .int x2), (3, .int x3), (4, .int x4)]) [0, 1, 2, 3, 4] rfl ?_
  refine ag_aload_n E1 dX7_worthBy_0 rfl 0 rfl ?_
  refine ag_iload_n E1 dX7_worthBy_1 rfl 3 rfl ?_
  refine ag_aload_n E1 dX7_worthBy_2 rfl 0 rfl ?_
  refine am_geta E 1 (i := 1) (by decide) (by decide) rfl q1451 dX7_worthBy_3 ?_
  refine ag_iload_n E1 dX7_worthBy_6 rfl 1 rfl ?_
  obtain ⟨hin, h⟩ := h
  refine am_iald E 1 rfl rfl rfl (by decide) hin dX7_worthBy_7 ?_
  refine ag_iload E1 dX7_worthBy_8 4 rfl ?_
  refine ag_iload_n E1 dX7_worthBy_10 rfl 2 rfl ?_
  refine ag_aload_n E1 dX7_worthBy_11 rfl 0 rfl ?_
  refine am_geta E 3 (i := 3) (by decide) (by decide) rfl q1453 dX7_worthBy_12 ?_
  refine ag_iload_n E1 dX7_worthBy_15 rfl 1 rfl ?_
  obtain ⟨hin, h⟩ := h
  refine am_iald E 3 rfl rfl rfl (by decide) hin dX7_worthBy_16 ?_
  refine ag_iload_n E1 dX7_worthBy_17 rfl 2 rfl ?_
  refine ag_icmp_ne E1 (tgt := 25) dX7_worthBy_18 (by decide) (fun c_18 => ?_) (fun c_18 => ?_)
  · have h := h.1 c_18
    refine ag_iconst E1 dX7_worthBy_25 ki_0 ?_
    refine ag_sub (lv' := [(0, .ref o)]) [0] rfl ?_
    exact tbX7_worthBy_26 E  h
  · have h := h.2 c_18
    refine ag_iconst E1 dX7_worthBy_21 ki_1 ?_
    refine ag_goto E1 (tgt := 26) dX7_worthBy_22 (by decide) ?_
    refine ag_sub (lv' := [(0, .ref o)]) [0] rfl ?_
    exact tbX7_worthBy_26 E  h
theorem hdX7_worthBy : yX7_worthBy.cls = RX7 ∧ yX7_worthBy.cls ≠ "java/lang/invoke/MethodHandle" ∧ yX7_worthBy.cls ≠ "java/lang/invoke/VarHandle" ∧ (parseMethodDescriptor yX7_worthBy.desc).map (fun d => d.parameters.length) = some 4 := by decide +kernel
theorem kX7_worthOf (l : Launch) (D : va_G) (cs : Nat → ClassId) (b : Nat) (H0 : Heap) (XK : State → Prop) (o : Nat) (Z : cP) (z u : Nat) (f : St) (x1 : Int32) (x2 : Int32) (x3 : Int32) (x4 : Int32) (Q : Int64 → St → Prop) (h : wX7_worthOf f x1 x2 x3 x4 Q) : CM l D cs b H0 XK o Z z u yX7_worthOf cX7_worthOf 5 (some .long) 3 71 [.ref o, .int x1, .int x2, .int x3, .int x4] f (pJ Q) := by
  refine cm_of (by decide) rfl (Nat.le_of_ble_eq_true rfl) (fun p e R s m below meth c E => ?_)
  have E1 := E.1
  refine ag_sub (lv' := [(0, .ref o), (1, .int x1), (2, .int x2), (3, .int x3), (4, .int x4)]) [0, 1, 2, 3, 4] rfl ?_
  refine ag_aload_n E1 dX7_worthOf_0 rfl 0 rfl ?_
  refine ag_iload_n E1 dX7_worthOf_1 rfl 1 rfl ?_
  refine am_callVi E [.int x1] (kX7_isTown _ _ _ _ _ _ _ _ _ _ _ _ _ h) (lw_V q1632 q1634 qs46 q107 q1635) hdX7_isTown (Nat.le_of_ble_eq_true rfl) (Nat.le_of_ble_eq_true rfl) rfl (Nat.le_of_ble_eq_true rfl) dX7_worthOf_2 rfl (fun r_2 f_1 h => ?_)
  refine ag_if_eq E1 (tgt := 56) dX7_worthOf_5 (by decide) (fun c_5 => ?_) (fun c_5 => ?_)
  · have h := h.1 c_5
    refine ag_ldc2 E1 q1720 dX7_worthOf_56 ?_
    exact am_lret E rfl ⟨_, rfl, h⟩ dX7_worthOf_59
  · have h := h.2 c_5
    refine ag_iload_n E1 dX7_worthOf_8 rfl 2 rfl ?_
    refine ag_iconst E1 dX7_worthOf_9 ki_0 ?_
    refine ag_aload_n E1 dX7_worthOf_10 rfl 0 rfl ?_
    refine am_geti E 6 (by decide) rfl q1456 dX7_worthOf_11 ?_
    refine ag_iconst E1 dX7_worthOf_14 ki_1 ?_
    refine ag_isub E1 dX7_worthOf_15 ?_
    refine am_callSi E [.int x2, .int (0 : Int32), .int ((f_1 99 6) - (1 : Int32))] (kX7_in _ _ _ _ _ _ _ _ _ _ _ _ _ _ _ h) (lw_S q1625 q1626 q107 q1627) hdX7_in (Nat.le_of_ble_eq_true rfl) (Nat.le_of_ble_eq_true rfl) rfl (Nat.le_of_ble_eq_true rfl) dX7_worthOf_16 rfl (fun r_4 f_3 h => ?_)
    refine ag_if_eq E1 (tgt := 56) dX7_worthOf_19 (by decide) (fun c_19 => ?_) (fun c_19 => ?_)
    · have h := h.1 c_19
      refine ag_ldc2 E1 q1720 dX7_worthOf_56 ?_
      exact am_lret E rfl ⟨_, rfl, h⟩ dX7_worthOf_59
    · have h := h.2 c_19
      refine ag_iload_n E1 dX7_worthOf_22 rfl 3 rfl ?_
      refine ag_iconst E1 dX7_worthOf_23 ki_0 ?_
      refine ag_bipush E1 dX7_worthOf_24 kb_99 ?_
      refine am_callSi E [.int x3, .int (0 : Int32), .int (99 : Int32)] (kX7_in _ _ _ _ _ _ _ _ _ _ _ _ _ _ _ h) (lw_S q1625 q1626 q107 q1627) hdX7_in (Nat.le_of_ble_eq_true rfl) (Nat.le_of_ble_eq_true rfl) rfl (Nat.le_of_ble_eq_true rfl) dX7_worthOf_26 rfl (fun r_6 f_5 h => ?_)
      refine ag_if_eq E1 (tgt := 56) dX7_worthOf_29 (by decide) (fun c_29 => ?_) (fun c_29 => ?_)
      · have h := h.1 c_29
        refine ag_ldc2 E1 q1720 dX7_worthOf_56 ?_
        exact am_lret E rfl ⟨_, rfl, h⟩ dX7_worthOf_59
      · have h := h.2 c_29
        refine ag_iload E1 dX7_worthOf_32 4 rfl ?_
        refine ag_iconst E1 dX7_worthOf_34 ki_0 ?_
        refine ag_bipush E1 dX7_worthOf_35 kb_6 ?_
        refine am_callSi E [.int x4, .int (0 : Int32), .int (6 : Int32)] (kX7_in _ _ _ _ _ _ _ _ _ _ _ _ _ _ _ h) (lw_S q1625 q1626 q107 q1627) hdX7_in (Nat.le_of_ble_eq_true rfl) (Nat.le_of_ble_eq_true rfl) rfl (Nat.le_of_ble_eq_true rfl) dX7_worthOf_37 rfl (fun r_8 f_7 h => ?_)
        refine ag_if_eq E1 (tgt := 56) dX7_worthOf_40 (by decide) (fun c_40 => ?_) (fun c_40 => ?_)
        · have h := h.1 c_40
          refine ag_ldc2 E1 q1720 dX7_worthOf_56 ?_
          exact am_lret E rfl ⟨_, rfl, h⟩ dX7_worthOf_59
        · have h := h.2 c_40
          refine ag_aload_n E1 dX7_worthOf_43 rfl 0 rfl ?_
          refine ag_iload_n E1 dX7_worthOf_44 rfl 1 rfl ?_
          refine ag_iload_n E1 dX7_worthOf_45 rfl 2 rfl ?_
          refine ag_iload_n E1 dX7_worthOf_46 rfl 3 rfl ?_
          refine ag_iload E1 dX7_worthOf_47 4 rfl ?_
          refine am_callVi E [.int x1, .int x2, .int x3, .int x4] (kX7_worthBy _ _ _ _ _ _ _ _ _ _ _ _ _ _ _ _ h) (lw_V q1740 q1742 qs60 q107 q1743) hdX7_worthBy (Nat.le_of_ble_eq_true rfl) (Nat.le_of_ble_eq_true rfl) rfl (Nat.le_of_ble_eq_true rfl) dX7_worthOf_49 rfl (fun r_10 f_9 h => ?_)
          refine ag_i2l E1 dX7_worthOf_52 ?_
          refine ag_goto E1 (tgt := 59) dX7_worthOf_53 (by decide) ?_
          exact am_lret E rfl ⟨_, rfl, h⟩ dX7_worthOf_59
theorem hdX7_worthOf : yX7_worthOf.cls = RX7 ∧ yX7_worthOf.cls ≠ "java/lang/invoke/MethodHandle" ∧ yX7_worthOf.cls ≠ "java/lang/invoke/VarHandle" ∧ (parseMethodDescriptor yX7_worthOf.desc).map (fun d => d.parameters.length) = some 4 := by decide +kernel
theorem tbX7_isNumber_23 (E : EM p R s m args meth c cX7_isNumber 3 (some .boolean) D cs b H0 XK 1 22 z u) {Q : Int32 → St → Prop}  {t0 : Int32} {t1 : Int32} {t2 : Int32} {f : St} (h : wbX7_isNumber_23  Q t0 t1 t2 f) : AM p l e R s m args below meth c D cs b 3 o Z z u (pI Q) 23 [] [.int t0, .int t1, .int t2] f := by
  have E1 := E.1
  refine am_callSi E [.int t2, .int t1, .int t0] (kX7_in _ _ _ _ _ _ _ _ _ _ _ _ _ _ _ h) (lw_S q1625 q1626 q107 q1627) hdX7_in (Nat.le_of_ble_eq_true rfl) (Nat.le_of_ble_eq_true rfl) rfl (Nat.le_of_ble_eq_true rfl) dX7_isNumber_23 rfl (fun r_2 f_1 h => ?_)
  exact am_zret E rfl h.1 ⟨_, rfl, h.2⟩ dX7_isNumber_26
theorem tbX7_isNumber_12 (E : EM p R s m args meth c cX7_isNumber 3 (some .boolean) D cs b H0 XK 1 22 z u) {Q : Int32 → St → Prop}  {t0 : Int32} {t1 : Int32} {f : St} (h : wbX7_isNumber_12  Q t0 t1 f) : AM p l e R s m args below meth c D cs b 3 o Z z u (pI Q) 12 [] [.int t0, .int t1] f := by
  have E1 := E.1
  refine ag_bipush E1 dX7_isNumber_12 kb_7 ?_
  refine ag_goto E1 (tgt := 23) dX7_isNumber_14 (by decide) ?_
  exact tbX7_isNumber_23 E  h
theorem kX7_isNumber (l : Launch) (D : va_G) (cs : Nat → ClassId) (b : Nat) (H0 : Heap) (XK : State → Prop) (o : Nat) (Z : cP) (z u : Nat) (f : St) (x1 : Int32) (x2 : Int32) (Q : Int32 → St → Prop) (h : wX7_isNumber f x1 x2 Q) : CM l D cs b H0 XK o Z z u yX7_isNumber cX7_isNumber 3 (some .boolean) 1 22 [.ref o, .int x1, .int x2] f (pI Q) := by
  refine cm_of (by decide) rfl (Nat.le_of_ble_eq_true rfl) (fun p e R s m below meth c E => ?_)
  have E1 := E.1
  refine ag_sub (lv' := [(0, .ref o), (1, .int x1), (2, .int x2)]) [0, 1, 2] rfl ?_
  refine ag_iload_n E1 dX7_isNumber_0 rfl 2 rfl ?_
  refine ag_iconst E1 dX7_isNumber_1 ki_0 ?_
  refine ag_iload_n E1 dX7_isNumber_2 rfl 1 rfl ?_
  refine ag_iconst E1 dX7_isNumber_3 ki_1 ?_
  refine ag_icmp_eq E1 (tgt := 12) dX7_isNumber_4 (by decide) (fun c_4 => ?_) (fun c_4 => ?_)
  · have h := h.1 c_4
    refine ag_sub (lv' := []) [] rfl ?_
    exact tbX7_isNumber_12 E  h
  · have h := h.2 c_4
    refine ag_iload_n E1 dX7_isNumber_7 rfl 1 rfl ?_
    refine ag_iconst E1 dX7_isNumber_8 ki_5 ?_
    refine ag_icmp_ne E1 (tgt := 17) dX7_isNumber_9 (by decide) (fun c_9 => ?_) (fun c_9 => ?_)
    · have h := h.1 c_9
      refine ag_aload_n E1 dX7_isNumber_17 rfl 0 rfl ?_
      refine am_geti E 6 (by decide) rfl q1456 dX7_isNumber_18 ?_
      refine ag_iconst E1 dX7_isNumber_21 ki_1 ?_
      refine ag_isub E1 dX7_isNumber_22 ?_
      refine ag_sub (lv' := []) [] rfl ?_
      exact tbX7_isNumber_23 E  h
    · have h := h.2 c_9
      refine ag_sub (lv' := []) [] rfl ?_
      exact tbX7_isNumber_12 E  h
theorem hdX7_isNumber : yX7_isNumber.cls = RX7 ∧ yX7_isNumber.cls ≠ "java/lang/invoke/MethodHandle" ∧ yX7_isNumber.cls ≠ "java/lang/invoke/VarHandle" ∧ (parseMethodDescriptor yX7_isNumber.desc).map (fun d => d.parameters.length) = some 2 := by decide +kernel
theorem tbX7_giving_56 (E : EM p R s m args meth c cX7_giving 5 (some .int) D cs b H0 XK 2 44 z u) {Q : Int32 → St → Prop} {K56 : Int32 → Int32 → Int32 → Int32 → St → Prop} (hK56 : ∀ (x1 : Int32) (x2 : Int32) (x3 : Int32) (x4 : Int32) (f : St), K56 x1 x2 x3 x4 f → AM p l e R s m args below meth c D cs b 5 o Z z u (pI Q) 56 [(0, .ref o), (1, .int x1), (2, .int x2), (3, .int x3), (4, .int x4)] [] f) {K93 : Int32 → Int32 → Int32 → St → Prop} (hK93 : ∀ (x1 : Int32) (x2 : Int32) (x3 : Int32) (f : St), K93 x1 x2 x3 f → AM p l e R s m args below meth c D cs b 5 o Z z u (pI Q) 93 [(0, .ref o), (1, .int x1), (2, .int x2), (3, .int x3)] [] f) {x1 : Int32} {x2 : Int32} {x3 : Int32} {x4 : Int32} {f : St} (h : wbX7_giving_56 K56 K93 Q x1 x2 x3 x4 f) : AM p l e R s m args below meth c D cs b 5 o Z z u (pI Q) 56 [(0, .ref o), (1, .int x1), (2, .int x2), (3, .int x3), (4, .int x4)] [] f := by
  have E1 := E.1
  refine ag_iload E1 dX7_giving_56 4 rfl ?_
  refine ag_aload_n E1 dX7_giving_58 rfl 0 rfl ?_
  refine am_geti E 0 (by decide) rfl q1450 dX7_giving_59 ?_
  refine ag_icmp_ge E1 (tgt := 93) dX7_giving_62 (by decide) (fun c_62 => ?_) (fun c_62 => ?_)
  · have h := h.1 c_62
    refine ag_sub (lv' := [(0, .ref o), (1, .int x1), (2, .int x2), (3, .int x3)]) [0, 1, 2, 3] rfl ?_
    exact hK93 _ _ _ _ h
  · have h := h.2 c_62
    refine ag_iload_n E1 dX7_giving_65 rfl 3 rfl ?_
    refine ag_if_eq E1 (tgt := 93) dX7_giving_66 (by decide) (fun c_66 => ?_) (fun c_66 => ?_)
    · have h := h.1 c_66
      refine ag_sub (lv' := [(0, .ref o), (1, .int x1), (2, .int x2), (3, .int x3)]) [0, 1, 2, 3] rfl ?_
      exact hK93 _ _ _ _ h
    · have h := h.2 c_66
      refine ag_aload_n E1 dX7_giving_69 rfl 0 rfl ?_
      refine ag_iload_n E1 dX7_giving_70 rfl 1 rfl ?_
      refine ag_aload_n E1 dX7_giving_71 rfl 0 rfl ?_
      refine am_geta E 38 (i := 24) (by decide) (by decide) rfl q1488 dX7_giving_72 ?_
      refine ag_bipush E1 dX7_giving_75 kb_40 ?_
      refine ag_iload_n E1 dX7_giving_77 rfl 2 rfl ?_
      refine ag_imul E1 dX7_giving_78 ?_
      refine ag_iload E1 dX7_giving_79 4 rfl ?_
      refine ag_iadd E1 dX7_giving_81 ?_
      obtain ⟨hin, h⟩ := h
      refine am_iald E 38 rfl rfl rfl (by decide) hin dX7_giving_82 ?_
      refine am_callVi E [.int x1, .int (f 38 (Int32.toNatClampNeg (((40 : Int32) * x2) + x4)))] (kX7_isNumber _ _ _ _ _ _ _ _ _ _ _ _ _ _ h) (lw_V q1748 q1750 qs61 q107 q1751) hdX7_isNumber (Nat.le_of_ble_eq_true rfl) (Nat.le_of_ble_eq_true rfl) rfl (Nat.le_of_ble_eq_true rfl) dX7_giving_83 rfl (fun r_6 f_5 h => ?_)
      refine ag_istore_n E1 (lv' := [(3, .int r_6), (0, .ref o), (1, .int x1), (2, .int x2), (4, .int x4)]) dX7_giving_86 rfl (Nat.lt_of_lt_of_le (Nat.le_refl _) (Nat.le_of_ble_eq_true rfl)) rfl ?_
      refine ag_iincN E1 (lv' := fun x4_7 => [(4, .int x4_7), (3, .int r_6), (0, .ref o), (1, .int x1), (2, .int x2)]) dX7_giving_87 4 rfl ki_1 (Nat.lt_of_lt_of_le (Nat.le_refl _) (Nat.le_of_ble_eq_true rfl)) (fun _ => rfl) (fun x4_7 e_x4_7 => ?_)
      have h := h x4_7 e_x4_7
      refine ag_goto E1 (tgt := 56) dX7_giving_90 (by decide) ?_
      refine ag_sub (lv' := [(0, .ref o), (1, .int x1), (2, .int x2), (3, .int r_6), (4, .int x4_7)]) [2, 3, 4, 1, 0] rfl ?_
      exact hK56 _ _ _ _ _ h
theorem tlX7_giving_56 (E : EM p R s m args meth c cX7_giving 5 (some .int) D cs b H0 XK 2 44 z u) {Q : Int32 → St → Prop} {K93 : Int32 → Int32 → Int32 → St → Prop} (hK93 : ∀ (x1 : Int32) (x2 : Int32) (x3 : Int32) (f : St), K93 x1 x2 x3 f → AM p l e R s m args below meth c D cs b 5 o Z z u (pI Q) 93 [(0, .ref o), (1, .int x1), (2, .int x2), (3, .int x3)] [] f) : ∀ (n : Nat) (x1 : Int32) (x2 : Int32) (x3 : Int32) (x4 : Int32) (f : St), wlX7_giving_56 K93 Q n x1 x2 x3 x4 f → AM p l e R s m args below meth c D cs b 5 o Z z u (pI Q) 56 [(0, .ref o), (1, .int x1), (2, .int x2), (3, .int x3), (4, .int x4)] [] f := by
  intro n
  induction n with
  | zero => intro _ _ _ _ _ h; exact h.elim
  | succ n ih => intro x1 x2 x3 x4 f h; exact tbX7_giving_56 E ih hK93 h
theorem tbX7_giving_138 (E : EM p R s m args meth c cX7_giving 5 (some .int) D cs b H0 XK 2 44 z u) {Q : Int32 → St → Prop} {K138 : Int32 → Int32 → St → Prop} (hK138 : ∀ (x2 : Int32) (x4 : Int32) (f : St), K138 x2 x4 f → AM p l e R s m args below meth c D cs b 5 o Z z u (pI Q) 138 [(0, .ref o), (2, .int x2), (4, .int x4)] [] f) {K180 : St → Prop} (hK180 : ∀  (f : St), K180  f → AM p l e R s m args below meth c D cs b 5 o Z z u (pI Q) 180 [(0, .ref o)] [] f) {x2 : Int32} {x4 : Int32} {f : St} (h : wbX7_giving_138 K138 K180 Q x2 x4 f) : AM p l e R s m args below meth c D cs b 5 o Z z u (pI Q) 138 [(0, .ref o), (2, .int x2), (4, .int x4)] [] f := by
  have E1 := E.1
  refine ag_iload E1 dX7_giving_138 2 rfl ?_
  refine ag_aload_n E1 dX7_giving_140 rfl 0 rfl ?_
  refine am_geti E 0 (by decide) rfl q1450 dX7_giving_141 ?_
  refine ag_icmp_ge E1 (tgt := 180) dX7_giving_144 (by decide) (fun c_144 => ?_) (fun c_144 => ?_)
  · have h := h.1 c_144
    refine ag_sub (lv' := [(0, .ref o)]) [0] rfl ?_
    exact hK180  _ h
  · have h := h.2 c_144
    refine ag_aload_n E1 dX7_giving_147 rfl 0 rfl ?_
    refine am_geta E 19 (i := 13) (by decide) (by decide) rfl q1469 dX7_giving_148 ?_
    refine ag_bipush E1 dX7_giving_151 kb_6 ?_
    refine ag_aload_n E1 dX7_giving_153 rfl 0 rfl ?_
    refine am_geti E 16 (by decide) rfl q1466 dX7_giving_154 ?_
    refine ag_imul E1 dX7_giving_157 ?_
    refine ag_iload E1 dX7_giving_158 2 rfl ?_
    refine ag_iadd E1 dX7_giving_160 ?_
    refine ag_aload_n E1 dX7_giving_161 rfl 0 rfl ?_
    refine am_geta E 38 (i := 24) (by decide) (by decide) rfl q1488 dX7_giving_162 ?_
    refine ag_bipush E1 dX7_giving_165 kb_40 ?_
    refine ag_iload_n E1 dX7_giving_167 rfl 1 rfl ?_
    refine ag_imul E1 dX7_giving_168 ?_
    refine ag_iload E1 dX7_giving_169 2 rfl ?_
    refine ag_iadd E1 dX7_giving_171 ?_
    obtain ⟨hin, h⟩ := h
    refine am_iald E 38 rfl rfl rfl (by decide) hin dX7_giving_172 ?_
    obtain ⟨hin, h⟩ := h
    refine am_iast E 19 rfl rfl rfl (by decide) hin dX7_giving_173 (fun f_10 e_f_10 => ?_)
    have h := h f_10 e_f_10
    refine ag_iincN E1 (lv' := fun x4_11 => [(4, .int x4_11), (0, .ref o), (2, .int x2)]) dX7_giving_174 2 rfl ki_1 (Nat.lt_of_lt_of_le (Nat.le_refl _) (Nat.le_of_ble_eq_true rfl)) (fun _ => rfl) (fun x4_11 e_x4_11 => ?_)
    have h := h x4_11 e_x4_11
    refine ag_goto E1 (tgt := 138) dX7_giving_177 (by decide) ?_
    refine ag_sub (lv' := [(0, .ref o), (2, .int x2), (4, .int x4_11)]) [1, 2, 0] rfl ?_
    exact hK138 _ _ _ h
theorem tlX7_giving_138 (E : EM p R s m args meth c cX7_giving 5 (some .int) D cs b H0 XK 2 44 z u) {Q : Int32 → St → Prop} {K180 : St → Prop} (hK180 : ∀  (f : St), K180  f → AM p l e R s m args below meth c D cs b 5 o Z z u (pI Q) 180 [(0, .ref o)] [] f) : ∀ (n : Nat) (x2 : Int32) (x4 : Int32) (f : St), wlX7_giving_138 K180 Q n x2 x4 f → AM p l e R s m args below meth c D cs b 5 o Z z u (pI Q) 138 [(0, .ref o), (2, .int x2), (4, .int x4)] [] f := by
  intro n
  induction n with
  | zero => intro _ _ _ h; exact h.elim
  | succ n ih => intro x2 x4 f h; exact tbX7_giving_138 E ih hK180 h
theorem tbX7_giving_93 (E : EM p R s m args meth c cX7_giving 5 (some .int) D cs b H0 XK 2 44 z u) {Q : Int32 → St → Prop}  {x1 : Int32} {x2 : Int32} {x3 : Int32} {f : St} (h : wbX7_giving_93  Q x1 x2 x3 f) : AM p l e R s m args below meth c D cs b 5 o Z z u (pI Q) 93 [(0, .ref o), (1, .int x1), (2, .int x2), (3, .int x3)] [] f := by
  have E1 := E.1
  refine ag_iload_n E1 dX7_giving_93 rfl 3 rfl ?_
  refine ag_if_ne E1 (tgt := 100) dX7_giving_94 (by decide) (fun c_94 => ?_) (fun c_94 => ?_)
  · have h := h.1 c_94
    refine ag_aload_n E1 dX7_giving_100 rfl 0 rfl ?_
    refine am_geti E 16 (by decide) rfl q1466 dX7_giving_101 ?_
    refine ag_bipush E1 dX7_giving_104 kb_12 ?_
    refine ag_icmp_ne E1 (tgt := 112) dX7_giving_106 (by decide) (fun c_106 => ?_) (fun c_106 => ?_)
    · have h := h.1 c_106
      refine ag_aload_n E1 dX7_giving_112 rfl 0 rfl ?_
      refine am_geta E 17 (i := 11) (by decide) (by decide) rfl q1467 dX7_giving_113 ?_
      refine ag_aload_n E1 dX7_giving_116 rfl 0 rfl ?_
      refine am_geti E 16 (by decide) rfl q1466 dX7_giving_117 ?_
      refine ag_iload_n E1 dX7_giving_120 rfl 1 rfl ?_
      obtain ⟨hin, h⟩ := h
      refine am_iast E 17 rfl rfl rfl (by decide) hin dX7_giving_121 (fun f_8 e_f_8 => ?_)
      have h := h f_8 e_f_8
      refine ag_aload_n E1 dX7_giving_122 rfl 0 rfl ?_
      refine am_geta E 18 (i := 12) (by decide) (by decide) rfl q1468 dX7_giving_123 ?_
      refine ag_aload_n E1 dX7_giving_126 rfl 0 rfl ?_
      refine am_geti E 16 (by decide) rfl q1466 dX7_giving_127 ?_
      refine ag_aload_n E1 dX7_giving_130 rfl 0 rfl ?_
      refine am_geti E 0 (by decide) rfl q1450 dX7_giving_131 ?_
      obtain ⟨hin, h⟩ := h
      refine am_iast E 18 rfl rfl rfl (by decide) hin dX7_giving_134 (fun f_9 e_f_9 => ?_)
      have h := h f_9 e_f_9
      refine ag_iconst E1 dX7_giving_135 ki_0 ?_
      refine ag_istore E1 (lv' := [(4, .int (0 : Int32)), (0, .ref o), (1, .int x1), (2, .int x2), (3, .int x3)]) dX7_giving_136 (Nat.lt_of_lt_of_le (Nat.le_refl _) (Nat.le_of_ble_eq_true rfl)) rfl ?_
      refine ag_sub (lv' := [(0, .ref o), (2, .int x2), (4, .int (0 : Int32))]) [1, 3, 0] rfl ?_
      obtain ⟨n, h⟩ := h
      refine tlX7_giving_138 E ?_ n _ _ _ h
      · intro f h
        refine ag_aload_n E1 dX7_giving_180 rfl 0 rfl ?_
        refine ag_dup E1 dX7_giving_181 rfl ?_
        refine am_geti E 16 (by decide) rfl q1466 dX7_giving_182 ?_
        refine ag_iconst E1 dX7_giving_185 ki_1 ?_
        refine ag_iadd E1 dX7_giving_186 ?_
        refine am_puti E 16 (by decide) rfl q1466 rfl (ty := .int) (by decide +kernel) rfl rfl dX7_giving_187 (fun f_12 e_f_12 => ?_)
        have h := h f_12 e_f_12
        refine ag_aload_n E1 dX7_giving_190 rfl 0 rfl ?_
        refine am_geti E 16 (by decide) rfl q1466 dX7_giving_191 ?_
        refine ag_iconst E1 dX7_giving_194 ki_1 ?_
        refine ag_isub E1 dX7_giving_195 ?_
        exact am_iret E rfl ⟨_, rfl, h⟩ dX7_giving_196
    · have h := h.2 c_106
      refine ag_bipush E1 dX7_giving_109 kb_m4 ?_
      exact am_iret E rfl ⟨_, rfl, h⟩ dX7_giving_111
  · have h := h.2 c_94
    refine ag_bipush E1 dX7_giving_97 kb_m2 ?_
    exact am_iret E rfl ⟨_, rfl, h⟩ dX7_giving_99
theorem tbX7_giving_52 (E : EM p R s m args meth c cX7_giving 5 (some .int) D cs b H0 XK 2 44 z u) {Q : Int32 → St → Prop}  {x1 : Int32} {x2 : Int32} {t0 : Int32} {f : St} (h : wbX7_giving_52  Q x1 x2 t0 f) : AM p l e R s m args below meth c D cs b 5 o Z z u (pI Q) 52 [(0, .ref o), (1, .int x1), (2, .int x2)] [.int t0] f := by
  have E1 := E.1
  refine ag_istore_n E1 (lv' := [(3, .int t0), (0, .ref o), (1, .int x1), (2, .int x2)]) dX7_giving_52 rfl (Nat.lt_of_lt_of_le (Nat.le_refl _) (Nat.le_of_ble_eq_true rfl)) rfl ?_
  refine ag_iconst E1 dX7_giving_53 ki_0 ?_
  refine ag_istore E1 (lv' := [(4, .int (0 : Int32)), (3, .int t0), (0, .ref o), (1, .int x1), (2, .int x2)]) dX7_giving_54 (Nat.lt_of_lt_of_le (Nat.le_refl _) (Nat.le_of_ble_eq_true rfl)) rfl ?_
  refine ag_sub (lv' := [(0, .ref o), (1, .int x1), (2, .int x2), (3, .int t0), (4, .int (0 : Int32))]) [2, 3, 4, 1, 0] rfl ?_
  obtain ⟨n, h⟩ := h
  refine tlX7_giving_56 E ?_ n _ _ _ _ _ h
  · intro x1 x2 x3 f h
    exact tbX7_giving_93 E  h
theorem kX7_giving (l : Launch) (D : va_G) (cs : Nat → ClassId) (b : Nat) (H0 : Heap) (XK : State → Prop) (o : Nat) (Z : cP) (z u : Nat) (f : St) (x1 : Int32) (x2 : Int32) (Q : Int32 → St → Prop) (h : wX7_giving f x1 x2 Q) : CM l D cs b H0 XK o Z z u yX7_giving cX7_giving 5 (some .int) 2 44 [.ref o, .int x1, .int x2] f (pI Q) := by
  refine cm_of (by decide) rfl (Nat.le_of_ble_eq_true rfl) (fun p e R s m below meth c E => ?_)
  have E1 := E.1
  refine ag_sub (lv' := [(0, .ref o), (1, .int x1), (2, .int x2)]) [0, 1, 2] rfl ?_
  refine ag_iload_n E1 dX7_giving_0 rfl 1 rfl ?_
  refine ag_iconst E1 dX7_giving_1 ki_0 ?_
  refine ag_iconst E1 dX7_giving_2 ki_5 ?_
  refine am_callSi E [.int x1, .int (0 : Int32), .int (5 : Int32)] (kX7_in _ _ _ _ _ _ _ _ _ _ _ _ _ _ _ h) (lw_S q1625 q1626 q107 q1627) hdX7_in (Nat.le_of_ble_eq_true rfl) (Nat.le_of_ble_eq_true rfl) rfl (Nat.le_of_ble_eq_true rfl) dX7_giving_3 rfl (fun r_2 f_1 h => ?_)
  refine ag_if_eq E1 (tgt := 18) dX7_giving_6 (by decide) (fun c_6 => ?_) (fun c_6 => ?_)
  · have h := h.1 c_6
    refine ag_bipush E1 dX7_giving_18 kb_m2 ?_
    exact am_iret E rfl ⟨_, rfl, h⟩ dX7_giving_20
  · have h := h.2 c_6
    refine ag_iload_n E1 dX7_giving_9 rfl 2 rfl ?_
    refine ag_iconst E1 dX7_giving_10 ki_0 ?_
    refine ag_iconst E1 dX7_giving_11 ki_3 ?_
    refine am_callSi E [.int x2, .int (0 : Int32), .int (3 : Int32)] (kX7_in _ _ _ _ _ _ _ _ _ _ _ _ _ _ _ h) (lw_S q1625 q1626 q107 q1627) hdX7_in (Nat.le_of_ble_eq_true rfl) (Nat.le_of_ble_eq_true rfl) rfl (Nat.le_of_ble_eq_true rfl) dX7_giving_12 rfl (fun r_4 f_3 h => ?_)
    refine ag_if_ne E1 (tgt := 21) dX7_giving_15 (by decide) (fun c_15 => ?_) (fun c_15 => ?_)
    · have h := h.1 c_15
      refine ag_aload_n E1 dX7_giving_21 rfl 0 rfl ?_
      refine am_geta E 36 (i := 22) (by decide) (by decide) rfl q1486 dX7_giving_22 ?_
      refine ag_iload_n E1 dX7_giving_25 rfl 2 rfl ?_
      obtain ⟨hin, h⟩ := h
      refine am_iald E 36 rfl rfl rfl (by decide) hin dX7_giving_26 ?_
      refine ag_iconst E1 dX7_giving_27 ki_m1 ?_
      refine ag_icmp_ne E1 (tgt := 34) dX7_giving_28 (by decide) (fun c_28 => ?_) (fun c_28 => ?_)
      · have h := h.1 c_28
        refine ag_aload_n E1 dX7_giving_34 rfl 0 rfl ?_
        refine am_geta E 37 (i := 23) (by decide) (by decide) rfl q1487 dX7_giving_35 ?_
        refine ag_iload_n E1 dX7_giving_38 rfl 2 rfl ?_
        obtain ⟨hin, h⟩ := h
        refine am_iald E 37 rfl rfl rfl (by decide) hin dX7_giving_39 ?_
        refine ag_aload_n E1 dX7_giving_40 rfl 0 rfl ?_
        refine am_geti E 0 (by decide) rfl q1450 dX7_giving_41 ?_
        refine ag_icmp_ne E1 (tgt := 51) dX7_giving_44 (by decide) (fun c_44 => ?_) (fun c_44 => ?_)
        · have h := h.1 c_44
          refine ag_iconst E1 dX7_giving_51 ki_0 ?_
          exact tbX7_giving_52 E  h
        · have h := h.2 c_44
          refine ag_iconst E1 dX7_giving_47 ki_1 ?_
          refine ag_goto E1 (tgt := 52) dX7_giving_48 (by decide) ?_
          exact tbX7_giving_52 E  h
      · have h := h.2 c_28
        refine ag_bipush E1 dX7_giving_31 kb_m11 ?_
        exact am_iret E rfl ⟨_, rfl, h⟩ dX7_giving_33
    · have h := h.2 c_15
      refine ag_bipush E1 dX7_giving_18 kb_m2 ?_
      exact am_iret E rfl ⟨_, rfl, h⟩ dX7_giving_20
theorem hdX7_giving : yX7_giving.cls = RX7 ∧ yX7_giving.cls ≠ "java/lang/invoke/MethodHandle" ∧ yX7_giving.cls ≠ "java/lang/invoke/VarHandle" ∧ (parseMethodDescriptor yX7_giving.desc).map (fun d => d.parameters.length) = some 2 := by decide +kernel
theorem kX7_isGiving (l : Launch) (D : va_G) (cs : Nat → ClassId) (b : Nat) (H0 : Heap) (XK : State → Prop) (o : Nat) (Z : cP) (z u : Nat) (f : St) (x1 : Int32) (Q : Int32 → St → Prop) (h : wX7_isGiving f x1 Q) : CM l D cs b H0 XK o Z z u yX7_isGiving cX7_isGiving 2 (some .boolean) 1 22 [.ref o, .int x1] f (pI Q) := by
  refine cm_of (by decide) rfl (Nat.le_of_ble_eq_true rfl) (fun p e R s m below meth c E => ?_)
  have E1 := E.1
  refine ag_sub (lv' := [(0, .ref o), (1, .int x1)]) [0, 1] rfl ?_
  refine ag_iload_n E1 dX7_isGiving_0 rfl 1 rfl ?_
  refine ag_iconst E1 dX7_isGiving_1 ki_0 ?_
  refine ag_aload_n E1 dX7_isGiving_2 rfl 0 rfl ?_
  refine am_geti E 16 (by decide) rfl q1466 dX7_isGiving_3 ?_
  refine ag_iconst E1 dX7_isGiving_6 ki_1 ?_
  refine ag_isub E1 dX7_isGiving_7 ?_
  refine am_callSi E [.int x1, .int (0 : Int32), .int ((f 99 16) - (1 : Int32))] (kX7_in _ _ _ _ _ _ _ _ _ _ _ _ _ _ _ h) (lw_S q1625 q1626 q107 q1627) hdX7_in (Nat.le_of_ble_eq_true rfl) (Nat.le_of_ble_eq_true rfl) rfl (Nat.le_of_ble_eq_true rfl) dX7_isGiving_8 rfl (fun r_2 f_1 h => ?_)
  exact am_zret E rfl h.1 ⟨_, rfl, h.2⟩ dX7_isGiving_11
theorem hdX7_isGiving : yX7_isGiving.cls = RX7 ∧ yX7_isGiving.cls ≠ "java/lang/invoke/MethodHandle" ∧ yX7_isGiving.cls ≠ "java/lang/invoke/VarHandle" ∧ (parseMethodDescriptor yX7_isGiving.desc).map (fun d => d.parameters.length) = some 1 := by decide +kernel
theorem tbX7_daysOf_25 (E : EM p R s m args meth c cX7_daysOf 5 (some .int) D cs b H0 XK 1 22 z u) {Q : Int32 → St → Prop}  {x1 : Int32} {x3 : Int32} {t0 : Int32} {f : St} (h : wbX7_daysOf_25  Q x1 x3 t0 f) : AM p l e R s m args below meth c D cs b 5 o Z z u (pI Q) 25 [(0, .ref o), (1, .int x1), (3, .int x3)] [.int t0] f := by
  have E1 := E.1
  refine ag_istore E1 (lv' := [(4, .int t0), (0, .ref o), (1, .int x1), (3, .int x3)]) dX7_daysOf_25 (Nat.lt_of_lt_of_le (Nat.le_refl _) (Nat.le_of_ble_eq_true rfl)) rfl ?_
  refine ag_iload E1 dX7_daysOf_27 0 rfl ?_
  refine ag_iconst E1 dX7_daysOf_29 ki_0 ?_
  refine ag_aload_n E1 dX7_daysOf_30 rfl 1 rfl ?_
  refine am_geti E 6 (by decide) rfl q1456 dX7_daysOf_31 ?_
  refine ag_iconst E1 dX7_daysOf_34 ki_1 ?_
  refine ag_isub E1 dX7_daysOf_35 ?_
  refine am_callSi E [.int t0, .int (0 : Int32), .int ((f 99 6) - (1 : Int32))] (kX7_in _ _ _ _ _ _ _ _ _ _ _ _ _ _ _ h) (lw_S q1625 q1626 q107 q1627) hdX7_in (Nat.le_of_ble_eq_true rfl) (Nat.le_of_ble_eq_true rfl) rfl (Nat.le_of_ble_eq_true rfl) dX7_daysOf_36 rfl (fun r_2 f_1 h => ?_)
  refine ag_if_ne E1 (tgt := 44) dX7_daysOf_39 (by decide) (fun c_39 => ?_) (fun c_39 => ?_)
  · have h := h.1 c_39
    refine ag_aload_n E1 dX7_daysOf_44 rfl 1 rfl ?_
    refine am_geta E 17 (i := 11) (by decide) (by decide) rfl q1467 dX7_daysOf_45 ?_
    refine ag_iload_n E1 dX7_daysOf_48 rfl 2 rfl ?_
    obtain ⟨hin, h⟩ := h
    refine am_iald E 17 rfl rfl rfl (by decide) hin dX7_daysOf_49 ?_
    rcases Classical.em ((f_1 17 (Int32.toNatClampNeg x1)) = (2 : Int32)) with c_50_0 | c_50_0
    · have h := h.1 c_50_0
      refine ag_tableIn E1 (tgt := 76) (off := 26) dX7_daysOf_50 (by rw [c_50_0]; decide) (by rw [c_50_0]; decide) (by rw [c_50_0]; decide) (by decide) ?_
      refine ag_iconst E1 dX7_daysOf_76 ki_1 ?_
      refine ag_iload E1 dX7_daysOf_77 0 rfl ?_
      refine ag_ishl E1 dX7_daysOf_79 ?_
      refine ag_iconst E1 dX7_daysOf_80 ki_1 ?_
      refine ag_iload E1 dX7_daysOf_81 0 rfl ?_
      refine ag_aload_n E1 dX7_daysOf_83 rfl 1 rfl ?_
      refine am_geti E 6 (by decide) rfl q1456 dX7_daysOf_84 ?_
      refine ag_iconst E1 dX7_daysOf_87 ki_2 ?_
      refine ag_idiv E1 dX7_daysOf_88 (by decide) ?_
      refine ag_iadd E1 dX7_daysOf_89 ?_
      refine ag_aload_n E1 dX7_daysOf_90 rfl 1 rfl ?_
      refine am_geti E 6 (by decide) rfl q1456 dX7_daysOf_91 ?_
      obtain ⟨hne, h⟩ := h
      refine ag_irem E1 dX7_daysOf_94 hne ?_
      refine ag_ishl E1 dX7_daysOf_95 ?_
      refine ag_ior E1 dX7_daysOf_96 ?_
      exact am_iret E rfl ⟨_, rfl, h⟩ dX7_daysOf_97
    · have h := h.2 c_50_0
      have n_0 := lv_neT c_50_0 (show (2 : Int32).toInt = 2 by decide)
      rcases Classical.em ((f_1 17 (Int32.toNatClampNeg x1)) = (3 : Int32)) with c_50_1 | c_50_1
      · have h := h.1 c_50_1
        refine ag_tableIn E1 (tgt := 98) (off := 48) dX7_daysOf_50 (by rw [c_50_1]; decide) (by rw [c_50_1]; decide) (by rw [c_50_1]; decide) (by decide) ?_
        refine ag_iconst E1 dX7_daysOf_98 ki_1 ?_
        refine ag_iload E1 dX7_daysOf_99 0 rfl ?_
        refine ag_iload_n E1 dX7_daysOf_101 rfl 3 rfl ?_
        refine ag_iadd E1 dX7_daysOf_102 ?_
        refine ag_aload_n E1 dX7_daysOf_103 rfl 1 rfl ?_
        refine am_geti E 6 (by decide) rfl q1456 dX7_daysOf_104 ?_
        obtain ⟨hne, h⟩ := h
        refine ag_irem E1 dX7_daysOf_107 hne ?_
        refine ag_ishl E1 dX7_daysOf_108 ?_
        exact am_iret E rfl ⟨_, rfl, h⟩ dX7_daysOf_109
      · have h := h.2 c_50_1
        have n_1 := lv_neT c_50_1 (show (3 : Int32).toInt = 3 by decide)
        rcases Classical.em ((f_1 17 (Int32.toNatClampNeg x1)) = (4 : Int32)) with c_50_2 | c_50_2
        · have h := h.1 c_50_2
          refine ag_tableIn E1 (tgt := 110) (off := 60) dX7_daysOf_50 (by rw [c_50_2]; decide) (by rw [c_50_2]; decide) (by rw [c_50_2]; decide) (by decide) ?_
          refine ag_iconst E1 dX7_daysOf_110 ki_1 ?_
          refine ag_iload E1 dX7_daysOf_111 0 rfl ?_
          refine ag_iload_n E1 dX7_daysOf_113 rfl 3 rfl ?_
          refine ag_iadd E1 dX7_daysOf_114 ?_
          refine ag_iload_n E1 dX7_daysOf_115 rfl 3 rfl ?_
          refine ag_iconst E1 dX7_daysOf_116 ki_2 ?_
          refine ag_irem E1 dX7_daysOf_117 (by decide) ?_
          refine ag_if_ne E1 (tgt := 125) dX7_daysOf_118 (by decide) (fun c_118 => ?_) (fun c_118 => ?_)
          · have h := h.1 c_118
            refine ag_iconst E1 dX7_daysOf_125 ki_2 ?_
            refine ag_iadd E1 dX7_daysOf_126 ?_
            refine ag_aload_n E1 dX7_daysOf_127 rfl 1 rfl ?_
            refine am_geti E 6 (by decide) rfl q1456 dX7_daysOf_128 ?_
            obtain ⟨hne, h⟩ := h
            refine ag_irem E1 dX7_daysOf_131 hne ?_
            refine ag_ishl E1 dX7_daysOf_132 ?_
            exact am_iret E rfl ⟨_, rfl, h⟩ dX7_daysOf_133
          · have h := h.2 c_118
            refine ag_iconst E1 dX7_daysOf_121 ki_0 ?_
            refine ag_goto E1 (tgt := 126) dX7_daysOf_122 (by decide) ?_
            refine ag_iadd E1 dX7_daysOf_126 ?_
            refine ag_aload_n E1 dX7_daysOf_127 rfl 1 rfl ?_
            refine am_geti E 6 (by decide) rfl q1456 dX7_daysOf_128 ?_
            obtain ⟨hne, h⟩ := h
            refine ag_irem E1 dX7_daysOf_131 hne ?_
            refine ag_ishl E1 dX7_daysOf_132 ?_
            exact am_iret E rfl ⟨_, rfl, h⟩ dX7_daysOf_133
        · have h := h.2 c_50_2
          have n_2 := lv_neT c_50_2 (show (4 : Int32).toInt = 4 by decide)
          refine ag_tableOut E1 (tgt := 134) dX7_daysOf_50 (by omega) (by decide) ?_
          refine ag_iconst E1 dX7_daysOf_134 ki_1 ?_
          refine ag_iload E1 dX7_daysOf_135 0 rfl ?_
          refine ag_ishl E1 dX7_daysOf_137 ?_
          exact am_iret E rfl ⟨_, rfl, h⟩ dX7_daysOf_138
  · have h := h.2 c_39
    refine ag_iconst E1 dX7_daysOf_42 ki_0 ?_
    exact am_iret E rfl ⟨_, rfl, h⟩ dX7_daysOf_43
theorem kX7_daysOf (l : Launch) (D : va_G) (cs : Nat → ClassId) (b : Nat) (H0 : Heap) (XK : State → Prop) (o : Nat) (Z : cP) (z u : Nat) (f : St) (x1 : Int32) (x2 : Int32) (x3 : Int32) (Q : Int32 → St → Prop) (h : wX7_daysOf f x1 x2 x3 Q) : CM l D cs b H0 XK o Z z u yX7_daysOf cX7_daysOf 5 (some .int) 1 22 [.ref o, .int x1, .int x2, .int x3] f (pI Q) := by
  refine cm_of (by decide) rfl (Nat.le_of_ble_eq_true rfl) (fun p e R s m below meth c E => ?_)
  have E1 := E.1
  refine ag_sub (lv' := [(0, .ref o), (1, .int x1), (2, .int x2), (3, .int x3)]) [0, 1, 2, 3] rfl ?_
  refine ag_iload_n E1 dX7_daysOf_0 rfl 2 rfl ?_
  refine ag_aload_n E1 dX7_daysOf_1 rfl 0 rfl ?_
  refine am_geta E 18 (i := 12) (by decide) (by decide) rfl q1468 dX7_daysOf_2 ?_
  refine ag_iload_n E1 dX7_daysOf_5 rfl 1 rfl ?_
  obtain ⟨hin, h⟩ := h
  refine am_iald E 18 rfl rfl rfl (by decide) hin dX7_daysOf_6 ?_
  refine ag_icmp_ge E1 (tgt := 24) dX7_daysOf_7 (by decide) (fun c_7 => ?_) (fun c_7 => ?_)
  · have h := h.1 c_7
    refine ag_iconst E1 dX7_daysOf_24 ki_m1 ?_
    refine ag_sub (lv' := [(0, .ref o), (1, .int x1), (3, .int x3)]) [0, 1, 3] rfl ?_
    exact tbX7_daysOf_25 E  h
  · have h := h.2 c_7
    refine ag_aload_n E1 dX7_daysOf_10 rfl 0 rfl ?_
    refine am_geta E 19 (i := 13) (by decide) (by decide) rfl q1469 dX7_daysOf_11 ?_
    refine ag_bipush E1 dX7_daysOf_14 kb_6 ?_
    refine ag_iload_n E1 dX7_daysOf_16 rfl 1 rfl ?_
    refine ag_imul E1 dX7_daysOf_17 ?_
    refine ag_iload_n E1 dX7_daysOf_18 rfl 2 rfl ?_
    refine ag_iadd E1 dX7_daysOf_19 ?_
    obtain ⟨hin, h⟩ := h
    refine am_iald E 19 rfl rfl rfl (by decide) hin dX7_daysOf_20 ?_
    refine ag_goto E1 (tgt := 25) dX7_daysOf_21 (by decide) ?_
    refine ag_sub (lv' := [(0, .ref o), (1, .int x1), (3, .int x3)]) [0, 1, 3] rfl ?_
    exact tbX7_daysOf_25 E  h
theorem hdX7_daysOf : yX7_daysOf.cls = RX7 ∧ yX7_daysOf.cls ≠ "java/lang/invoke/MethodHandle" ∧ yX7_daysOf.cls ≠ "java/lang/invoke/VarHandle" ∧ (parseMethodDescriptor yX7_daysOf.desc).map (fun d => d.parameters.length) = some 3 := by decide +kernel
theorem tbX7_market_94 (E : EM p R s m args meth c cX7_market 7 (some .int) D cs b H0 XK 2 46 z u) {Q : Int32 → St → Prop} {K12 : Int32 → Int32 → Int32 → Int32 → St → Prop} (hK12 : ∀ (x1 : Int32) (x3 : Int32) (x4 : Int32) (x5 : Int32) (f : St), K12 x1 x3 x4 x5 f → AM p l e R s m args below meth c D cs b 7 o Z z u (pI Q) 12 [(0, .ref o), (1, .int x1), (3, .int x3), (4, .int x4), (5, .int x5)] [] f) {x1 : Int32} {x3 : Int32} {x4 : Int32} {x5 : Int32} {f : St} (h : wbX7_market_94 K12 Q x1 x3 x4 x5 f) : AM p l e R s m args below meth c D cs b 7 o Z z u (pI Q) 94 [(0, .ref o), (1, .int x1), (3, .int x3), (4, .int x4), (5, .int x5)] [] f := by
  have E1 := E.1
  refine ag_iincN E1 (lv' := fun x5_4 => [(5, .int x5_4), (0, .ref o), (1, .int x1), (3, .int x3), (4, .int x4)]) dX7_market_94 4 rfl ki_1 (Nat.lt_of_lt_of_le (Nat.le_refl _) (Nat.le_of_ble_eq_true rfl)) (fun _ => rfl) (fun x5_4 e_x5_4 => ?_)
  have h := h x5_4 e_x5_4
  refine ag_goto E1 (tgt := 12) dX7_market_97 (by decide) ?_
  refine ag_sub (lv' := [(0, .ref o), (1, .int x1), (3, .int x3), (4, .int x4), (5, .int x5_4)]) [1, 2, 3, 4, 0] rfl ?_
  exact hK12 _ _ _ _ _ h
theorem tbX7_market_12 (E : EM p R s m args meth c cX7_market 7 (some .int) D cs b H0 XK 2 46 z u) {Q : Int32 → St → Prop} {K12 : Int32 → Int32 → Int32 → Int32 → St → Prop} (hK12 : ∀ (x1 : Int32) (x3 : Int32) (x4 : Int32) (x5 : Int32) (f : St), K12 x1 x3 x4 x5 f → AM p l e R s m args below meth c D cs b 7 o Z z u (pI Q) 12 [(0, .ref o), (1, .int x1), (3, .int x3), (4, .int x4), (5, .int x5)] [] f) {x1 : Int32} {x3 : Int32} {x4 : Int32} {x5 : Int32} {f : St} (h : wbX7_market_12 K12 Q x1 x3 x4 x5 f) : AM p l e R s m args below meth c D cs b 7 o Z z u (pI Q) 12 [(0, .ref o), (1, .int x1), (3, .int x3), (4, .int x4), (5, .int x5)] [] f := by
  have E1 := E.1
  refine ag_iload E1 dX7_market_12 4 rfl ?_
  refine ag_aload_n E1 dX7_market_14 rfl 0 rfl ?_
  refine am_geti E 7 (by decide) rfl q1457 dX7_market_15 ?_
  refine ag_icmp_ge E1 (tgt := 100) dX7_market_18 (by decide) (fun c_18 => ?_) (fun c_18 => ?_)
  · have h := h.1 c_18
    refine ag_iload E1 dX7_market_100 3 rfl ?_
    exact am_iret E rfl ⟨_, rfl, h⟩ dX7_market_102
  · have h := h.2 c_18
    refine ag_aload_n E1 dX7_market_21 rfl 0 rfl ?_
    refine am_geta E 17 (i := 11) (by decide) (by decide) rfl q1467 dX7_market_22 ?_
    refine ag_iload_n E1 dX7_market_25 rfl 1 rfl ?_
    obtain ⟨hin, h⟩ := h
    refine am_iald E 17 rfl rfl rfl (by decide) hin dX7_market_26 ?_
    refine ag_iconst E1 dX7_market_27 ki_5 ?_
    refine ag_icmp_eq E1 (tgt := 100) dX7_market_28 (by decide) (fun c_28 => ?_) (fun c_28 => ?_)
    · have h := h.1 c_28
      refine ag_iload E1 dX7_market_100 3 rfl ?_
      exact am_iret E rfl ⟨_, rfl, h⟩ dX7_market_102
    · have h := h.2 c_28
      refine ag_aload_n E1 dX7_market_31 rfl 0 rfl ?_
      refine am_geta E 9 (i := 7) (by decide) (by decide) rfl q1459 dX7_market_32 ?_
      refine ag_iload E1 dX7_market_35 4 rfl ?_
      obtain ⟨hin, h⟩ := h
      refine am_iald E 9 rfl rfl rfl (by decide) hin dX7_market_37 ?_
      refine ag_topi (fun x6_3 e_x6_3 => ?_)
      have h := h x6_3 e_x6_3
      refine ag_istore E1 (lv' := [(6, .int x6_3), (0, .ref o), (1, .int x1), (3, .int x3), (4, .int x4), (5, .int x5)]) dX7_market_38 (Nat.lt_of_lt_of_le (Nat.le_refl _) (Nat.le_of_ble_eq_true rfl)) rfl ?_
      refine ag_aload_n E1 dX7_market_40 rfl 1 rfl ?_
      refine am_geta E 8 (i := 6) (by decide) (by decide) rfl q1458 dX7_market_41 ?_
      refine ag_iload E1 dX7_market_44 5 rfl ?_
      obtain ⟨hin, h⟩ := h
      refine am_iald E 8 rfl rfl rfl (by decide) hin dX7_market_46 ?_
      refine ag_iload_n E1 dX7_market_47 rfl 3 rfl ?_
      refine ag_icmp_ne E1 (tgt := 94) dX7_market_48 (by decide) (fun c_48 => ?_) (fun c_48 => ?_)
      · have h := h.1 c_48
        refine ag_sub (lv' := [(0, .ref o), (1, .int x1), (3, .int x3), (4, .int x4), (5, .int x5)]) [1, 2, 3, 4, 5] rfl ?_
        exact tbX7_market_94 E hK12 h
      · have h := h.2 c_48
        refine ag_iload E1 dX7_market_51 0 rfl ?_
        refine ag_aload_n E1 dX7_market_53 rfl 1 rfl ?_
        refine am_geti E 6 (by decide) rfl q1456 dX7_market_54 ?_
        refine ag_icmp_ge E1 (tgt := 94) dX7_market_57 (by decide) (fun c_57 => ?_) (fun c_57 => ?_)
        · have h := h.1 c_57
          refine ag_sub (lv' := [(0, .ref o), (1, .int x1), (3, .int x3), (4, .int x4), (5, .int x5)]) [1, 2, 3, 4, 5] rfl ?_
          exact tbX7_market_94 E hK12 h
        · have h := h.2 c_57
          refine ag_iload E1 dX7_market_60 4 rfl ?_
          refine ag_iload E1 dX7_market_62 0 rfl ?_
          refine ag_ishr E1 dX7_market_64 ?_
          refine ag_iconst E1 dX7_market_65 ki_1 ?_
          refine ag_iand E1 dX7_market_66 ?_
          refine ag_iconst E1 dX7_market_67 ki_1 ?_
          refine ag_icmp_ne E1 (tgt := 94) dX7_market_68 (by decide) (fun c_68 => ?_) (fun c_68 => ?_)
          · have h := h.1 c_68
            refine ag_sub (lv' := [(0, .ref o), (1, .int x1), (3, .int x3), (4, .int x4), (5, .int x5)]) [1, 2, 3, 4, 5] rfl ?_
            exact tbX7_market_94 E hK12 h
          · have h := h.2 c_68
            refine ag_iload E1 dX7_market_71 4 rfl ?_
            refine ag_iconst E1 dX7_market_73 ki_1 ?_
            refine ag_iload E1 dX7_market_74 0 rfl ?_
            refine ag_ishl E1 dX7_market_76 ?_
            refine ag_iconst E1 dX7_market_77 ki_m1 ?_
            refine ag_ixor E1 dX7_market_78 ?_
            refine ag_iand E1 dX7_market_79 ?_
            refine ag_iconst E1 dX7_market_80 ki_1 ?_
            refine ag_iload E1 dX7_market_81 0 rfl ?_
            refine ag_iconst E1 dX7_market_83 ki_1 ?_
            refine ag_iadd E1 dX7_market_84 ?_
            refine ag_aload_n E1 dX7_market_85 rfl 1 rfl ?_
            refine am_geti E 6 (by decide) rfl q1456 dX7_market_86 ?_
            obtain ⟨hne, h⟩ := h
            refine ag_irem E1 dX7_market_89 hne ?_
            refine ag_ishl E1 dX7_market_90 ?_
            refine ag_ior E1 dX7_market_91 ?_
            refine ag_topi (fun x4_5 e_x4_5 => ?_)
            have h := h x4_5 e_x4_5
            refine ag_istore E1 (lv' := [(4, .int x4_5), (6, .int x6_3), (0, .ref o), (1, .int x1), (3, .int x3), (5, .int x5)]) dX7_market_92 (Nat.lt_of_lt_of_le (Nat.le_refl _) (Nat.le_of_ble_eq_true rfl)) rfl ?_
            refine ag_sub (lv' := [(0, .ref o), (1, .int x1), (3, .int x3), (4, .int x4_5), (5, .int x5)]) [2, 3, 4, 0, 5] rfl ?_
            exact tbX7_market_94 E hK12 h
theorem tlX7_market_12 (E : EM p R s m args meth c cX7_market 7 (some .int) D cs b H0 XK 2 46 z u) {Q : Int32 → St → Prop}  : ∀ (n : Nat) (x1 : Int32) (x3 : Int32) (x4 : Int32) (x5 : Int32) (f : St), wlX7_market_12  Q n x1 x3 x4 x5 f → AM p l e R s m args below meth c D cs b 7 o Z z u (pI Q) 12 [(0, .ref o), (1, .int x1), (3, .int x3), (4, .int x4), (5, .int x5)] [] f := by
  intro n
  induction n with
  | zero => intro _ _ _ _ _ h; exact h.elim
  | succ n ih => intro x1 x3 x4 x5 f h; exact tbX7_market_12 E ih h
theorem kX7_market (l : Launch) (D : va_G) (cs : Nat → ClassId) (b : Nat) (H0 : Heap) (XK : State → Prop) (o : Nat) (Z : cP) (z u : Nat) (f : St) (x1 : Int32) (x2 : Int32) (x3 : Int32) (Q : Int32 → St → Prop) (h : wX7_market f x1 x2 x3 Q) : CM l D cs b H0 XK o Z z u yX7_market cX7_market 7 (some .int) 2 46 [.ref o, .int x1, .int x2, .int x3] f (pI Q) := by
  refine cm_of (by decide) rfl (Nat.le_of_ble_eq_true rfl) (fun p e R s m below meth c E => ?_)
  have E1 := E.1
  refine ag_sub (lv' := [(0, .ref o), (1, .int x1), (2, .int x2), (3, .int x3)]) [0, 1, 2, 3] rfl ?_
  refine ag_aload_n E1 dX7_market_0 rfl 0 rfl ?_
  refine ag_iload_n E1 dX7_market_1 rfl 1 rfl ?_
  refine ag_iload_n E1 dX7_market_2 rfl 2 rfl ?_
  refine ag_iload_n E1 dX7_market_3 rfl 3 rfl ?_
  refine am_callVi E [.int x1, .int x2, .int x3] (kX7_daysOf _ _ _ _ _ _ _ _ _ _ _ _ _ _ _ h) (lw_V q1764 q1766 qs64 q107 q1767) hdX7_daysOf (Nat.le_of_ble_eq_true rfl) (Nat.le_of_ble_eq_true rfl) rfl (Nat.le_of_ble_eq_true rfl) dX7_market_4 rfl (fun r_2 f_1 h => ?_)
  refine ag_istore E1 (lv' := [(4, .int r_2), (0, .ref o), (1, .int x1), (2, .int x2), (3, .int x3)]) dX7_market_7 (Nat.lt_of_lt_of_le (Nat.le_refl _) (Nat.le_of_ble_eq_true rfl)) rfl ?_
  refine ag_iconst E1 dX7_market_9 ki_0 ?_
  refine ag_istore E1 (lv' := [(5, .int (0 : Int32)), (4, .int r_2), (0, .ref o), (1, .int x1), (2, .int x2), (3, .int x3)]) dX7_market_10 (Nat.lt_of_lt_of_le (Nat.le_refl _) (Nat.le_of_ble_eq_true rfl)) rfl ?_
  refine ag_sub (lv' := [(0, .ref o), (1, .int x1), (3, .int x3), (4, .int r_2), (5, .int (0 : Int32))]) [2, 3, 5, 1, 0] rfl ?_
  obtain ⟨n, h⟩ := h
  exact tlX7_market_12 E  n _ _ _ _ _ h
theorem hdX7_market : yX7_market.cls = RX7 ∧ yX7_market.cls ≠ "java/lang/invoke/MethodHandle" ∧ yX7_market.cls ≠ "java/lang/invoke/VarHandle" ∧ (parseMethodDescriptor yX7_market.desc).map (fun d => d.parameters.length) = some 3 := by decide +kernel
theorem kX7_marketOf (l : Launch) (D : va_G) (cs : Nat → ClassId) (b : Nat) (H0 : Heap) (XK : State → Prop) (o : Nat) (Z : cP) (z u : Nat) (f : St) (x1 : Int32) (x2 : Int32) (x3 : Int32) (Q : Int32 → St → Prop) (h : wX7_marketOf f x1 x2 x3 Q) : CM l D cs b H0 XK o Z z u yX7_marketOf cX7_marketOf 4 (some .int) 3 72 [.ref o, .int x1, .int x2, .int x3] f (pI Q) := by
  refine cm_of (by decide) rfl (Nat.le_of_ble_eq_true rfl) (fun p e R s m below meth c E => ?_)
  have E1 := E.1
  refine ag_sub (lv' := [(0, .ref o), (1, .int x1), (2, .int x2), (3, .int x3)]) [0, 1, 2, 3] rfl ?_
  refine ag_aload_n E1 dX7_marketOf_0 rfl 0 rfl ?_
  refine ag_iload_n E1 dX7_marketOf_1 rfl 1 rfl ?_
  refine am_callVi E [.int x1] (kX7_isGiving _ _ _ _ _ _ _ _ _ _ _ _ _ h) (lw_V q1756 q1758 qs62 q107 q1759) hdX7_isGiving (Nat.le_of_ble_eq_true rfl) (Nat.le_of_ble_eq_true rfl) rfl (Nat.le_of_ble_eq_true rfl) dX7_marketOf_2 rfl (fun r_2 f_1 h => ?_)
  refine ag_if_eq E1 (tgt := 33) dX7_marketOf_5 (by decide) (fun c_5 => ?_) (fun c_5 => ?_)
  · have h := h.1 c_5
    refine ag_bipush E1 dX7_marketOf_33 kb_m5 ?_
    exact am_iret E rfl ⟨_, rfl, h⟩ dX7_marketOf_35
  · have h := h.2 c_5
    refine ag_aload_n E1 dX7_marketOf_8 rfl 0 rfl ?_
    refine ag_iload_n E1 dX7_marketOf_9 rfl 2 rfl ?_
    refine am_callVi E [.int x2] (kX7_isTown _ _ _ _ _ _ _ _ _ _ _ _ _ h) (lw_V q1632 q1634 qs46 q107 q1635) hdX7_isTown (Nat.le_of_ble_eq_true rfl) (Nat.le_of_ble_eq_true rfl) rfl (Nat.le_of_ble_eq_true rfl) dX7_marketOf_10 rfl (fun r_4 f_3 h => ?_)
    refine ag_if_eq E1 (tgt := 33) dX7_marketOf_13 (by decide) (fun c_13 => ?_) (fun c_13 => ?_)
    · have h := h.1 c_13
      refine ag_bipush E1 dX7_marketOf_33 kb_m5 ?_
      exact am_iret E rfl ⟨_, rfl, h⟩ dX7_marketOf_35
    · have h := h.2 c_13
      refine ag_iload_n E1 dX7_marketOf_16 rfl 3 rfl ?_
      refine am_callSi E [.int x3] (kX7_isWeek _ _ _ _ _ _ _ _ _ _ _ _ _ h) (lw_S q1660 q1661 q107 q1662) hdX7_isWeek (Nat.le_of_ble_eq_true rfl) (Nat.le_of_ble_eq_true rfl) rfl (Nat.le_of_ble_eq_true rfl) dX7_marketOf_17 rfl (fun r_6 f_5 h => ?_)
      refine ag_if_eq E1 (tgt := 33) dX7_marketOf_20 (by decide) (fun c_20 => ?_) (fun c_20 => ?_)
      · have h := h.1 c_20
        refine ag_bipush E1 dX7_marketOf_33 kb_m5 ?_
        exact am_iret E rfl ⟨_, rfl, h⟩ dX7_marketOf_35
      · have h := h.2 c_20
        refine ag_aload_n E1 dX7_marketOf_23 rfl 0 rfl ?_
        refine ag_iload_n E1 dX7_marketOf_24 rfl 1 rfl ?_
        refine ag_iload_n E1 dX7_marketOf_25 rfl 2 rfl ?_
        refine ag_iload_n E1 dX7_marketOf_26 rfl 3 rfl ?_
        refine am_callVi E [.int x1, .int x2, .int x3] (kX7_market _ _ _ _ _ _ _ _ _ _ _ _ _ _ _ h) (lw_V q1760 q1762 qs63 q107 q1763) hdX7_market (Nat.le_of_ble_eq_true rfl) (Nat.le_of_ble_eq_true rfl) rfl (Nat.le_of_ble_eq_true rfl) dX7_marketOf_27 rfl (fun r_8 f_7 h => ?_)
        refine ag_goto E1 (tgt := 35) dX7_marketOf_30 (by decide) ?_
        exact am_iret E rfl ⟨_, rfl, h⟩ dX7_marketOf_35
theorem hdX7_marketOf : yX7_marketOf.cls = RX7 ∧ yX7_marketOf.cls ≠ "java/lang/invoke/MethodHandle" ∧ yX7_marketOf.cls ≠ "java/lang/invoke/VarHandle" ∧ (parseMethodDescriptor yX7_marketOf.desc).map (fun d => d.parameters.length) = some 3 := by decide +kernel
theorem tbX7_looks_50 (E : EM p R s m args meth c cX7_looks 3 none D cs b H0 XK 3 68 z u) {Q : St → Prop} {K18 : Int32 → Int32 → St → Prop} (hK18 : ∀ (x1 : Int32) (x2 : Int32) (f : St), K18 x1 x2 f → AM p l e R s m args below meth c D cs b 3 o Z z u (pV Q) 18 [(0, .ref o), (1, .int x1), (2, .int x2)] [] f) {K79 : Int32 → St → Prop} (hK79 : ∀ (x1 : Int32) (f : St), K79 x1 f → AM p l e R s m args below meth c D cs b 3 o Z z u (pV Q) 79 [(0, .ref o), (1, .int x1)] [] f) {x1 : Int32} {x2 : Int32} {t0 : Int32} {t1 : Int32} {f : St} (h : wbX7_looks_50 K18 K79 Q x1 x2 t0 t1 f) : AM p l e R s m args below meth c D cs b 3 o Z z u (pV Q) 50 [(0, .ref o), (1, .int x1), (2, .int x2)] [.int t0, .int t1, .ref (o + 30)] f := by
  have E1 := E.1
  obtain ⟨hin, h⟩ := h
  obtain ⟨hz, h⟩ := h
  refine am_zast E 51 rfl rfl rfl (by decide) hz hin dX7_looks_50 (fun f_5 e_f_5 => ?_)
  have h := h f_5 e_f_5
  refine ag_aload_n E1 dX7_looks_51 rfl 0 rfl ?_
  refine am_geta E 51 (i := 30) (by decide) (by decide) rfl q1501 dX7_looks_52 ?_
  refine ag_bipush E1 dX7_looks_55 kb_6 ?_
  refine ag_iload_n E1 dX7_looks_57 rfl 2 rfl ?_
  refine ag_imul E1 dX7_looks_58 ?_
  refine ag_iload_n E1 dX7_looks_59 rfl 1 rfl ?_
  refine ag_iadd E1 dX7_looks_60 ?_
  refine ag_aload_n E1 dX7_looks_61 rfl 0 rfl ?_
  refine am_geta E 51 (i := 30) (by decide) (by decide) rfl q1501 dX7_looks_62 ?_
  refine ag_bipush E1 dX7_looks_65 kb_6 ?_
  refine ag_iload_n E1 dX7_looks_67 rfl 1 rfl ?_
  refine ag_imul E1 dX7_looks_68 ?_
  refine ag_iload_n E1 dX7_looks_69 rfl 2 rfl ?_
  refine ag_iadd E1 dX7_looks_70 ?_
  obtain ⟨hin, h⟩ := h
  refine am_zald E 51 rfl rfl rfl (by decide) hin dX7_looks_71 ?_
  obtain ⟨hin, h⟩ := h
  obtain ⟨hz, h⟩ := h
  refine am_zast E 51 rfl rfl rfl (by decide) hz hin dX7_looks_72 (fun f_6 e_f_6 => ?_)
  have h := h f_6 e_f_6
  refine ag_iincN E1 (lv' := fun x2_7 => [(2, .int x2_7), (0, .ref o), (1, .int x1)]) dX7_looks_73 2 rfl ki_1 (Nat.lt_of_lt_of_le (Nat.le_refl _) (Nat.le_of_ble_eq_true rfl)) (fun _ => rfl) (fun x2_7 e_x2_7 => ?_)
  have h := h x2_7 e_x2_7
  refine ag_goto E1 (tgt := 18) dX7_looks_76 (by decide) ?_
  refine ag_sub (lv' := [(0, .ref o), (1, .int x1), (2, .int x2_7)]) [1, 2, 0] rfl ?_
  exact hK18 _ _ _ h
theorem tbX7_looks_18 (E : EM p R s m args meth c cX7_looks 3 none D cs b H0 XK 3 68 z u) {Q : St → Prop} {K18 : Int32 → Int32 → St → Prop} (hK18 : ∀ (x1 : Int32) (x2 : Int32) (f : St), K18 x1 x2 f → AM p l e R s m args below meth c D cs b 3 o Z z u (pV Q) 18 [(0, .ref o), (1, .int x1), (2, .int x2)] [] f) {K79 : Int32 → St → Prop} (hK79 : ∀ (x1 : Int32) (f : St), K79 x1 f → AM p l e R s m args below meth c D cs b 3 o Z z u (pV Q) 79 [(0, .ref o), (1, .int x1)] [] f) {x1 : Int32} {x2 : Int32} {f : St} (h : wbX7_looks_18 K18 K79 Q x1 x2 f) : AM p l e R s m args below meth c D cs b 3 o Z z u (pV Q) 18 [(0, .ref o), (1, .int x1), (2, .int x2)] [] f := by
  have E1 := E.1
  refine ag_iload_n E1 dX7_looks_18 rfl 2 rfl ?_
  refine ag_aload_n E1 dX7_looks_19 rfl 0 rfl ?_
  refine am_geti E 0 (by decide) rfl q1450 dX7_looks_20 ?_
  refine ag_icmp_ge E1 (tgt := 79) dX7_looks_23 (by decide) (fun c_23 => ?_) (fun c_23 => ?_)
  · have h := h.1 c_23
    refine ag_sub (lv' := [(0, .ref o), (1, .int x1)]) [0, 1] rfl ?_
    exact hK79 _ _ h
  · have h := h.2 c_23
    refine ag_aload_n E1 dX7_looks_26 rfl 0 rfl ?_
    refine am_geta E 51 (i := 30) (by decide) (by decide) rfl q1501 dX7_looks_27 ?_
    refine ag_bipush E1 dX7_looks_30 kb_6 ?_
    refine ag_iload_n E1 dX7_looks_32 rfl 1 rfl ?_
    refine ag_imul E1 dX7_looks_33 ?_
    refine ag_iload_n E1 dX7_looks_34 rfl 2 rfl ?_
    refine ag_iadd E1 dX7_looks_35 ?_
    refine ag_aload_n E1 dX7_looks_36 rfl 0 rfl ?_
    refine ag_iload_n E1 dX7_looks_37 rfl 1 rfl ?_
    refine ag_iload_n E1 dX7_looks_38 rfl 2 rfl ?_
    refine am_callVi E [.int x1, .int x2] (kX7_nearOf _ _ _ _ _ _ _ _ _ _ _ _ _ _ h) (lw_V q1721 q1723 qs57 q107 q1724) hdX7_nearOf (Nat.le_of_ble_eq_true rfl) (Nat.le_of_ble_eq_true rfl) rfl (Nat.le_of_ble_eq_true rfl) dX7_looks_39 rfl (fun r_4 f_3 h => ?_)
    refine ag_if_eq E1 (tgt := 49) dX7_looks_42 (by decide) (fun c_42 => ?_) (fun c_42 => ?_)
    · have h := h.1 c_42
      refine ag_iconst E1 dX7_looks_49 ki_0 ?_
      exact tbX7_looks_50 E hK18 hK79 h
    · have h := h.2 c_42
      refine ag_iconst E1 dX7_looks_45 ki_1 ?_
      refine ag_goto E1 (tgt := 50) dX7_looks_46 (by decide) ?_
      exact tbX7_looks_50 E hK18 hK79 h
theorem tlX7_looks_18 (E : EM p R s m args meth c cX7_looks 3 none D cs b H0 XK 3 68 z u) {Q : St → Prop} {K79 : Int32 → St → Prop} (hK79 : ∀ (x1 : Int32) (f : St), K79 x1 f → AM p l e R s m args below meth c D cs b 3 o Z z u (pV Q) 79 [(0, .ref o), (1, .int x1)] [] f) : ∀ (n : Nat) (x1 : Int32) (x2 : Int32) (f : St), wlX7_looks_18 K79 Q n x1 x2 f → AM p l e R s m args below meth c D cs b 3 o Z z u (pV Q) 18 [(0, .ref o), (1, .int x1), (2, .int x2)] [] f := by
  intro n
  induction n with
  | zero => intro _ _ _ h; exact h.elim
  | succ n ih => intro x1 x2 f h; exact tbX7_looks_18 E ih hK79 h
theorem tbX7_looks_6 (E : EM p R s m args meth c cX7_looks 3 none D cs b H0 XK 3 68 z u) {Q : St → Prop} {K6 : Int32 → St → Prop} (hK6 : ∀ (x1 : Int32) (f : St), K6 x1 f → AM p l e R s m args below meth c D cs b 3 o Z z u (pV Q) 6 [(0, .ref o), (1, .int x1)] [] f) {x1 : Int32} {f : St} (h : wbX7_looks_6 K6 Q x1 f) : AM p l e R s m args below meth c D cs b 3 o Z z u (pV Q) 6 [(0, .ref o), (1, .int x1)] [] f := by
  have E1 := E.1
  refine ag_iload_n E1 dX7_looks_6 rfl 1 rfl ?_
  refine ag_aload_n E1 dX7_looks_7 rfl 0 rfl ?_
  refine am_geti E 0 (by decide) rfl q1450 dX7_looks_8 ?_
  refine ag_icmp_ge E1 (tgt := 85) dX7_looks_11 (by decide) (fun c_11 => ?_) (fun c_11 => ?_)
  · have h := h.1 c_11
    exact am_vret E rfl ⟨rfl, h⟩ dX7_looks_85
  · have h := h.2 c_11
    refine ag_iload_n E1 dX7_looks_14 rfl 1 rfl ?_
    refine ag_iconst E1 dX7_looks_15 ki_1 ?_
    refine ag_iadd E1 dX7_looks_16 ?_
    refine ag_topi (fun x2_2 e_x2_2 => ?_)
    have h := h x2_2 e_x2_2
    refine ag_istore_n E1 (lv' := [(2, .int x2_2), (0, .ref o), (1, .int x1)]) dX7_looks_17 rfl (Nat.lt_of_lt_of_le (Nat.le_refl _) (Nat.le_of_ble_eq_true rfl)) rfl ?_
    refine ag_sub (lv' := [(0, .ref o), (1, .int x1), (2, .int x2_2)]) [1, 2, 0] rfl ?_
    obtain ⟨n, h⟩ := h
    refine tlX7_looks_18 E ?_ n _ _ _ h
    · intro x1 f h
      refine ag_iincN E1 (lv' := fun x1_8 => [(1, .int x1_8), (0, .ref o)]) dX7_looks_79 1 rfl ki_1 (Nat.lt_of_lt_of_le (Nat.le_refl _) (Nat.le_of_ble_eq_true rfl)) (fun _ => rfl) (fun x1_8 e_x1_8 => ?_)
      have h := h x1_8 e_x1_8
      refine ag_goto E1 (tgt := 6) dX7_looks_82 (by decide) ?_
      refine ag_sub (lv' := [(0, .ref o), (1, .int x1_8)]) [1, 0] rfl ?_
      exact hK6 _ _ h
theorem tlX7_looks_6 (E : EM p R s m args meth c cX7_looks 3 none D cs b H0 XK 3 68 z u) {Q : St → Prop}  : ∀ (n : Nat) (x1 : Int32) (f : St), wlX7_looks_6  Q n x1 f → AM p l e R s m args below meth c D cs b 3 o Z z u (pV Q) 6 [(0, .ref o), (1, .int x1)] [] f := by
  intro n
  induction n with
  | zero => intro _ _ h; exact h.elim
  | succ n ih => intro x1 f h; exact tbX7_looks_6 E ih h
theorem kX7_looks (l : Launch) (D : va_G) (cs : Nat → ClassId) (b : Nat) (H0 : Heap) (XK : State → Prop) (o : Nat) (Z : cP) (z u : Nat) (f : St)  (Q : St → Prop) (h : wX7_looks f  Q) : CM l D cs b H0 XK o Z z u yX7_looks cX7_looks 3 none 3 68 [.ref o] f (pV Q) := by
  refine cm_of (by decide) rfl (Nat.le_of_ble_eq_true rfl) (fun p e R s m below meth c E => ?_)
  have E1 := E.1
  refine ag_sub (lv' := [(0, .ref o)]) [0] rfl ?_
  refine ag_aload_n E1 dX7_looks_0 rfl 0 rfl ?_
  refine am_callVv E [] (kX7_spreads _ _ _ _ _ _ _ _ _ _ _  _ h) (lw_V q1640 q1642 qs47 q107 q1643) hdX7_spreads (Nat.le_of_ble_eq_true rfl) (Nat.le_of_ble_eq_true rfl) rfl (Nat.le_of_ble_eq_true rfl) dX7_looks_1 rfl (fun f_1 h => ?_)
  refine ag_iconst E1 dX7_looks_4 ki_0 ?_
  refine ag_istore_n E1 (lv' := [(1, .int (0 : Int32)), (0, .ref o)]) dX7_looks_5 rfl (Nat.lt_of_lt_of_le (Nat.le_refl _) (Nat.le_of_ble_eq_true rfl)) rfl ?_
  refine ag_sub (lv' := [(0, .ref o), (1, .int (0 : Int32))]) [1, 0] rfl ?_
  obtain ⟨n, h⟩ := h
  exact tlX7_looks_6 E  n _ _ h
theorem hdX7_looks : yX7_looks.cls = RX7 ∧ yX7_looks.cls ≠ "java/lang/invoke/MethodHandle" ∧ yX7_looks.cls ≠ "java/lang/invoke/VarHandle" ∧ (parseMethodDescriptor yX7_looks.desc).map (fun d => d.parameters.length) = some 0 := by decide +kernel
theorem tbX7_laysNow_2 (E : EM p R s m args meth c cX7_laysNow 4 none D cs b H0 XK 3 72 z u) {Q : St → Prop} {K2 : Int32 → Int32 → Int32 → St → Prop} (hK2 : ∀ (x1 : Int32) (x2 : Int32) (x3 : Int32) (f : St), K2 x1 x2 x3 f → AM p l e R s m args below meth c D cs b 4 o Z z u (pV Q) 2 [(0, .ref o), (1, .int x1), (2, .int x2), (3, .int x3)] [] f) {x1 : Int32} {x2 : Int32} {x3 : Int32} {f : St} (h : wbX7_laysNow_2 K2 Q x1 x2 x3 f) : AM p l e R s m args below meth c D cs b 4 o Z z u (pV Q) 2 [(0, .ref o), (1, .int x1), (2, .int x2), (3, .int x3)] [] f := by
  have E1 := E.1
  refine ag_iload_n E1 dX7_laysNow_2 rfl 3 rfl ?_
  refine ag_aload_n E1 dX7_laysNow_3 rfl 0 rfl ?_
  refine am_geti E 0 (by decide) rfl q1450 dX7_laysNow_4 ?_
  refine ag_icmp_ge E1 (tgt := 29) dX7_laysNow_7 (by decide) (fun c_7 => ?_) (fun c_7 => ?_)
  · have h := h.1 c_7
    exact am_vret E rfl ⟨rfl, h⟩ dX7_laysNow_29
  · have h := h.2 c_7
    refine ag_aload_n E1 dX7_laysNow_10 rfl 0 rfl ?_
    refine am_geta E 52 (i := 31) (by decide) (by decide) rfl q1502 dX7_laysNow_11 ?_
    refine ag_iload_n E1 dX7_laysNow_14 rfl 3 rfl ?_
    refine ag_aload_n E1 dX7_laysNow_15 rfl 0 rfl ?_
    refine ag_iload_n E1 dX7_laysNow_16 rfl 1 rfl ?_
    refine ag_iload_n E1 dX7_laysNow_17 rfl 3 rfl ?_
    refine ag_iload_n E1 dX7_laysNow_18 rfl 2 rfl ?_
    refine am_callVi E [.int x1, .int x3, .int x2] (kX7_market _ _ _ _ _ _ _ _ _ _ _ _ _ _ _ h) (lw_V q1760 q1762 qs63 q107 q1763) hdX7_market (Nat.le_of_ble_eq_true rfl) (Nat.le_of_ble_eq_true rfl) rfl (Nat.le_of_ble_eq_true rfl) dX7_laysNow_19 rfl (fun r_2 f_1 h => ?_)
    obtain ⟨hin, h⟩ := h
    refine am_iast E 52 rfl rfl rfl (by decide) hin dX7_laysNow_22 (fun f_3 e_f_3 => ?_)
    have h := h f_3 e_f_3
    refine ag_iincN E1 (lv' := fun x3_4 => [(3, .int x3_4), (0, .ref o), (1, .int x1), (2, .int x2)]) dX7_laysNow_23 3 rfl ki_1 (Nat.lt_of_lt_of_le (Nat.le_refl _) (Nat.le_of_ble_eq_true rfl)) (fun _ => rfl) (fun x3_4 e_x3_4 => ?_)
    have h := h x3_4 e_x3_4
    refine ag_goto E1 (tgt := 2) dX7_laysNow_26 (by decide) ?_
    refine ag_sub (lv' := [(0, .ref o), (1, .int x1), (2, .int x2), (3, .int x3_4)]) [1, 2, 3, 0] rfl ?_
    exact hK2 _ _ _ _ h
theorem tlX7_laysNow_2 (E : EM p R s m args meth c cX7_laysNow 4 none D cs b H0 XK 3 72 z u) {Q : St → Prop}  : ∀ (n : Nat) (x1 : Int32) (x2 : Int32) (x3 : Int32) (f : St), wlX7_laysNow_2  Q n x1 x2 x3 f → AM p l e R s m args below meth c D cs b 4 o Z z u (pV Q) 2 [(0, .ref o), (1, .int x1), (2, .int x2), (3, .int x3)] [] f := by
  intro n
  induction n with
  | zero => intro _ _ _ _ h; exact h.elim
  | succ n ih => intro x1 x2 x3 f h; exact tbX7_laysNow_2 E ih h
theorem kX7_laysNow (l : Launch) (D : va_G) (cs : Nat → ClassId) (b : Nat) (H0 : Heap) (XK : State → Prop) (o : Nat) (Z : cP) (z u : Nat) (f : St) (x1 : Int32) (x2 : Int32) (Q : St → Prop) (h : wX7_laysNow f x1 x2 Q) : CM l D cs b H0 XK o Z z u yX7_laysNow cX7_laysNow 4 none 3 72 [.ref o, .int x1, .int x2] f (pV Q) := by
  refine cm_of (by decide) rfl (Nat.le_of_ble_eq_true rfl) (fun p e R s m below meth c E => ?_)
  have E1 := E.1
  refine ag_sub (lv' := [(0, .ref o), (1, .int x1), (2, .int x2)]) [0, 1, 2] rfl ?_
  refine ag_iconst E1 dX7_laysNow_0 ki_0 ?_
  refine ag_istore_n E1 (lv' := [(3, .int (0 : Int32)), (0, .ref o), (1, .int x1), (2, .int x2)]) dX7_laysNow_1 rfl (Nat.lt_of_lt_of_le (Nat.le_refl _) (Nat.le_of_ble_eq_true rfl)) rfl ?_
  refine ag_sub (lv' := [(0, .ref o), (1, .int x1), (2, .int x2), (3, .int (0 : Int32))]) [1, 2, 3, 0] rfl ?_
  obtain ⟨n, h⟩ := h
  exact tlX7_laysNow_2 E  n _ _ _ _ h
theorem hdX7_laysNow : yX7_laysNow.cls = RX7 ∧ yX7_laysNow.cls ≠ "java/lang/invoke/MethodHandle" ∧ yX7_laysNow.cls ≠ "java/lang/invoke/VarHandle" ∧ (parseMethodDescriptor yX7_laysNow.desc).map (fun d => d.parameters.length) = some 2 := by decide +kernel
theorem tbX7_follows_52 (E : EM p R s m args meth c cX7_follows 4 (some .boolean) D cs b H0 XK 0 0 z u) {Q : Int32 → St → Prop} {K2 : Int32 → Int32 → Int32 → St → Prop} (hK2 : ∀ (x1 : Int32) (x2 : Int32) (x3 : Int32) (f : St), K2 x1 x2 x3 f → AM p l e R s m args below meth c D cs b 4 o Z z u (pI Q) 2 [(0, .ref o), (1, .int x1), (2, .int x2), (3, .int x3)] [] f) {x1 : Int32} {x2 : Int32} {x3 : Int32} {f : St} (h : wbX7_follows_52 K2 Q x1 x2 x3 f) : AM p l e R s m args below meth c D cs b 4 o Z z u (pI Q) 52 [(0, .ref o), (1, .int x1), (2, .int x2), (3, .int x3)] [] f := by
  have E1 := E.1
  refine ag_iincN E1 (lv' := fun x3_1 => [(3, .int x3_1), (0, .ref o), (1, .int x1), (2, .int x2)]) dX7_follows_52 3 rfl ki_1 (Nat.lt_of_lt_of_le (Nat.le_refl _) (Nat.le_of_ble_eq_true rfl)) (fun _ => rfl) (fun x3_1 e_x3_1 => ?_)
  have h := h x3_1 e_x3_1
  refine ag_goto E1 (tgt := 2) dX7_follows_55 (by decide) ?_
  refine ag_sub (lv' := [(0, .ref o), (1, .int x1), (2, .int x2), (3, .int x3_1)]) [1, 2, 3, 0] rfl ?_
  exact hK2 _ _ _ _ h
theorem tbX7_follows_2 (E : EM p R s m args meth c cX7_follows 4 (some .boolean) D cs b H0 XK 0 0 z u) {Q : Int32 → St → Prop} {K2 : Int32 → Int32 → Int32 → St → Prop} (hK2 : ∀ (x1 : Int32) (x2 : Int32) (x3 : Int32) (f : St), K2 x1 x2 x3 f → AM p l e R s m args below meth c D cs b 4 o Z z u (pI Q) 2 [(0, .ref o), (1, .int x1), (2, .int x2), (3, .int x3)] [] f) {x1 : Int32} {x2 : Int32} {x3 : Int32} {f : St} (h : wbX7_follows_2 K2 Q x1 x2 x3 f) : AM p l e R s m args below meth c D cs b 4 o Z z u (pI Q) 2 [(0, .ref o), (1, .int x1), (2, .int x2), (3, .int x3)] [] f := by
  have E1 := E.1
  refine ag_iload_n E1 dX7_follows_2 rfl 3 rfl ?_
  refine ag_aload_n E1 dX7_follows_3 rfl 0 rfl ?_
  refine am_geti E 6 (by decide) rfl q1456 dX7_follows_4 ?_
  refine ag_icmp_ge E1 (tgt := 58) dX7_follows_7 (by decide) (fun c_7 => ?_) (fun c_7 => ?_)
  · have h := h.1 c_7
    refine ag_iconst E1 dX7_follows_58 ki_0 ?_
    exact am_zret E rfl (Or.inl rfl) ⟨_, rfl, h⟩ dX7_follows_59
  · have h := h.2 c_7
    refine ag_aload_n E1 dX7_follows_10 rfl 0 rfl ?_
    refine am_geta E 52 (i := 31) (by decide) (by decide) rfl q1502 dX7_follows_11 ?_
    refine ag_iload_n E1 dX7_follows_14 rfl 1 rfl ?_
    obtain ⟨hin, h⟩ := h
    refine am_iald E 52 rfl rfl rfl (by decide) hin dX7_follows_15 ?_
    refine ag_iload_n E1 dX7_follows_16 rfl 3 rfl ?_
    refine ag_ishr E1 dX7_follows_17 ?_
    refine ag_iconst E1 dX7_follows_18 ki_1 ?_
    refine ag_iand E1 dX7_follows_19 ?_
    refine ag_iconst E1 dX7_follows_20 ki_1 ?_
    refine ag_icmp_ne E1 (tgt := 52) dX7_follows_21 (by decide) (fun c_21 => ?_) (fun c_21 => ?_)
    · have h := h.1 c_21
      exact tbX7_follows_52 E hK2 h
    · have h := h.2 c_21
      refine ag_aload_n E1 dX7_follows_24 rfl 0 rfl ?_
      refine am_geta E 52 (i := 31) (by decide) (by decide) rfl q1502 dX7_follows_25 ?_
      refine ag_iload_n E1 dX7_follows_28 rfl 2 rfl ?_
      obtain ⟨hin, h⟩ := h
      refine am_iald E 52 rfl rfl rfl (by decide) hin dX7_follows_29 ?_
      refine ag_iload_n E1 dX7_follows_30 rfl 3 rfl ?_
      refine ag_aload_n E1 dX7_follows_31 rfl 0 rfl ?_
      refine am_geti E 6 (by decide) rfl q1456 dX7_follows_32 ?_
      refine ag_iadd E1 dX7_follows_35 ?_
      refine ag_iconst E1 dX7_follows_36 ki_1 ?_
      refine ag_isub E1 dX7_follows_37 ?_
      refine ag_aload_n E1 dX7_follows_38 rfl 0 rfl ?_
      refine am_geti E 6 (by decide) rfl q1456 dX7_follows_39 ?_
      obtain ⟨hne, h⟩ := h
      refine ag_irem E1 dX7_follows_42 hne ?_
      refine ag_ishr E1 dX7_follows_43 ?_
      refine ag_iconst E1 dX7_follows_44 ki_1 ?_
      refine ag_iand E1 dX7_follows_45 ?_
      refine ag_iconst E1 dX7_follows_46 ki_1 ?_
      refine ag_icmp_ne E1 (tgt := 52) dX7_follows_47 (by decide) (fun c_47 => ?_) (fun c_47 => ?_)
      · have h := h.1 c_47
        exact tbX7_follows_52 E hK2 h
      · have h := h.2 c_47
        refine ag_iconst E1 dX7_follows_50 ki_1 ?_
        exact am_zret E rfl (Or.inr rfl) ⟨_, rfl, h⟩ dX7_follows_51
theorem tlX7_follows_2 (E : EM p R s m args meth c cX7_follows 4 (some .boolean) D cs b H0 XK 0 0 z u) {Q : Int32 → St → Prop}  : ∀ (n : Nat) (x1 : Int32) (x2 : Int32) (x3 : Int32) (f : St), wlX7_follows_2  Q n x1 x2 x3 f → AM p l e R s m args below meth c D cs b 4 o Z z u (pI Q) 2 [(0, .ref o), (1, .int x1), (2, .int x2), (3, .int x3)] [] f := by
  intro n
  induction n with
  | zero => intro _ _ _ _ h; exact h.elim
  | succ n ih => intro x1 x2 x3 f h; exact tbX7_follows_2 E ih h
theorem kX7_follows (l : Launch) (D : va_G) (cs : Nat → ClassId) (b : Nat) (H0 : Heap) (XK : State → Prop) (o : Nat) (Z : cP) (z u : Nat) (f : St) (x1 : Int32) (x2 : Int32) (Q : Int32 → St → Prop) (h : wX7_follows f x1 x2 Q) : CM l D cs b H0 XK o Z z u yX7_follows cX7_follows 4 (some .boolean) 0 0 [.ref o, .int x1, .int x2] f (pI Q) := by
  refine cm_of (by decide) rfl (Nat.le_of_ble_eq_true rfl) (fun p e R s m below meth c E => ?_)
  have E1 := E.1
  refine ag_sub (lv' := [(0, .ref o), (1, .int x1), (2, .int x2)]) [0, 1, 2] rfl ?_
  refine ag_iconst E1 dX7_follows_0 ki_0 ?_
  refine ag_istore_n E1 (lv' := [(3, .int (0 : Int32)), (0, .ref o), (1, .int x1), (2, .int x2)]) dX7_follows_1 rfl (Nat.lt_of_lt_of_le (Nat.le_refl _) (Nat.le_of_ble_eq_true rfl)) rfl ?_
  refine ag_sub (lv' := [(0, .ref o), (1, .int x1), (2, .int x2), (3, .int (0 : Int32))]) [1, 2, 3, 0] rfl ?_
  obtain ⟨n, h⟩ := h
  exact tlX7_follows_2 E  n _ _ _ _ h
theorem hdX7_follows : yX7_follows.cls = RX7 ∧ yX7_follows.cls ≠ "java/lang/invoke/MethodHandle" ∧ yX7_follows.cls ≠ "java/lang/invoke/VarHandle" ∧ (parseMethodDescriptor yX7_follows.desc).map (fun d => d.parameters.length) = some 2 := by decide +kernel
theorem tbX7_doBar_127 (E : EM p R s m args meth c cX7_doBar 4 (some .boolean) D cs b H0 XK 1 23 z u) {Q : Int32 → St → Prop}   {f : St} (h : wbX7_doBar_127  Q  f) : AM p l e R s m args below meth c D cs b 4 o Z z u (pI Q) 127 [] [] f := by
  have E1 := E.1
  refine ag_iconst E1 dX7_doBar_127 ki_1 ?_
  refine ag_goto E1 (tgt := 132) dX7_doBar_128 (by decide) ?_
  exact am_zret E rfl (Or.inr rfl) ⟨_, rfl, h⟩ dX7_doBar_132
theorem tbX7_doBar_108 (E : EM p R s m args meth c cX7_doBar 4 (some .boolean) D cs b H0 XK 1 23 z u) {Q : Int32 → St → Prop}  {x1 : Int32} {x2 : Int32} {f : St} (h : wbX7_doBar_108  Q x1 x2 f) : AM p l e R s m args below meth c D cs b 4 o Z z u (pI Q) 108 [(0, .ref o), (1, .int x1), (2, .int x2)] [] f := by
  have E1 := E.1
  refine ag_aload_n E1 dX7_doBar_108 rfl 0 rfl ?_
  refine am_geta E 4 (i := 4) (by decide) (by decide) rfl q1454 dX7_doBar_109 ?_
  refine ag_iload_n E1 dX7_doBar_112 rfl 2 rfl ?_
  obtain ⟨hin, h⟩ := h
  refine am_iald E 4 rfl rfl rfl (by decide) hin dX7_doBar_113 ?_
  refine ag_iload_n E1 dX7_doBar_114 rfl 1 rfl ?_
  refine ag_icmp_ne E1 (tgt := 131) dX7_doBar_115 (by decide) (fun c_115 => ?_) (fun c_115 => ?_)
  · have h := h.1 c_115
    refine ag_iconst E1 dX7_doBar_131 ki_0 ?_
    exact am_zret E rfl (Or.inl rfl) ⟨_, rfl, h⟩ dX7_doBar_132
  · have h := h.2 c_115
    refine ag_aload_n E1 dX7_doBar_118 rfl 0 rfl ?_
    refine ag_iload_n E1 dX7_doBar_119 rfl 2 rfl ?_
    refine ag_iload_n E1 dX7_doBar_120 rfl 1 rfl ?_
    refine am_callVi E [.int x2, .int x1] (kX7_follows _ _ _ _ _ _ _ _ _ _ _ _ _ _ h) (lw_V q1788 q1790 qs69 q107 q1791) hdX7_follows (Nat.le_of_ble_eq_true rfl) (Nat.le_of_ble_eq_true rfl) rfl (Nat.le_of_ble_eq_true rfl) dX7_doBar_121 rfl (fun r_2 f_1 h => ?_)
    refine ag_if_ne E1 (tgt := 131) dX7_doBar_124 (by decide) (fun c_124 => ?_) (fun c_124 => ?_)
    · have h := h.1 c_124
      refine ag_iconst E1 dX7_doBar_131 ki_0 ?_
      exact am_zret E rfl (Or.inl rfl) ⟨_, rfl, h⟩ dX7_doBar_132
    · have h := h.2 c_124
      refine ag_sub (lv' := []) [] rfl ?_
      exact tbX7_doBar_127 E  h
theorem tbX7_doBar_84 (E : EM p R s m args meth c cX7_doBar 4 (some .boolean) D cs b H0 XK 1 23 z u) {Q : Int32 → St → Prop}  {x1 : Int32} {x2 : Int32} {t0 : Int32} {f : St} (h : wbX7_doBar_84  Q x1 x2 t0 f) : AM p l e R s m args below meth c D cs b 4 o Z z u (pI Q) 84 [(0, .ref o), (1, .int x1), (2, .int x2)] [.int t0] f := by
  have E1 := E.1
  refine ag_istore_n E1 (lv' := [(3, .int t0), (0, .ref o), (1, .int x1), (2, .int x2)]) dX7_doBar_84 rfl (Nat.lt_of_lt_of_le (Nat.le_refl _) (Nat.le_of_ble_eq_true rfl)) rfl ?_
  refine ag_iload_n E1 dX7_doBar_85 rfl 0 rfl ?_
  refine ag_if_eq E1 (tgt := 131) dX7_doBar_86 (by decide) (fun c_86 => ?_) (fun c_86 => ?_)
  · have h := h.1 c_86
    refine ag_iconst E1 dX7_doBar_131 ki_0 ?_
    exact am_zret E rfl (Or.inl rfl) ⟨_, rfl, h⟩ dX7_doBar_132
  · have h := h.2 c_86
    refine ag_aload_n E1 dX7_doBar_89 rfl 1 rfl ?_
    refine am_geta E 4 (i := 4) (by decide) (by decide) rfl q1454 dX7_doBar_90 ?_
    refine ag_iload_n E1 dX7_doBar_93 rfl 2 rfl ?_
    obtain ⟨hin, h⟩ := h
    refine am_iald E 4 rfl rfl rfl (by decide) hin dX7_doBar_94 ?_
    refine ag_iload_n E1 dX7_doBar_95 rfl 3 rfl ?_
    refine ag_icmp_ne E1 (tgt := 108) dX7_doBar_96 (by decide) (fun c_96 => ?_) (fun c_96 => ?_)
    · have h := h.1 c_96
      refine ag_sub (lv' := [(0, .ref o), (1, .int x1), (2, .int x2)]) [1, 2, 3] rfl ?_
      exact tbX7_doBar_108 E  h
    · have h := h.2 c_96
      refine ag_aload_n E1 dX7_doBar_99 rfl 1 rfl ?_
      refine ag_iload_n E1 dX7_doBar_100 rfl 2 rfl ?_
      refine ag_iload_n E1 dX7_doBar_101 rfl 3 rfl ?_
      refine am_callVi E [.int x1, .int x2] (kX7_follows _ _ _ _ _ _ _ _ _ _ _ _ _ _ h) (lw_V q1788 q1790 qs69 q107 q1791) hdX7_follows (Nat.le_of_ble_eq_true rfl) (Nat.le_of_ble_eq_true rfl) rfl (Nat.le_of_ble_eq_true rfl) dX7_doBar_102 rfl (fun r_4 f_3 h => ?_)
      refine ag_if_eq E1 (tgt := 127) dX7_doBar_105 (by decide) (fun c_105 => ?_) (fun c_105 => ?_)
      · have h := h.1 c_105
        refine ag_sub (lv' := []) [] rfl ?_
        exact tbX7_doBar_127 E  h
      · have h := h.2 c_105
        refine ag_sub (lv' := [(0, .ref o), (1, .int x1), (2, .int x2)]) [1, 2, 3] rfl ?_
        exact tbX7_doBar_108 E  h
theorem tbX7_doBar_83 (E : EM p R s m args meth c cX7_doBar 4 (some .boolean) D cs b H0 XK 1 23 z u) {Q : Int32 → St → Prop}  {x1 : Int32} {x2 : Int32} {f : St} (h : wbX7_doBar_83  Q x1 x2 f) : AM p l e R s m args below meth c D cs b 4 o Z z u (pI Q) 83 [(0, .ref o), (1, .int x1), (2, .int x2)] [] f := by
  have E1 := E.1
  refine ag_iconst E1 dX7_doBar_83 ki_0 ?_
  exact tbX7_doBar_84 E  h
theorem tbX7_doBar_61 (E : EM p R s m args meth c cX7_doBar 4 (some .boolean) D cs b H0 XK 1 23 z u) {Q : Int32 → St → Prop}  {x1 : Int32} {x2 : Int32} {f : St} (h : wbX7_doBar_61  Q x1 x2 f) : AM p l e R s m args below meth c D cs b 4 o Z z u (pI Q) 61 [(0, .ref o), (1, .int x1), (2, .int x2)] [] f := by
  have E1 := E.1
  refine ag_aload_n E1 dX7_doBar_61 rfl 0 rfl ?_
  refine am_geta E 52 (i := 31) (by decide) (by decide) rfl q1502 dX7_doBar_62 ?_
  refine ag_iload_n E1 dX7_doBar_65 rfl 1 rfl ?_
  obtain ⟨hin, h⟩ := h
  refine am_iald E 52 rfl rfl rfl (by decide) hin dX7_doBar_66 ?_
  refine ag_if_eq E1 (tgt := 83) dX7_doBar_67 (by decide) (fun c_67 => ?_) (fun c_67 => ?_)
  · have h := h.1 c_67
    exact tbX7_doBar_83 E  h
  · have h := h.2 c_67
    refine ag_aload_n E1 dX7_doBar_70 rfl 0 rfl ?_
    refine am_geta E 52 (i := 31) (by decide) (by decide) rfl q1502 dX7_doBar_71 ?_
    refine ag_iload_n E1 dX7_doBar_74 rfl 2 rfl ?_
    obtain ⟨hin, h⟩ := h
    refine am_iald E 52 rfl rfl rfl (by decide) hin dX7_doBar_75 ?_
    refine ag_if_eq E1 (tgt := 83) dX7_doBar_76 (by decide) (fun c_76 => ?_) (fun c_76 => ?_)
    · have h := h.1 c_76
      exact tbX7_doBar_83 E  h
    · have h := h.2 c_76
      refine ag_iconst E1 dX7_doBar_79 ki_1 ?_
      refine ag_goto E1 (tgt := 84) dX7_doBar_80 (by decide) ?_
      exact tbX7_doBar_84 E  h
theorem kX7_doBar (l : Launch) (D : va_G) (cs : Nat → ClassId) (b : Nat) (H0 : Heap) (XK : State → Prop) (o : Nat) (Z : cP) (z u : Nat) (f : St) (x1 : Int32) (x2 : Int32) (Q : Int32 → St → Prop) (h : wX7_doBar f x1 x2 Q) : CM l D cs b H0 XK o Z z u yX7_doBar cX7_doBar 4 (some .boolean) 1 23 [.ref o, .int x1, .int x2] f (pI Q) := by
  refine cm_of (by decide) rfl (Nat.le_of_ble_eq_true rfl) (fun p e R s m below meth c E => ?_)
  have E1 := E.1
  refine ag_sub (lv' := [(0, .ref o), (1, .int x1), (2, .int x2)]) [0, 1, 2] rfl ?_
  refine ag_iload_n E1 dX7_doBar_0 rfl 1 rfl ?_
  refine ag_iload_n E1 dX7_doBar_1 rfl 2 rfl ?_
  refine ag_icmp_ne E1 (tgt := 29) dX7_doBar_2 (by decide) (fun c_2 => ?_) (fun c_2 => ?_)
  · have h := h.1 c_2
    refine ag_aload_n E1 dX7_doBar_29 rfl 0 rfl ?_
    refine am_geta E 52 (i := 31) (by decide) (by decide) rfl q1502 dX7_doBar_30 ?_
    refine ag_iload_n E1 dX7_doBar_33 rfl 1 rfl ?_
    obtain ⟨hin, h⟩ := h
    refine am_iald E 52 rfl rfl rfl (by decide) hin dX7_doBar_34 ?_
    refine ag_aload_n E1 dX7_doBar_35 rfl 0 rfl ?_
    refine am_geta E 52 (i := 31) (by decide) (by decide) rfl q1502 dX7_doBar_36 ?_
    refine ag_iload_n E1 dX7_doBar_39 rfl 2 rfl ?_
    obtain ⟨hin, h⟩ := h
    refine am_iald E 52 rfl rfl rfl (by decide) hin dX7_doBar_40 ?_
    refine ag_iand E1 dX7_doBar_41 ?_
    refine ag_if_eq E1 (tgt := 61) dX7_doBar_42 (by decide) (fun c_42 => ?_) (fun c_42 => ?_)
    · have h := h.1 c_42
      exact tbX7_doBar_61 E  h
    · have h := h.2 c_42
      refine ag_aload_n E1 dX7_doBar_45 rfl 0 rfl ?_
      refine am_geta E 51 (i := 30) (by decide) (by decide) rfl q1501 dX7_doBar_46 ?_
      refine ag_bipush E1 dX7_doBar_49 kb_6 ?_
      refine ag_iload_n E1 dX7_doBar_51 rfl 1 rfl ?_
      refine ag_imul E1 dX7_doBar_52 ?_
      refine ag_iload_n E1 dX7_doBar_53 rfl 2 rfl ?_
      refine ag_iadd E1 dX7_doBar_54 ?_
      obtain ⟨hin, h⟩ := h
      refine am_zald E 51 rfl rfl rfl (by decide) hin dX7_doBar_55 ?_
      refine ag_if_eq E1 (tgt := 61) dX7_doBar_56 (by decide) (fun c_56 => ?_) (fun c_56 => ?_)
      · have h := h.1 c_56
        exact tbX7_doBar_61 E  h
      · have h := h.2 c_56
        refine ag_iconst E1 dX7_doBar_59 ki_1 ?_
        exact am_zret E rfl (Or.inr rfl) ⟨_, rfl, h⟩ dX7_doBar_60
  · have h := h.2 c_2
    refine ag_aload_n E1 dX7_doBar_5 rfl 0 rfl ?_
    refine am_geta E 52 (i := 31) (by decide) (by decide) rfl q1502 dX7_doBar_6 ?_
    refine ag_iload_n E1 dX7_doBar_9 rfl 1 rfl ?_
    obtain ⟨hin, h⟩ := h
    refine am_iald E 52 rfl rfl rfl (by decide) hin dX7_doBar_10 ?_
    refine ag_aload_n E1 dX7_doBar_11 rfl 0 rfl ?_
    refine am_geta E 2 (i := 2) (by decide) (by decide) rfl q1452 dX7_doBar_12 ?_
    refine ag_iload_n E1 dX7_doBar_15 rfl 1 rfl ?_
    obtain ⟨hin, h⟩ := h
    refine am_iald E 2 rfl rfl rfl (by decide) hin dX7_doBar_16 ?_
    refine ag_iconst E1 dX7_doBar_17 ki_m1 ?_
    refine ag_ixor E1 dX7_doBar_18 ?_
    refine ag_iand E1 dX7_doBar_19 ?_
    refine ag_if_eq E1 (tgt := 27) dX7_doBar_20 (by decide) (fun c_20 => ?_) (fun c_20 => ?_)
    · have h := h.1 c_20
      refine ag_iconst E1 dX7_doBar_27 ki_0 ?_
      exact am_zret E rfl (Or.inl rfl) ⟨_, rfl, h⟩ dX7_doBar_28
    · have h := h.2 c_20
      refine ag_iconst E1 dX7_doBar_23 ki_1 ?_
      refine ag_goto E1 (tgt := 28) dX7_doBar_24 (by decide) ?_
      exact am_zret E rfl (Or.inr rfl) ⟨_, rfl, h⟩ dX7_doBar_28
theorem hdX7_doBar : yX7_doBar.cls = RX7 ∧ yX7_doBar.cls ≠ "java/lang/invoke/MethodHandle" ∧ yX7_doBar.cls ≠ "java/lang/invoke/VarHandle" ∧ (parseMethodDescriptor yX7_doBar.desc).map (fun d => d.parameters.length) = some 2 := by decide +kernel
theorem tbX7_firstBar_12 (E : EM p R s m args meth c cX7_firstBar 3 (some .int) D cs b H0 XK 2 46 z u) {Q : Int32 → St → Prop} {K12 : Int32 → Int32 → St → Prop} (hK12 : ∀ (x1 : Int32) (x2 : Int32) (f : St), K12 x1 x2 f → AM p l e R s m args below meth c D cs b 3 o Z z u (pI Q) 12 [(0, .ref o), (1, .int x1), (2, .int x2)] [] f) {K42 : Int32 → St → Prop} (hK42 : ∀ (x1 : Int32) (f : St), K42 x1 f → AM p l e R s m args below meth c D cs b 3 o Z z u (pI Q) 42 [(0, .ref o), (1, .int x1)] [] f) {x1 : Int32} {x2 : Int32} {f : St} (h : wbX7_firstBar_12 K12 K42 Q x1 x2 f) : AM p l e R s m args below meth c D cs b 3 o Z z u (pI Q) 12 [(0, .ref o), (1, .int x1), (2, .int x2)] [] f := by
  have E1 := E.1
  refine ag_iload_n E1 dX7_firstBar_12 rfl 2 rfl ?_
  refine ag_aload_n E1 dX7_firstBar_13 rfl 0 rfl ?_
  refine am_geti E 0 (by decide) rfl q1450 dX7_firstBar_14 ?_
  refine ag_icmp_ge E1 (tgt := 42) dX7_firstBar_17 (by decide) (fun c_17 => ?_) (fun c_17 => ?_)
  · have h := h.1 c_17
    refine ag_sub (lv' := [(0, .ref o), (1, .int x1)]) [0, 1] rfl ?_
    exact hK42 _ _ h
  · have h := h.2 c_17
    refine ag_aload_n E1 dX7_firstBar_20 rfl 0 rfl ?_
    refine ag_iload_n E1 dX7_firstBar_21 rfl 1 rfl ?_
    refine ag_iload_n E1 dX7_firstBar_22 rfl 2 rfl ?_
    refine am_callVi E [.int x1, .int x2] (kX7_doBar _ _ _ _ _ _ _ _ _ _ _ _ _ _ h) (lw_V q1784 q1786 qs68 q107 q1787) hdX7_doBar (Nat.le_of_ble_eq_true rfl) (Nat.le_of_ble_eq_true rfl) rfl (Nat.le_of_ble_eq_true rfl) dX7_firstBar_23 rfl (fun r_2 f_1 h => ?_)
    refine ag_if_eq E1 (tgt := 36) dX7_firstBar_26 (by decide) (fun c_26 => ?_) (fun c_26 => ?_)
    · have h := h.1 c_26
      refine ag_iincN E1 (lv' := fun x2_3 => [(2, .int x2_3), (0, .ref o), (1, .int x1)]) dX7_firstBar_36 2 rfl ki_1 (Nat.lt_of_lt_of_le (Nat.le_refl _) (Nat.le_of_ble_eq_true rfl)) (fun _ => rfl) (fun x2_3 e_x2_3 => ?_)
      have h := h x2_3 e_x2_3
      refine ag_goto E1 (tgt := 12) dX7_firstBar_39 (by decide) ?_
      refine ag_sub (lv' := [(0, .ref o), (1, .int x1), (2, .int x2_3)]) [1, 2, 0] rfl ?_
      exact hK12 _ _ _ h
    · have h := h.2 c_26
      refine ag_bipush E1 dX7_firstBar_29 kb_10 ?_
      refine ag_iload_n E1 dX7_firstBar_31 rfl 1 rfl ?_
      refine ag_imul E1 dX7_firstBar_32 ?_
      refine ag_iload_n E1 dX7_firstBar_33 rfl 2 rfl ?_
      refine ag_iadd E1 dX7_firstBar_34 ?_
      exact am_iret E rfl ⟨_, rfl, h⟩ dX7_firstBar_35
theorem tlX7_firstBar_12 (E : EM p R s m args meth c cX7_firstBar 3 (some .int) D cs b H0 XK 2 46 z u) {Q : Int32 → St → Prop} {K42 : Int32 → St → Prop} (hK42 : ∀ (x1 : Int32) (f : St), K42 x1 f → AM p l e R s m args below meth c D cs b 3 o Z z u (pI Q) 42 [(0, .ref o), (1, .int x1)] [] f) : ∀ (n : Nat) (x1 : Int32) (x2 : Int32) (f : St), wlX7_firstBar_12 K42 Q n x1 x2 f → AM p l e R s m args below meth c D cs b 3 o Z z u (pI Q) 12 [(0, .ref o), (1, .int x1), (2, .int x2)] [] f := by
  intro n
  induction n with
  | zero => intro _ _ _ h; exact h.elim
  | succ n ih => intro x1 x2 f h; exact tbX7_firstBar_12 E ih hK42 h
theorem tbX7_firstBar_2 (E : EM p R s m args meth c cX7_firstBar 3 (some .int) D cs b H0 XK 2 46 z u) {Q : Int32 → St → Prop} {K2 : Int32 → St → Prop} (hK2 : ∀ (x1 : Int32) (f : St), K2 x1 f → AM p l e R s m args below meth c D cs b 3 o Z z u (pI Q) 2 [(0, .ref o), (1, .int x1)] [] f) {x1 : Int32} {f : St} (h : wbX7_firstBar_2 K2 Q x1 f) : AM p l e R s m args below meth c D cs b 3 o Z z u (pI Q) 2 [(0, .ref o), (1, .int x1)] [] f := by
  have E1 := E.1
  refine ag_iload_n E1 dX7_firstBar_2 rfl 1 rfl ?_
  refine ag_aload_n E1 dX7_firstBar_3 rfl 0 rfl ?_
  refine am_geti E 0 (by decide) rfl q1450 dX7_firstBar_4 ?_
  refine ag_icmp_ge E1 (tgt := 48) dX7_firstBar_7 (by decide) (fun c_7 => ?_) (fun c_7 => ?_)
  · have h := h.1 c_7
    refine ag_iconst E1 dX7_firstBar_48 ki_m1 ?_
    exact am_iret E rfl ⟨_, rfl, h⟩ dX7_firstBar_49
  · have h := h.2 c_7
    refine ag_iload_n E1 dX7_firstBar_10 rfl 1 rfl ?_
    refine ag_istore_n E1 (lv' := [(2, .int x1), (0, .ref o), (1, .int x1)]) dX7_firstBar_11 rfl (Nat.lt_of_lt_of_le (Nat.le_refl _) (Nat.le_of_ble_eq_true rfl)) rfl ?_
    refine ag_sub (lv' := [(0, .ref o), (1, .int x1), (2, .int x1)]) [1, 2, 0] rfl ?_
    obtain ⟨n, h⟩ := h
    refine tlX7_firstBar_12 E ?_ n _ _ _ h
    · intro x1 f h
      refine ag_iincN E1 (lv' := fun x1_4 => [(1, .int x1_4), (0, .ref o)]) dX7_firstBar_42 1 rfl ki_1 (Nat.lt_of_lt_of_le (Nat.le_refl _) (Nat.le_of_ble_eq_true rfl)) (fun _ => rfl) (fun x1_4 e_x1_4 => ?_)
      have h := h x1_4 e_x1_4
      refine ag_goto E1 (tgt := 2) dX7_firstBar_45 (by decide) ?_
      refine ag_sub (lv' := [(0, .ref o), (1, .int x1_4)]) [1, 0] rfl ?_
      exact hK2 _ _ h
theorem tlX7_firstBar_2 (E : EM p R s m args meth c cX7_firstBar 3 (some .int) D cs b H0 XK 2 46 z u) {Q : Int32 → St → Prop}  : ∀ (n : Nat) (x1 : Int32) (f : St), wlX7_firstBar_2  Q n x1 f → AM p l e R s m args below meth c D cs b 3 o Z z u (pI Q) 2 [(0, .ref o), (1, .int x1)] [] f := by
  intro n
  induction n with
  | zero => intro _ _ h; exact h.elim
  | succ n ih => intro x1 f h; exact tbX7_firstBar_2 E ih h
theorem kX7_firstBar (l : Launch) (D : va_G) (cs : Nat → ClassId) (b : Nat) (H0 : Heap) (XK : State → Prop) (o : Nat) (Z : cP) (z u : Nat) (f : St)  (Q : Int32 → St → Prop) (h : wX7_firstBar f  Q) : CM l D cs b H0 XK o Z z u yX7_firstBar cX7_firstBar 3 (some .int) 2 46 [.ref o] f (pI Q) := by
  refine cm_of (by decide) rfl (Nat.le_of_ble_eq_true rfl) (fun p e R s m below meth c E => ?_)
  have E1 := E.1
  refine ag_sub (lv' := [(0, .ref o)]) [0] rfl ?_
  refine ag_iconst E1 dX7_firstBar_0 ki_0 ?_
  refine ag_istore_n E1 (lv' := [(1, .int (0 : Int32)), (0, .ref o)]) dX7_firstBar_1 rfl (Nat.lt_of_lt_of_le (Nat.le_refl _) (Nat.le_of_ble_eq_true rfl)) rfl ?_
  refine ag_sub (lv' := [(0, .ref o), (1, .int (0 : Int32))]) [1, 0] rfl ?_
  obtain ⟨n, h⟩ := h
  exact tlX7_firstBar_2 E  n _ _ h
theorem hdX7_firstBar : yX7_firstBar.cls = RX7 ∧ yX7_firstBar.cls ≠ "java/lang/invoke/MethodHandle" ∧ yX7_firstBar.cls ≠ "java/lang/invoke/VarHandle" ∧ (parseMethodDescriptor yX7_firstBar.desc).map (fun d => d.parameters.length) = some 0 := by decide +kernel
theorem kX7_bar (l : Launch) (D : va_G) (cs : Nat → ClassId) (b : Nat) (H0 : Heap) (XK : State → Prop) (o : Nat) (Z : cP) (z u : Nat) (f : St) (x1 : Int32) (x2 : Int32) (Q : Int32 → St → Prop) (h : wX7_bar f x1 x2 Q) : CM l D cs b H0 XK o Z z u yX7_bar cX7_bar 3 (some .int) 4 95 [.ref o, .int x1, .int x2] f (pI Q) := by
  refine cm_of (by decide) rfl (Nat.le_of_ble_eq_true rfl) (fun p e R s m below meth c E => ?_)
  have E1 := E.1
  refine ag_sub (lv' := [(0, .ref o), (1, .int x1), (2, .int x2)]) [0, 1, 2] rfl ?_
  refine ag_aload_n E1 dX7_bar_0 rfl 0 rfl ?_
  refine ag_iload_n E1 dX7_bar_1 rfl 1 rfl ?_
  refine am_callVi E [.int x1] (kX7_isGiving _ _ _ _ _ _ _ _ _ _ _ _ _ h) (lw_V q1756 q1758 qs62 q107 q1759) hdX7_isGiving (Nat.le_of_ble_eq_true rfl) (Nat.le_of_ble_eq_true rfl) rfl (Nat.le_of_ble_eq_true rfl) dX7_bar_2 rfl (fun r_2 f_1 h => ?_)
  refine ag_if_eq E1 (tgt := 15) dX7_bar_5 (by decide) (fun c_5 => ?_) (fun c_5 => ?_)
  · have h := h.1 c_5
    refine ag_bipush E1 dX7_bar_15 kb_m5 ?_
    exact am_iret E rfl ⟨_, rfl, h⟩ dX7_bar_17
  · have h := h.2 c_5
    refine ag_iload_n E1 dX7_bar_8 rfl 2 rfl ?_
    refine am_callSi E [.int x2] (kX7_isWeek _ _ _ _ _ _ _ _ _ _ _ _ _ h) (lw_S q1660 q1661 q107 q1662) hdX7_isWeek (Nat.le_of_ble_eq_true rfl) (Nat.le_of_ble_eq_true rfl) rfl (Nat.le_of_ble_eq_true rfl) dX7_bar_9 rfl (fun r_4 f_3 h => ?_)
    refine ag_if_ne E1 (tgt := 18) dX7_bar_12 (by decide) (fun c_12 => ?_) (fun c_12 => ?_)
    · have h := h.1 c_12
      refine ag_aload_n E1 dX7_bar_18 rfl 0 rfl ?_
      refine am_callVv E [] (kX7_looks _ _ _ _ _ _ _ _ _ _ _  _ h) (lw_V q1772 q1774 qs65 q107 q1775) hdX7_looks (Nat.le_of_ble_eq_true rfl) (Nat.le_of_ble_eq_true rfl) rfl (Nat.le_of_ble_eq_true rfl) dX7_bar_19 rfl (fun f_5 h => ?_)
      refine ag_aload_n E1 dX7_bar_22 rfl 0 rfl ?_
      refine ag_iload_n E1 dX7_bar_23 rfl 1 rfl ?_
      refine ag_iload_n E1 dX7_bar_24 rfl 2 rfl ?_
      refine am_callVv E [.int x1, .int x2] (kX7_laysNow _ _ _ _ _ _ _ _ _ _ _ _ _ _ h) (lw_V q1776 q1778 qs66 q107 q1779) hdX7_laysNow (Nat.le_of_ble_eq_true rfl) (Nat.le_of_ble_eq_true rfl) rfl (Nat.le_of_ble_eq_true rfl) dX7_bar_25 rfl (fun f_6 h => ?_)
      refine ag_aload_n E1 dX7_bar_28 rfl 0 rfl ?_
      refine am_callVi E [] (kX7_firstBar _ _ _ _ _ _ _ _ _ _ _  _ h) (lw_V q1780 q1782 qs67 q107 q1783) hdX7_firstBar (Nat.le_of_ble_eq_true rfl) (Nat.le_of_ble_eq_true rfl) rfl (Nat.le_of_ble_eq_true rfl) dX7_bar_29 rfl (fun r_8 f_7 h => ?_)
      exact am_iret E rfl ⟨_, rfl, h⟩ dX7_bar_32
    · have h := h.2 c_12
      refine ag_bipush E1 dX7_bar_15 kb_m5 ?_
      exact am_iret E rfl ⟨_, rfl, h⟩ dX7_bar_17
theorem hdX7_bar : yX7_bar.cls = RX7 ∧ yX7_bar.cls ≠ "java/lang/invoke/MethodHandle" ∧ yX7_bar.cls ≠ "java/lang/invoke/VarHandle" ∧ (parseMethodDescriptor yX7_bar.desc).map (fun d => d.parameters.length) = some 2 := by decide +kernel
theorem tbX7_lawful_54 (E : EM p R s m args meth c cX7_lawful 5 (some .int) D cs b H0 XK 4 95 z u) {Q : Int32 → St → Prop} {K27 : Int32 → Int32 → Int32 → Int32 → St → Prop} (hK27 : ∀ (x1 : Int32) (x2 : Int32) (x3 : Int32) (x4 : Int32) (f : St), K27 x1 x2 x3 x4 f → AM p l e R s m args below meth c D cs b 5 o Z z u (pI Q) 27 [(0, .ref o), (1, .int x1), (2, .int x2), (3, .int x3), (4, .int x4)] [] f) {x1 : Int32} {x2 : Int32} {x4 : Int32} {t0 : Int32} {t1 : Int32} {f : St} (h : wbX7_lawful_54 K27 Q x1 x2 x4 t0 t1 f) : AM p l e R s m args below meth c D cs b 5 o Z z u (pI Q) 54 [(0, .ref o), (1, .int x1), (2, .int x2), (4, .int x4)] [.int t0, .int t1] f := by
  have E1 := E.1
  refine ag_iadd E1 dX7_lawful_54 ?_
  refine ag_topi (fun x3_9 e_x3_9 => ?_)
  have h := h x3_9 e_x3_9
  refine ag_istore_n E1 (lv' := [(3, .int x3_9), (0, .ref o), (1, .int x1), (2, .int x2), (4, .int x4)]) dX7_lawful_55 rfl (Nat.lt_of_lt_of_le (Nat.le_refl _) (Nat.le_of_ble_eq_true rfl)) rfl ?_
  refine ag_iincN E1 (lv' := fun x4_10 => [(4, .int x4_10), (3, .int x3_9), (0, .ref o), (1, .int x1), (2, .int x2)]) dX7_lawful_56 4 rfl ki_1 (Nat.lt_of_lt_of_le (Nat.le_refl _) (Nat.le_of_ble_eq_true rfl)) (fun _ => rfl) (fun x4_10 e_x4_10 => ?_)
  have h := h x4_10 e_x4_10
  refine ag_goto E1 (tgt := 27) dX7_lawful_59 (by decide) ?_
  refine ag_sub (lv' := [(0, .ref o), (1, .int x1), (2, .int x2), (3, .int x3_9), (4, .int x4_10)]) [2, 3, 4, 1, 0] rfl ?_
  exact hK27 _ _ _ _ _ h
theorem tbX7_lawful_27 (E : EM p R s m args meth c cX7_lawful 5 (some .int) D cs b H0 XK 4 95 z u) {Q : Int32 → St → Prop} {K27 : Int32 → Int32 → Int32 → Int32 → St → Prop} (hK27 : ∀ (x1 : Int32) (x2 : Int32) (x3 : Int32) (x4 : Int32) (f : St), K27 x1 x2 x3 x4 f → AM p l e R s m args below meth c D cs b 5 o Z z u (pI Q) 27 [(0, .ref o), (1, .int x1), (2, .int x2), (3, .int x3), (4, .int x4)] [] f) {x1 : Int32} {x2 : Int32} {x3 : Int32} {x4 : Int32} {f : St} (h : wbX7_lawful_27 K27 Q x1 x2 x3 x4 f) : AM p l e R s m args below meth c D cs b 5 o Z z u (pI Q) 27 [(0, .ref o), (1, .int x1), (2, .int x2), (3, .int x3), (4, .int x4)] [] f := by
  have E1 := E.1
  refine ag_iload E1 dX7_lawful_27 4 rfl ?_
  refine ag_iload_n E1 dX7_lawful_29 rfl 2 rfl ?_
  refine ag_icmp_gt E1 (tgt := 62) dX7_lawful_30 (by decide) (fun c_30 => ?_) (fun c_30 => ?_)
  · have h := h.1 c_30
    refine ag_iload_n E1 dX7_lawful_62 rfl 3 rfl ?_
    exact am_iret E rfl ⟨_, rfl, h⟩ dX7_lawful_63
  · have h := h.2 c_30
    refine ag_aload_n E1 dX7_lawful_33 rfl 0 rfl ?_
    refine ag_iload_n E1 dX7_lawful_34 rfl 1 rfl ?_
    refine ag_iload E1 dX7_lawful_35 4 rfl ?_
    refine am_callVv E [.int x1, .int x4] (kX7_laysNow _ _ _ _ _ _ _ _ _ _ _ _ _ _ h) (lw_V q1776 q1778 qs66 q107 q1779) hdX7_laysNow (Nat.le_of_ble_eq_true rfl) (Nat.le_of_ble_eq_true rfl) rfl (Nat.le_of_ble_eq_true rfl) dX7_lawful_37 rfl (fun f_6 h => ?_)
    refine ag_iload_n E1 dX7_lawful_40 rfl 3 rfl ?_
    refine ag_aload_n E1 dX7_lawful_41 rfl 0 rfl ?_
    refine am_callVi E [] (kX7_firstBar _ _ _ _ _ _ _ _ _ _ _  _ h) (lw_V q1780 q1782 qs67 q107 q1783) hdX7_firstBar (Nat.le_of_ble_eq_true rfl) (Nat.le_of_ble_eq_true rfl) rfl (Nat.le_of_ble_eq_true rfl) dX7_lawful_42 rfl (fun r_8 f_7 h => ?_)
    refine ag_iconst E1 dX7_lawful_45 ki_m1 ?_
    refine ag_icmp_ne E1 (tgt := 53) dX7_lawful_46 (by decide) (fun c_46 => ?_) (fun c_46 => ?_)
    · have h := h.1 c_46
      refine ag_iconst E1 dX7_lawful_53 ki_0 ?_
      refine ag_sub (lv' := [(0, .ref o), (1, .int x1), (2, .int x2), (4, .int x4)]) [0, 1, 2, 4] rfl ?_
      exact tbX7_lawful_54 E hK27 h
    · have h := h.2 c_46
      refine ag_iconst E1 dX7_lawful_49 ki_1 ?_
      refine ag_goto E1 (tgt := 54) dX7_lawful_50 (by decide) ?_
      refine ag_sub (lv' := [(0, .ref o), (1, .int x1), (2, .int x2), (4, .int x4)]) [0, 1, 2, 4] rfl ?_
      exact tbX7_lawful_54 E hK27 h
theorem tlX7_lawful_27 (E : EM p R s m args meth c cX7_lawful 5 (some .int) D cs b H0 XK 4 95 z u) {Q : Int32 → St → Prop}  : ∀ (n : Nat) (x1 : Int32) (x2 : Int32) (x3 : Int32) (x4 : Int32) (f : St), wlX7_lawful_27  Q n x1 x2 x3 x4 f → AM p l e R s m args below meth c D cs b 5 o Z z u (pI Q) 27 [(0, .ref o), (1, .int x1), (2, .int x2), (3, .int x3), (4, .int x4)] [] f := by
  intro n
  induction n with
  | zero => intro _ _ _ _ _ h; exact h.elim
  | succ n ih => intro x1 x2 x3 x4 f h; exact tbX7_lawful_27 E ih h
theorem kX7_lawful (l : Launch) (D : va_G) (cs : Nat → ClassId) (b : Nat) (H0 : Heap) (XK : State → Prop) (o : Nat) (Z : cP) (z u : Nat) (f : St) (x1 : Int32) (x2 : Int32) (Q : Int32 → St → Prop) (h : wX7_lawful f x1 x2 Q) : CM l D cs b H0 XK o Z z u yX7_lawful cX7_lawful 5 (some .int) 4 95 [.ref o, .int x1, .int x2] f (pI Q) := by
  refine cm_of (by decide) rfl (Nat.le_of_ble_eq_true rfl) (fun p e R s m below meth c E => ?_)
  have E1 := E.1
  refine ag_sub (lv' := [(0, .ref o), (1, .int x1), (2, .int x2)]) [0, 1, 2] rfl ?_
  refine ag_aload_n E1 dX7_lawful_0 rfl 0 rfl ?_
  refine ag_iload_n E1 dX7_lawful_1 rfl 1 rfl ?_
  refine am_callVi E [.int x1] (kX7_isGiving _ _ _ _ _ _ _ _ _ _ _ _ _ h) (lw_V q1756 q1758 qs62 q107 q1759) hdX7_isGiving (Nat.le_of_ble_eq_true rfl) (Nat.le_of_ble_eq_true rfl) rfl (Nat.le_of_ble_eq_true rfl) dX7_lawful_2 rfl (fun r_2 f_1 h => ?_)
  refine ag_if_eq E1 (tgt := 15) dX7_lawful_5 (by decide) (fun c_5 => ?_) (fun c_5 => ?_)
  · have h := h.1 c_5
    refine ag_bipush E1 dX7_lawful_15 kb_m5 ?_
    exact am_iret E rfl ⟨_, rfl, h⟩ dX7_lawful_17
  · have h := h.2 c_5
    refine ag_iload_n E1 dX7_lawful_8 rfl 2 rfl ?_
    refine am_callSi E [.int x2] (kX7_isWeek _ _ _ _ _ _ _ _ _ _ _ _ _ h) (lw_S q1660 q1661 q107 q1662) hdX7_isWeek (Nat.le_of_ble_eq_true rfl) (Nat.le_of_ble_eq_true rfl) rfl (Nat.le_of_ble_eq_true rfl) dX7_lawful_9 rfl (fun r_4 f_3 h => ?_)
    refine ag_if_ne E1 (tgt := 18) dX7_lawful_12 (by decide) (fun c_12 => ?_) (fun c_12 => ?_)
    · have h := h.1 c_12
      refine ag_aload_n E1 dX7_lawful_18 rfl 0 rfl ?_
      refine am_callVv E [] (kX7_looks _ _ _ _ _ _ _ _ _ _ _  _ h) (lw_V q1772 q1774 qs65 q107 q1775) hdX7_looks (Nat.le_of_ble_eq_true rfl) (Nat.le_of_ble_eq_true rfl) rfl (Nat.le_of_ble_eq_true rfl) dX7_lawful_19 rfl (fun f_5 h => ?_)
      refine ag_iconst E1 dX7_lawful_22 ki_0 ?_
      refine ag_istore_n E1 (lv' := [(3, .int (0 : Int32)), (0, .ref o), (1, .int x1), (2, .int x2)]) dX7_lawful_23 rfl (Nat.lt_of_lt_of_le (Nat.le_refl _) (Nat.le_of_ble_eq_true rfl)) rfl ?_
      refine ag_iconst E1 dX7_lawful_24 ki_0 ?_
      refine ag_istore E1 (lv' := [(4, .int (0 : Int32)), (3, .int (0 : Int32)), (0, .ref o), (1, .int x1), (2, .int x2)]) dX7_lawful_25 (Nat.lt_of_lt_of_le (Nat.le_refl _) (Nat.le_of_ble_eq_true rfl)) rfl ?_
      refine ag_sub (lv' := [(0, .ref o), (1, .int x1), (2, .int x2), (3, .int (0 : Int32)), (4, .int (0 : Int32))]) [2, 3, 4, 1, 0] rfl ?_
      obtain ⟨n, h⟩ := h
      exact tlX7_lawful_27 E  n _ _ _ _ _ h
    · have h := h.2 c_12
      refine ag_bipush E1 dX7_lawful_15 kb_m5 ?_
      exact am_iret E rfl ⟨_, rfl, h⟩ dX7_lawful_17
theorem hdX7_lawful : yX7_lawful.cls = RX7 ∧ yX7_lawful.cls ≠ "java/lang/invoke/MethodHandle" ∧ yX7_lawful.cls ≠ "java/lang/invoke/VarHandle" ∧ (parseMethodDescriptor yX7_lawful.desc).map (fun d => d.parameters.length) = some 2 := by decide +kernel
theorem tbX7_worthNow_161 (E : EM p R s m args meth c cX7_worthNow 8 (some .int) D cs b H0 XK 3 71 z u) {Q : Int32 → St → Prop} {K4 : Int32 → Int32 → Int32 → St → Prop} (hK4 : ∀ (x1 : Int32) (x2 : Int32) (x3 : Int32) (f : St), K4 x1 x2 x3 f → AM p l e R s m args below meth c D cs b 8 o Z z u (pI Q) 4 [(0, .ref o), (1, .int x1), (2, .int x2), (3, .int x3)] [] f) {x1 : Int32} {x2 : Int32} {x3 : Int32} {f : St} (h : wbX7_worthNow_161 K4 Q x1 x2 x3 f) : AM p l e R s m args below meth c D cs b 8 o Z z u (pI Q) 161 [(0, .ref o), (1, .int x1), (2, .int x2), (3, .int x3)] [] f := by
  have E1 := E.1
  refine ag_iincN E1 (lv' := fun x3_1 => [(3, .int x3_1), (0, .ref o), (1, .int x1), (2, .int x2)]) dX7_worthNow_161 3 rfl ki_1 (Nat.lt_of_lt_of_le (Nat.le_refl _) (Nat.le_of_ble_eq_true rfl)) (fun _ => rfl) (fun x3_1 e_x3_1 => ?_)
  have h := h x3_1 e_x3_1
  refine ag_goto E1 (tgt := 4) dX7_worthNow_164 (by decide) ?_
  refine ag_sub (lv' := [(0, .ref o), (1, .int x1), (2, .int x2), (3, .int x3_1)]) [1, 2, 3, 0] rfl ?_
  exact hK4 _ _ _ _ h
theorem tbX7_worthNow_142 (E : EM p R s m args meth c cX7_worthNow 8 (some .int) D cs b H0 XK 3 71 z u) {Q : Int32 → St → Prop} {K36 : Int32 → Int32 → Int32 → Int32 → Int32 → Int32 → St → Prop} (hK36 : ∀ (x1 : Int32) (x2 : Int32) (x3 : Int32) (x4 : Int32) (x5 : Int32) (x6 : Int32) (f : St), K36 x1 x2 x3 x4 x5 x6 f → AM p l e R s m args below meth c D cs b 8 o Z z u (pI Q) 36 [(0, .ref o), (1, .int x1), (2, .int x2), (3, .int x3), (4, .int x4), (5, .int x5), (6, .int x6)] [] f) {K148 : Int32 → Int32 → Int32 → Int32 → Int32 → St → Prop} (hK148 : ∀ (x1 : Int32) (x2 : Int32) (x3 : Int32) (x4 : Int32) (x5 : Int32) (f : St), K148 x1 x2 x3 x4 x5 f → AM p l e R s m args below meth c D cs b 8 o Z z u (pI Q) 148 [(0, .ref o), (1, .int x1), (2, .int x2), (3, .int x3), (4, .int x4), (5, .int x5)] [] f) {x1 : Int32} {x2 : Int32} {x3 : Int32} {x4 : Int32} {x5 : Int32} {x6 : Int32} {f : St} (h : wbX7_worthNow_142 K36 K148 Q x1 x2 x3 x4 x5 x6 f) : AM p l e R s m args below meth c D cs b 8 o Z z u (pI Q) 142 [(0, .ref o), (1, .int x1), (2, .int x2), (3, .int x3), (4, .int x4), (5, .int x5), (6, .int x6)] [] f := by
  have E1 := E.1
  refine ag_iincN E1 (lv' := fun x6_2 => [(6, .int x6_2), (0, .ref o), (1, .int x1), (2, .int x2), (3, .int x3), (4, .int x4), (5, .int x5)]) dX7_worthNow_142 6 rfl ki_1 (Nat.lt_of_lt_of_le (Nat.le_refl _) (Nat.le_of_ble_eq_true rfl)) (fun _ => rfl) (fun x6_2 e_x6_2 => ?_)
  have h := h x6_2 e_x6_2
  refine ag_goto E1 (tgt := 36) dX7_worthNow_145 (by decide) ?_
  refine ag_sub (lv' := [(0, .ref o), (1, .int x1), (2, .int x2), (3, .int x3), (4, .int x4), (5, .int x5), (6, .int x6_2)]) [1, 2, 3, 4, 5, 6, 0] rfl ?_
  exact hK36 _ _ _ _ _ _ _ h
theorem tbX7_worthNow_124 (E : EM p R s m args meth c cX7_worthNow 8 (some .int) D cs b H0 XK 3 71 z u) {Q : Int32 → St → Prop} {K36 : Int32 → Int32 → Int32 → Int32 → Int32 → Int32 → St → Prop} (hK36 : ∀ (x1 : Int32) (x2 : Int32) (x3 : Int32) (x4 : Int32) (x5 : Int32) (x6 : Int32) (f : St), K36 x1 x2 x3 x4 x5 x6 f → AM p l e R s m args below meth c D cs b 8 o Z z u (pI Q) 36 [(0, .ref o), (1, .int x1), (2, .int x2), (3, .int x3), (4, .int x4), (5, .int x5), (6, .int x6)] [] f) {K148 : Int32 → Int32 → Int32 → Int32 → Int32 → St → Prop} (hK148 : ∀ (x1 : Int32) (x2 : Int32) (x3 : Int32) (x4 : Int32) (x5 : Int32) (f : St), K148 x1 x2 x3 x4 x5 f → AM p l e R s m args below meth c D cs b 8 o Z z u (pI Q) 148 [(0, .ref o), (1, .int x1), (2, .int x2), (3, .int x3), (4, .int x4), (5, .int x5)] [] f) {x1 : Int32} {x2 : Int32} {x3 : Int32} {x5 : Int32} {x6 : Int32} {t0 : Int32} {f : St} (h : wbX7_worthNow_124 K36 K148 Q x1 x2 x3 x5 x6 t0 f) : AM p l e R s m args below meth c D cs b 8 o Z z u (pI Q) 124 [(0, .ref o), (1, .int x1), (2, .int x2), (3, .int x3), (5, .int x5), (6, .int x6)] [.int t0] f := by
  have E1 := E.1
  refine ag_istore E1 (lv' := [(4, .int t0), (0, .ref o), (1, .int x1), (2, .int x2), (3, .int x3), (5, .int x5), (6, .int x6)]) dX7_worthNow_124 (Nat.lt_of_lt_of_le (Nat.le_refl _) (Nat.le_of_ble_eq_true rfl)) rfl ?_
  refine ag_iload E1 dX7_worthNow_126 5 rfl ?_
  refine ag_aload_n E1 dX7_worthNow_128 rfl 1 rfl ?_
  refine am_geta E 52 (i := 31) (by decide) (by decide) rfl q1502 dX7_worthNow_129 ?_
  refine ag_iload E1 dX7_worthNow_132 6 rfl ?_
  obtain ⟨hin, h⟩ := h
  refine am_iald E 52 rfl rfl rfl (by decide) hin dX7_worthNow_134 ?_
  refine ag_iload_n E1 dX7_worthNow_135 rfl 4 rfl ?_
  refine ag_ishr E1 dX7_worthNow_136 ?_
  refine ag_iconst E1 dX7_worthNow_137 ki_1 ?_
  refine ag_iand E1 dX7_worthNow_138 ?_
  refine ag_iadd E1 dX7_worthNow_139 ?_
  refine ag_topi (fun x5_3 e_x5_3 => ?_)
  have h := h x5_3 e_x5_3
  refine ag_istore E1 (lv' := [(5, .int x5_3), (4, .int t0), (0, .ref o), (1, .int x1), (2, .int x2), (3, .int x3), (6, .int x6)]) dX7_worthNow_140 (Nat.lt_of_lt_of_le (Nat.le_refl _) (Nat.le_of_ble_eq_true rfl)) rfl ?_
  refine ag_sub (lv' := [(0, .ref o), (1, .int x1), (2, .int x2), (3, .int x3), (4, .int t0), (5, .int x5_3), (6, .int x6)]) [2, 3, 4, 5, 1, 0, 6] rfl ?_
  exact tbX7_worthNow_142 E hK36 hK148 h
theorem tbX7_worthNow_122 (E : EM p R s m args meth c cX7_worthNow 8 (some .int) D cs b H0 XK 3 71 z u) {Q : Int32 → St → Prop} {K36 : Int32 → Int32 → Int32 → Int32 → Int32 → Int32 → St → Prop} (hK36 : ∀ (x1 : Int32) (x2 : Int32) (x3 : Int32) (x4 : Int32) (x5 : Int32) (x6 : Int32) (f : St), K36 x1 x2 x3 x4 x5 x6 f → AM p l e R s m args below meth c D cs b 8 o Z z u (pI Q) 36 [(0, .ref o), (1, .int x1), (2, .int x2), (3, .int x3), (4, .int x4), (5, .int x5), (6, .int x6)] [] f) {K148 : Int32 → Int32 → Int32 → Int32 → Int32 → St → Prop} (hK148 : ∀ (x1 : Int32) (x2 : Int32) (x3 : Int32) (x4 : Int32) (x5 : Int32) (f : St), K148 x1 x2 x3 x4 x5 f → AM p l e R s m args below meth c D cs b 8 o Z z u (pI Q) 148 [(0, .ref o), (1, .int x1), (2, .int x2), (3, .int x3), (4, .int x4), (5, .int x5)] [] f) {x1 : Int32} {x2 : Int32} {x3 : Int32} {x4 : Int32} {x5 : Int32} {x6 : Int32} {f : St} (h : wbX7_worthNow_122 K36 K148 Q x1 x2 x3 x4 x5 x6 f) : AM p l e R s m args below meth c D cs b 8 o Z z u (pI Q) 122 [(0, .ref o), (1, .int x1), (2, .int x2), (3, .int x3), (4, .int x4), (5, .int x5), (6, .int x6)] [] f := by
  have E1 := E.1
  refine ag_iload E1 dX7_worthNow_122 4 rfl ?_
  refine ag_sub (lv' := [(0, .ref o), (1, .int x1), (2, .int x2), (3, .int x3), (5, .int x5), (6, .int x6)]) [0, 1, 2, 3, 5, 6] rfl ?_
  exact tbX7_worthNow_124 E hK36 hK148 h
theorem tbX7_worthNow_83 (E : EM p R s m args meth c cX7_worthNow 8 (some .int) D cs b H0 XK 3 71 z u) {Q : Int32 → St → Prop} {K36 : Int32 → Int32 → Int32 → Int32 → Int32 → Int32 → St → Prop} (hK36 : ∀ (x1 : Int32) (x2 : Int32) (x3 : Int32) (x4 : Int32) (x5 : Int32) (x6 : Int32) (f : St), K36 x1 x2 x3 x4 x5 x6 f → AM p l e R s m args below meth c D cs b 8 o Z z u (pI Q) 36 [(0, .ref o), (1, .int x1), (2, .int x2), (3, .int x3), (4, .int x4), (5, .int x5), (6, .int x6)] [] f) {K148 : Int32 → Int32 → Int32 → Int32 → Int32 → St → Prop} (hK148 : ∀ (x1 : Int32) (x2 : Int32) (x3 : Int32) (x4 : Int32) (x5 : Int32) (f : St), K148 x1 x2 x3 x4 x5 f → AM p l e R s m args below meth c D cs b 8 o Z z u (pI Q) 148 [(0, .ref o), (1, .int x1), (2, .int x2), (3, .int x3), (4, .int x4), (5, .int x5)] [] f) {x1 : Int32} {x2 : Int32} {x3 : Int32} {x4 : Int32} {x5 : Int32} {x6 : Int32} {t0 : Int32} {f : St} (h : wbX7_worthNow_83 K36 K148 Q x1 x2 x3 x4 x5 x6 t0 f) : AM p l e R s m args below meth c D cs b 8 o Z z u (pI Q) 83 [(0, .ref o), (1, .int x1), (2, .int x2), (3, .int x3), (4, .int x4), (5, .int x5), (6, .int x6)] [.int t0] f := by
  have E1 := E.1
  refine ag_istore E1 (lv' := [(7, .int t0), (0, .ref o), (1, .int x1), (2, .int x2), (3, .int x3), (4, .int x4), (5, .int x5), (6, .int x6)]) dX7_worthNow_83 (Nat.lt_of_lt_of_le (Nat.le_refl _) (Nat.le_of_ble_eq_true rfl)) rfl ?_
  refine ag_iload E1 dX7_worthNow_85 0 rfl ?_
  refine ag_if_eq E1 (tgt := 122) dX7_worthNow_87 (by decide) (fun c_87 => ?_) (fun c_87 => ?_)
  · have h := h.1 c_87
    refine ag_sub (lv' := [(0, .ref o), (1, .int x1), (2, .int x2), (3, .int x3), (4, .int x4), (5, .int x5), (6, .int x6)]) [1, 2, 3, 4, 5, 6, 7] rfl ?_
    exact tbX7_worthNow_122 E hK36 hK148 h
  · have h := h.2 c_87
    refine ag_aload_n E1 dX7_worthNow_90 rfl 1 rfl ?_
    refine am_geta E 39 (i := 25) (by decide) (by decide) rfl q1489 dX7_worthNow_91 ?_
    refine ag_bipush E1 dX7_worthNow_94 kb_6 ?_
    refine ag_iload_n E1 dX7_worthNow_96 rfl 2 rfl ?_
    refine ag_imul E1 dX7_worthNow_97 ?_
    refine ag_iload E1 dX7_worthNow_98 7 rfl ?_
    refine ag_iadd E1 dX7_worthNow_100 ?_
    obtain ⟨hin, h⟩ := h
    refine am_iald E 39 rfl rfl rfl (by decide) hin dX7_worthNow_101 ?_
    refine ag_iload E1 dX7_worthNow_102 5 rfl ?_
    refine ag_icmp_ge E1 (tgt := 122) dX7_worthNow_104 (by decide) (fun c_104 => ?_) (fun c_104 => ?_)
    · have h := h.1 c_104
      refine ag_sub (lv' := [(0, .ref o), (1, .int x1), (2, .int x2), (3, .int x3), (4, .int x4), (5, .int x5), (6, .int x6)]) [1, 2, 3, 4, 5, 6, 7] rfl ?_
      exact tbX7_worthNow_122 E hK36 hK148 h
    · have h := h.2 c_104
      refine ag_aload_n E1 dX7_worthNow_107 rfl 1 rfl ?_
      refine am_geta E 39 (i := 25) (by decide) (by decide) rfl q1489 dX7_worthNow_108 ?_
      refine ag_bipush E1 dX7_worthNow_111 kb_6 ?_
      refine ag_iload_n E1 dX7_worthNow_113 rfl 2 rfl ?_
      refine ag_imul E1 dX7_worthNow_114 ?_
      refine ag_iload E1 dX7_worthNow_115 7 rfl ?_
      refine ag_iadd E1 dX7_worthNow_117 ?_
      obtain ⟨hin, h⟩ := h
      refine am_iald E 39 rfl rfl rfl (by decide) hin dX7_worthNow_118 ?_
      refine ag_goto E1 (tgt := 124) dX7_worthNow_119 (by decide) ?_
      refine ag_sub (lv' := [(0, .ref o), (1, .int x1), (2, .int x2), (3, .int x3), (5, .int x5), (6, .int x6)]) [1, 2, 3, 4, 6, 7] rfl ?_
      exact tbX7_worthNow_124 E hK36 hK148 h
theorem tbX7_worthNow_36 (E : EM p R s m args meth c cX7_worthNow 8 (some .int) D cs b H0 XK 3 71 z u) {Q : Int32 → St → Prop} {K36 : Int32 → Int32 → Int32 → Int32 → Int32 → Int32 → St → Prop} (hK36 : ∀ (x1 : Int32) (x2 : Int32) (x3 : Int32) (x4 : Int32) (x5 : Int32) (x6 : Int32) (f : St), K36 x1 x2 x3 x4 x5 x6 f → AM p l e R s m args below meth c D cs b 8 o Z z u (pI Q) 36 [(0, .ref o), (1, .int x1), (2, .int x2), (3, .int x3), (4, .int x4), (5, .int x5), (6, .int x6)] [] f) {K148 : Int32 → Int32 → Int32 → Int32 → Int32 → St → Prop} (hK148 : ∀ (x1 : Int32) (x2 : Int32) (x3 : Int32) (x4 : Int32) (x5 : Int32) (f : St), K148 x1 x2 x3 x4 x5 f → AM p l e R s m args below meth c D cs b 8 o Z z u (pI Q) 148 [(0, .ref o), (1, .int x1), (2, .int x2), (3, .int x3), (4, .int x4), (5, .int x5)] [] f) {x1 : Int32} {x2 : Int32} {x3 : Int32} {x4 : Int32} {x5 : Int32} {x6 : Int32} {f : St} (h : wbX7_worthNow_36 K36 K148 Q x1 x2 x3 x4 x5 x6 f) : AM p l e R s m args below meth c D cs b 8 o Z z u (pI Q) 36 [(0, .ref o), (1, .int x1), (2, .int x2), (3, .int x3), (4, .int x4), (5, .int x5), (6, .int x6)] [] f := by
  have E1 := E.1
  refine ag_iload E1 dX7_worthNow_36 6 rfl ?_
  refine ag_aload_n E1 dX7_worthNow_38 rfl 0 rfl ?_
  refine am_geti E 0 (by decide) rfl q1450 dX7_worthNow_39 ?_
  refine ag_icmp_ge E1 (tgt := 148) dX7_worthNow_42 (by decide) (fun c_42 => ?_) (fun c_42 => ?_)
  · have h := h.1 c_42
    refine ag_sub (lv' := [(0, .ref o), (1, .int x1), (2, .int x2), (3, .int x3), (4, .int x4), (5, .int x5)]) [0, 1, 2, 3, 4, 5] rfl ?_
    exact hK148 _ _ _ _ _ _ h
  · have h := h.2 c_42
    refine ag_iload E1 dX7_worthNow_45 6 rfl ?_
    refine ag_iload_n E1 dX7_worthNow_47 rfl 1 rfl ?_
    refine ag_icmp_eq E1 (tgt := 142) dX7_worthNow_48 (by decide) (fun c_48 => ?_) (fun c_48 => ?_)
    · have h := h.1 c_48
      exact tbX7_worthNow_142 E hK36 hK148 h
    · have h := h.2 c_48
      refine ag_aload_n E1 dX7_worthNow_51 rfl 0 rfl ?_
      refine am_geta E 52 (i := 31) (by decide) (by decide) rfl q1502 dX7_worthNow_52 ?_
      refine ag_iload E1 dX7_worthNow_55 6 rfl ?_
      obtain ⟨hin, h⟩ := h
      refine am_iald E 52 rfl rfl rfl (by decide) hin dX7_worthNow_57 ?_
      refine ag_iload_n E1 dX7_worthNow_58 rfl 3 rfl ?_
      refine ag_aload_n E1 dX7_worthNow_59 rfl 0 rfl ?_
      refine am_geti E 6 (by decide) rfl q1456 dX7_worthNow_60 ?_
      refine ag_iadd E1 dX7_worthNow_63 ?_
      refine ag_iconst E1 dX7_worthNow_64 ki_1 ?_
      refine ag_isub E1 dX7_worthNow_65 ?_
      refine ag_aload_n E1 dX7_worthNow_66 rfl 0 rfl ?_
      refine am_geti E 6 (by decide) rfl q1456 dX7_worthNow_67 ?_
      obtain ⟨hne, h⟩ := h
      refine ag_irem E1 dX7_worthNow_70 hne ?_
      refine ag_ishr E1 dX7_worthNow_71 ?_
      refine ag_iconst E1 dX7_worthNow_72 ki_1 ?_
      refine ag_iand E1 dX7_worthNow_73 ?_
      refine ag_iconst E1 dX7_worthNow_74 ki_1 ?_
      refine ag_icmp_ne E1 (tgt := 82) dX7_worthNow_75 (by decide) (fun c_75 => ?_) (fun c_75 => ?_)
      · have h := h.1 c_75
        refine ag_iconst E1 dX7_worthNow_82 ki_0 ?_
        exact tbX7_worthNow_83 E hK36 hK148 h
      · have h := h.2 c_75
        refine ag_iconst E1 dX7_worthNow_78 ki_1 ?_
        refine ag_goto E1 (tgt := 83) dX7_worthNow_79 (by decide) ?_
        exact tbX7_worthNow_83 E hK36 hK148 h
theorem tlX7_worthNow_36 (E : EM p R s m args meth c cX7_worthNow 8 (some .int) D cs b H0 XK 3 71 z u) {Q : Int32 → St → Prop} {K148 : Int32 → Int32 → Int32 → Int32 → Int32 → St → Prop} (hK148 : ∀ (x1 : Int32) (x2 : Int32) (x3 : Int32) (x4 : Int32) (x5 : Int32) (f : St), K148 x1 x2 x3 x4 x5 f → AM p l e R s m args below meth c D cs b 8 o Z z u (pI Q) 148 [(0, .ref o), (1, .int x1), (2, .int x2), (3, .int x3), (4, .int x4), (5, .int x5)] [] f) : ∀ (n : Nat) (x1 : Int32) (x2 : Int32) (x3 : Int32) (x4 : Int32) (x5 : Int32) (x6 : Int32) (f : St), wlX7_worthNow_36 K148 Q n x1 x2 x3 x4 x5 x6 f → AM p l e R s m args below meth c D cs b 8 o Z z u (pI Q) 36 [(0, .ref o), (1, .int x1), (2, .int x2), (3, .int x3), (4, .int x4), (5, .int x5), (6, .int x6)] [] f := by
  intro n
  induction n with
  | zero => intro _ _ _ _ _ _ _ h; exact h.elim
  | succ n ih => intro x1 x2 x3 x4 x5 x6 f h; exact tbX7_worthNow_36 E ih hK148 h
theorem tbX7_worthNow_4 (E : EM p R s m args meth c cX7_worthNow 8 (some .int) D cs b H0 XK 3 71 z u) {Q : Int32 → St → Prop} {K4 : Int32 → Int32 → Int32 → St → Prop} (hK4 : ∀ (x1 : Int32) (x2 : Int32) (x3 : Int32) (f : St), K4 x1 x2 x3 f → AM p l e R s m args below meth c D cs b 8 o Z z u (pI Q) 4 [(0, .ref o), (1, .int x1), (2, .int x2), (3, .int x3)] [] f) {x1 : Int32} {x2 : Int32} {x3 : Int32} {f : St} (h : wbX7_worthNow_4 K4 Q x1 x2 x3 f) : AM p l e R s m args below meth c D cs b 8 o Z z u (pI Q) 4 [(0, .ref o), (1, .int x1), (2, .int x2), (3, .int x3)] [] f := by
  have E1 := E.1
  refine ag_iload_n E1 dX7_worthNow_4 rfl 3 rfl ?_
  refine ag_aload_n E1 dX7_worthNow_5 rfl 0 rfl ?_
  refine am_geti E 6 (by decide) rfl q1456 dX7_worthNow_6 ?_
  refine ag_icmp_ge E1 (tgt := 167) dX7_worthNow_9 (by decide) (fun c_9 => ?_) (fun c_9 => ?_)
  · have h := h.1 c_9
    refine ag_iload_n E1 dX7_worthNow_167 rfl 2 rfl ?_
    exact am_iret E rfl ⟨_, rfl, h⟩ dX7_worthNow_168
  · have h := h.2 c_9
    refine ag_aload_n E1 dX7_worthNow_12 rfl 0 rfl ?_
    refine am_geta E 52 (i := 31) (by decide) (by decide) rfl q1502 dX7_worthNow_13 ?_
    refine ag_iload_n E1 dX7_worthNow_16 rfl 1 rfl ?_
    obtain ⟨hin, h⟩ := h
    refine am_iald E 52 rfl rfl rfl (by decide) hin dX7_worthNow_17 ?_
    refine ag_iload_n E1 dX7_worthNow_18 rfl 3 rfl ?_
    refine ag_ishr E1 dX7_worthNow_19 ?_
    refine ag_iconst E1 dX7_worthNow_20 ki_1 ?_
    refine ag_iand E1 dX7_worthNow_21 ?_
    refine ag_iconst E1 dX7_worthNow_22 ki_1 ?_
    refine ag_icmp_ne E1 (tgt := 161) dX7_worthNow_23 (by decide) (fun c_23 => ?_) (fun c_23 => ?_)
    · have h := h.1 c_23
      exact tbX7_worthNow_161 E hK4 h
    · have h := h.2 c_23
      refine ag_bipush E1 dX7_worthNow_26 kb_99 ?_
      refine ag_istore E1 (lv' := [(4, .int (99 : Int32)), (0, .ref o), (1, .int x1), (2, .int x2), (3, .int x3)]) dX7_worthNow_28 (Nat.lt_of_lt_of_le (Nat.le_refl _) (Nat.le_of_ble_eq_true rfl)) rfl ?_
      refine ag_iconst E1 dX7_worthNow_30 ki_0 ?_
      refine ag_istore E1 (lv' := [(5, .int (0 : Int32)), (4, .int (99 : Int32)), (0, .ref o), (1, .int x1), (2, .int x2), (3, .int x3)]) dX7_worthNow_31 (Nat.lt_of_lt_of_le (Nat.le_refl _) (Nat.le_of_ble_eq_true rfl)) rfl ?_
      refine ag_iconst E1 dX7_worthNow_33 ki_0 ?_
      refine ag_istore E1 (lv' := [(6, .int (0 : Int32)), (5, .int (0 : Int32)), (4, .int (99 : Int32)), (0, .ref o), (1, .int x1), (2, .int x2), (3, .int x3)]) dX7_worthNow_34 (Nat.lt_of_lt_of_le (Nat.le_refl _) (Nat.le_of_ble_eq_true rfl)) rfl ?_
      refine ag_sub (lv' := [(0, .ref o), (1, .int x1), (2, .int x2), (3, .int x3), (4, .int (99 : Int32)), (5, .int (0 : Int32)), (6, .int (0 : Int32))]) [3, 4, 5, 6, 2, 1, 0] rfl ?_
      obtain ⟨n, h⟩ := h
      refine tlX7_worthNow_36 E ?_ n _ _ _ _ _ _ _ h
      · intro x1 x2 x3 x4 x5 f h
        refine ag_iload_n E1 dX7_worthNow_148 rfl 2 rfl ?_
        refine ag_aload_n E1 dX7_worthNow_149 rfl 0 rfl ?_
        refine ag_iload_n E1 dX7_worthNow_150 rfl 1 rfl ?_
        refine ag_iload_n E1 dX7_worthNow_151 rfl 3 rfl ?_
        refine ag_iload E1 dX7_worthNow_152 4 rfl ?_
        refine ag_iload E1 dX7_worthNow_154 5 rfl ?_
        refine am_callVi E [.int x1, .int x3, .int x4, .int x5] (kX7_worthBy _ _ _ _ _ _ _ _ _ _ _ _ _ _ _ _ h) (lw_V q1740 q1742 qs60 q107 q1743) hdX7_worthBy (Nat.le_of_ble_eq_true rfl) (Nat.le_of_ble_eq_true rfl) rfl (Nat.le_of_ble_eq_true rfl) dX7_worthNow_156 rfl (fun r_5 f_4 h => ?_)
        refine ag_iadd E1 dX7_worthNow_159 ?_
        refine ag_topi (fun x2_6 e_x2_6 => ?_)
        have h := h x2_6 e_x2_6
        refine ag_istore_n E1 (lv' := [(2, .int x2_6), (0, .ref o), (1, .int x1), (3, .int x3), (4, .int x4), (5, .int x5)]) dX7_worthNow_160 rfl (Nat.lt_of_lt_of_le (Nat.le_refl _) (Nat.le_of_ble_eq_true rfl)) rfl ?_
        refine ag_sub (lv' := [(0, .ref o), (1, .int x1), (2, .int x2_6), (3, .int x3)]) [1, 2, 0, 3] rfl ?_
        exact tbX7_worthNow_161 E hK4 h
theorem tlX7_worthNow_4 (E : EM p R s m args meth c cX7_worthNow 8 (some .int) D cs b H0 XK 3 71 z u) {Q : Int32 → St → Prop}  : ∀ (n : Nat) (x1 : Int32) (x2 : Int32) (x3 : Int32) (f : St), wlX7_worthNow_4  Q n x1 x2 x3 f → AM p l e R s m args below meth c D cs b 8 o Z z u (pI Q) 4 [(0, .ref o), (1, .int x1), (2, .int x2), (3, .int x3)] [] f := by
  intro n
  induction n with
  | zero => intro _ _ _ _ h; exact h.elim
  | succ n ih => intro x1 x2 x3 f h; exact tbX7_worthNow_4 E ih h
theorem kX7_worthNow (l : Launch) (D : va_G) (cs : Nat → ClassId) (b : Nat) (H0 : Heap) (XK : State → Prop) (o : Nat) (Z : cP) (z u : Nat) (f : St) (x1 : Int32) (Q : Int32 → St → Prop) (h : wX7_worthNow f x1 Q) : CM l D cs b H0 XK o Z z u yX7_worthNow cX7_worthNow 8 (some .int) 3 71 [.ref o, .int x1] f (pI Q) := by
  refine cm_of (by decide) rfl (Nat.le_of_ble_eq_true rfl) (fun p e R s m below meth c E => ?_)
  have E1 := E.1
  refine ag_sub (lv' := [(0, .ref o), (1, .int x1)]) [0, 1] rfl ?_
  refine ag_iconst E1 dX7_worthNow_0 ki_0 ?_
  refine ag_istore_n E1 (lv' := [(2, .int (0 : Int32)), (0, .ref o), (1, .int x1)]) dX7_worthNow_1 rfl (Nat.lt_of_lt_of_le (Nat.le_refl _) (Nat.le_of_ble_eq_true rfl)) rfl ?_
  refine ag_iconst E1 dX7_worthNow_2 ki_0 ?_
  refine ag_istore_n E1 (lv' := [(3, .int (0 : Int32)), (2, .int (0 : Int32)), (0, .ref o), (1, .int x1)]) dX7_worthNow_3 rfl (Nat.lt_of_lt_of_le (Nat.le_refl _) (Nat.le_of_ble_eq_true rfl)) rfl ?_
  refine ag_sub (lv' := [(0, .ref o), (1, .int x1), (2, .int (0 : Int32)), (3, .int (0 : Int32))]) [2, 3, 1, 0] rfl ?_
  obtain ⟨n, h⟩ := h
  exact tlX7_worthNow_4 E  n _ _ _ _ h
theorem hdX7_worthNow : yX7_worthNow.cls = RX7 ∧ yX7_worthNow.cls ≠ "java/lang/invoke/MethodHandle" ∧ yX7_worthNow.cls ≠ "java/lang/invoke/VarHandle" ∧ (parseMethodDescriptor yX7_worthNow.desc).map (fun d => d.parameters.length) = some 1 := by decide +kernel
theorem tbX7_worthIn_50 (E : EM p R s m args meth c cX7_worthIn 4 (some .int) D cs b H0 XK 4 98 z u) {Q : Int32 → St → Prop}  {x3 : Int32} {f : St} (h : wbX7_worthIn_50  Q x3 f) : AM p l e R s m args below meth c D cs b 4 o Z z u (pI Q) 50 [(3, .int x3)] [] f := by
  have E1 := E.1
  refine ag_iload_n E1 dX7_worthIn_50 rfl 0 rfl ?_
  refine ag_iconst E1 dX7_worthIn_51 ki_2 ?_
  refine ag_isub E1 dX7_worthIn_52 ?_
  refine ag_goto E1 (tgt := 68) dX7_worthIn_53 (by decide) ?_
  exact am_iret E rfl ⟨_, rfl, h⟩ dX7_worthIn_68
theorem tbX7_worthIn_28 (E : EM p R s m args meth c cX7_worthIn 4 (some .int) D cs b H0 XK 4 98 z u) {Q : Int32 → St → Prop}  {x1 : Int32} {t0 : Int32} {f : St} (h : wbX7_worthIn_28  Q x1 t0 f) : AM p l e R s m args below meth c D cs b 4 o Z z u (pI Q) 28 [(1, .int x1)] [.int t0] f := by
  have E1 := E.1
  refine ag_istore_n E1 (lv' := [(3, .int t0), (1, .int x1)]) dX7_worthIn_28 rfl (Nat.lt_of_lt_of_le (Nat.le_refl _) (Nat.le_of_ble_eq_true rfl)) rfl ?_
  refine ag_iload_n E1 dX7_worthIn_29 rfl 1 rfl ?_
  refine ag_iconst E1 dX7_worthIn_30 ki_2 ?_
  refine ag_icmp_ne E1 (tgt := 40) dX7_worthIn_31 (by decide) (fun c_31 => ?_) (fun c_31 => ?_)
  · have h := h.1 c_31
    refine ag_iload_n E1 dX7_worthIn_40 rfl 1 rfl ?_
    refine ag_iconst E1 dX7_worthIn_41 ki_3 ?_
    refine ag_icmp_eq E1 (tgt := 50) dX7_worthIn_42 (by decide) (fun c_42 => ?_) (fun c_42 => ?_)
    · have h := h.1 c_42
      refine ag_sub (lv' := [(3, .int t0)]) [0] rfl ?_
      exact tbX7_worthIn_50 E  h
    · have h := h.2 c_42
      refine ag_iload_n E1 dX7_worthIn_45 rfl 1 rfl ?_
      refine ag_iconst E1 dX7_worthIn_46 ki_4 ?_
      refine ag_icmp_ne E1 (tgt := 56) dX7_worthIn_47 (by decide) (fun c_47 => ?_) (fun c_47 => ?_)
      · have h := h.1 c_47
        refine ag_iload_n E1 dX7_worthIn_56 rfl 1 rfl ?_
        refine ag_iconst E1 dX7_worthIn_57 ki_5 ?_
        refine ag_icmp_ne E1 (tgt := 67) dX7_worthIn_58 (by decide) (fun c_58 => ?_) (fun c_58 => ?_)
        · have h := h.1 c_58
          refine ag_iload_n E1 dX7_worthIn_67 rfl 0 rfl ?_
          exact am_iret E rfl ⟨_, rfl, h⟩ dX7_worthIn_68
        · have h := h.2 c_58
          refine ag_iload_n E1 dX7_worthIn_61 rfl 0 rfl ?_
          refine ag_iconst E1 dX7_worthIn_62 ki_1 ?_
          refine ag_iadd E1 dX7_worthIn_63 ?_
          refine ag_goto E1 (tgt := 68) dX7_worthIn_64 (by decide) ?_
          exact am_iret E rfl ⟨_, rfl, h⟩ dX7_worthIn_68
      · have h := h.2 c_47
        refine ag_sub (lv' := [(3, .int t0)]) [0] rfl ?_
        exact tbX7_worthIn_50 E  h
  · have h := h.2 c_31
    refine ag_iload_n E1 dX7_worthIn_34 rfl 0 rfl ?_
    refine ag_iconst E1 dX7_worthIn_35 ki_2 ?_
    refine ag_idiv E1 dX7_worthIn_36 (by decide) ?_
    refine ag_goto E1 (tgt := 68) dX7_worthIn_37 (by decide) ?_
    exact am_iret E rfl ⟨_, rfl, h⟩ dX7_worthIn_68
theorem tbX7_worthIn_23 (E : EM p R s m args meth c cX7_worthIn 4 (some .int) D cs b H0 XK 4 98 z u) {Q : Int32 → St → Prop}  {x1 : Int32} {x2 : Int32} {f : St} (h : wbX7_worthIn_23  Q x1 x2 f) : AM p l e R s m args below meth c D cs b 4 o Z z u (pI Q) 23 [(0, .ref o), (1, .int x1), (2, .int x2)] [] f := by
  have E1 := E.1
  refine ag_aload_n E1 dX7_worthIn_23 rfl 0 rfl ?_
  refine ag_iload_n E1 dX7_worthIn_24 rfl 2 rfl ?_
  refine am_callVi E [.int x2] (kX7_worthNow _ _ _ _ _ _ _ _ _ _ _ _ _ h) (lw_V q1808 q1810 qs72 q107 q1811) hdX7_worthNow (Nat.le_of_ble_eq_true rfl) (Nat.le_of_ble_eq_true rfl) rfl (Nat.le_of_ble_eq_true rfl) dX7_worthIn_25 rfl (fun r_2 f_1 h => ?_)
  refine ag_sub (lv' := [(1, .int x1)]) [1] rfl ?_
  exact tbX7_worthIn_28 E  h
theorem tbX7_worthIn_19 (E : EM p R s m args meth c cX7_worthIn 4 (some .int) D cs b H0 XK 4 98 z u) {Q : Int32 → St → Prop}  {x1 : Int32} {f : St} (h : wbX7_worthIn_19  Q x1 f) : AM p l e R s m args below meth c D cs b 4 o Z z u (pI Q) 19 [(1, .int x1)] [] f := by
  have E1 := E.1
  refine ag_iconst E1 dX7_worthIn_19 ki_m1 ?_
  refine ag_goto E1 (tgt := 28) dX7_worthIn_20 (by decide) ?_
  exact tbX7_worthIn_28 E  h
theorem kX7_worthIn (l : Launch) (D : va_G) (cs : Nat → ClassId) (b : Nat) (H0 : Heap) (XK : State → Prop) (o : Nat) (Z : cP) (z u : Nat) (f : St) (x1 : Int32) (x2 : Int32) (Q : Int32 → St → Prop) (h : wX7_worthIn f x1 x2 Q) : CM l D cs b H0 XK o Z z u yX7_worthIn cX7_worthIn 4 (some .int) 4 98 [.ref o, .int x1, .int x2] f (pI Q) := by
  refine cm_of (by decide) rfl (Nat.le_of_ble_eq_true rfl) (fun p e R s m below meth c E => ?_)
  have E1 := E.1
  refine ag_sub (lv' := [(0, .ref o), (1, .int x1), (2, .int x2)]) [0, 1, 2] rfl ?_
  refine ag_aload_n E1 dX7_worthIn_0 rfl 0 rfl ?_
  refine am_geta E 52 (i := 31) (by decide) (by decide) rfl q1502 dX7_worthIn_1 ?_
  refine ag_iload_n E1 dX7_worthIn_4 rfl 2 rfl ?_
  obtain ⟨hin, h⟩ := h
  refine am_iald E 52 rfl rfl rfl (by decide) hin dX7_worthIn_5 ?_
  refine ag_if_ne E1 (tgt := 23) dX7_worthIn_6 (by decide) (fun c_6 => ?_) (fun c_6 => ?_)
  · have h := h.1 c_6
    exact tbX7_worthIn_23 E  h
  · have h := h.2 c_6
    refine ag_iload_n E1 dX7_worthIn_9 rfl 1 rfl ?_
    refine ag_iconst E1 dX7_worthIn_10 ki_1 ?_
    refine ag_icmp_eq E1 (tgt := 19) dX7_worthIn_11 (by decide) (fun c_11 => ?_) (fun c_11 => ?_)
    · have h := h.1 c_11
      refine ag_sub (lv' := [(1, .int x1)]) [1] rfl ?_
      exact tbX7_worthIn_19 E  h
    · have h := h.2 c_11
      refine ag_iload_n E1 dX7_worthIn_14 rfl 1 rfl ?_
      refine ag_iconst E1 dX7_worthIn_15 ki_5 ?_
      refine ag_icmp_ne E1 (tgt := 23) dX7_worthIn_16 (by decide) (fun c_16 => ?_) (fun c_16 => ?_)
      · have h := h.1 c_16
        exact tbX7_worthIn_23 E  h
      · have h := h.2 c_16
        refine ag_sub (lv' := [(1, .int x1)]) [1] rfl ?_
        exact tbX7_worthIn_19 E  h
theorem hdX7_worthIn : yX7_worthIn.cls = RX7 ∧ yX7_worthIn.cls ≠ "java/lang/invoke/MethodHandle" ∧ yX7_worthIn.cls ≠ "java/lang/invoke/VarHandle" ∧ (parseMethodDescriptor yX7_worthIn.desc).map (fun d => d.parameters.length) = some 2 := by decide +kernel
theorem tbX7_worthAll_32 (E : EM p R s m args meth c cX7_worthAll 5 (some .int) D cs b H0 XK 5 121 z u) {Q : Int32 → St → Prop} {K5 : Int32 → Int32 → Int32 → Int32 → St → Prop} (hK5 : ∀ (x1 : Int32) (x2 : Int32) (x3 : Int32) (x4 : Int32) (f : St), K5 x1 x2 x3 x4 f → AM p l e R s m args below meth c D cs b 5 o Z z u (pI Q) 5 [(0, .ref o), (1, .int x1), (2, .int x2), (3, .int x3), (4, .int x4)] [] f) {x1 : Int32} {x2 : Int32} {x4 : Int32} {t0 : Int32} {t1 : Int32} {f : St} (h : wbX7_worthAll_32 K5 Q x1 x2 x4 t0 t1 f) : AM p l e R s m args below meth c D cs b 5 o Z z u (pI Q) 32 [(0, .ref o), (1, .int x1), (2, .int x2), (4, .int x4)] [.int t0, .int t1] f := by
  have E1 := E.1
  refine ag_iadd E1 dX7_worthAll_32 ?_
  refine ag_topi (fun x3_3 e_x3_3 => ?_)
  have h := h x3_3 e_x3_3
  refine ag_istore_n E1 (lv' := [(3, .int x3_3), (0, .ref o), (1, .int x1), (2, .int x2), (4, .int x4)]) dX7_worthAll_33 rfl (Nat.lt_of_lt_of_le (Nat.le_refl _) (Nat.le_of_ble_eq_true rfl)) rfl ?_
  refine ag_iincN E1 (lv' := fun x4_4 => [(4, .int x4_4), (3, .int x3_3), (0, .ref o), (1, .int x1), (2, .int x2)]) dX7_worthAll_34 4 rfl ki_1 (Nat.lt_of_lt_of_le (Nat.le_refl _) (Nat.le_of_ble_eq_true rfl)) (fun _ => rfl) (fun x4_4 e_x4_4 => ?_)
  have h := h x4_4 e_x4_4
  refine ag_goto E1 (tgt := 5) dX7_worthAll_37 (by decide) ?_
  refine ag_sub (lv' := [(0, .ref o), (1, .int x1), (2, .int x2), (3, .int x3_3), (4, .int x4_4)]) [2, 3, 4, 1, 0] rfl ?_
  exact hK5 _ _ _ _ _ h
theorem tbX7_worthAll_5 (E : EM p R s m args meth c cX7_worthAll 5 (some .int) D cs b H0 XK 5 121 z u) {Q : Int32 → St → Prop} {K5 : Int32 → Int32 → Int32 → Int32 → St → Prop} (hK5 : ∀ (x1 : Int32) (x2 : Int32) (x3 : Int32) (x4 : Int32) (f : St), K5 x1 x2 x3 x4 f → AM p l e R s m args below meth c D cs b 5 o Z z u (pI Q) 5 [(0, .ref o), (1, .int x1), (2, .int x2), (3, .int x3), (4, .int x4)] [] f) {x1 : Int32} {x2 : Int32} {x3 : Int32} {x4 : Int32} {f : St} (h : wbX7_worthAll_5 K5 Q x1 x2 x3 x4 f) : AM p l e R s m args below meth c D cs b 5 o Z z u (pI Q) 5 [(0, .ref o), (1, .int x1), (2, .int x2), (3, .int x3), (4, .int x4)] [] f := by
  have E1 := E.1
  refine ag_iload E1 dX7_worthAll_5 4 rfl ?_
  refine ag_aload_n E1 dX7_worthAll_7 rfl 0 rfl ?_
  refine am_geti E 0 (by decide) rfl q1450 dX7_worthAll_8 ?_
  refine ag_icmp_ge E1 (tgt := 40) dX7_worthAll_11 (by decide) (fun c_11 => ?_) (fun c_11 => ?_)
  · have h := h.1 c_11
    refine ag_iload_n E1 dX7_worthAll_40 rfl 3 rfl ?_
    exact am_iret E rfl ⟨_, rfl, h⟩ dX7_worthAll_41
  · have h := h.2 c_11
    refine ag_iload_n E1 dX7_worthAll_14 rfl 3 rfl ?_
    refine ag_iload E1 dX7_worthAll_15 4 rfl ?_
    refine ag_iload_n E1 dX7_worthAll_17 rfl 2 rfl ?_
    refine ag_icmp_ne E1 (tgt := 25) dX7_worthAll_18 (by decide) (fun c_18 => ?_) (fun c_18 => ?_)
    · have h := h.1 c_18
      refine ag_aload_n E1 dX7_worthAll_25 rfl 0 rfl ?_
      refine ag_iload_n E1 dX7_worthAll_26 rfl 1 rfl ?_
      refine ag_iload E1 dX7_worthAll_27 4 rfl ?_
      refine am_callVi E [.int x1, .int x4] (kX7_worthIn _ _ _ _ _ _ _ _ _ _ _ _ _ _ h) (lw_V q1804 q1806 qs71 q107 q1807) hdX7_worthIn (Nat.le_of_ble_eq_true rfl) (Nat.le_of_ble_eq_true rfl) rfl (Nat.le_of_ble_eq_true rfl) dX7_worthAll_29 rfl (fun r_2 f_1 h => ?_)
      refine ag_sub (lv' := [(0, .ref o), (1, .int x1), (2, .int x2), (4, .int x4)]) [0, 1, 2, 4] rfl ?_
      exact tbX7_worthAll_32 E hK5 h
    · have h := h.2 c_18
      refine ag_iconst E1 dX7_worthAll_21 ki_0 ?_
      refine ag_goto E1 (tgt := 32) dX7_worthAll_22 (by decide) ?_
      refine ag_sub (lv' := [(0, .ref o), (1, .int x1), (2, .int x2), (4, .int x4)]) [0, 1, 2, 4] rfl ?_
      exact tbX7_worthAll_32 E hK5 h
theorem tlX7_worthAll_5 (E : EM p R s m args meth c cX7_worthAll 5 (some .int) D cs b H0 XK 5 121 z u) {Q : Int32 → St → Prop}  : ∀ (n : Nat) (x1 : Int32) (x2 : Int32) (x3 : Int32) (x4 : Int32) (f : St), wlX7_worthAll_5  Q n x1 x2 x3 x4 f → AM p l e R s m args below meth c D cs b 5 o Z z u (pI Q) 5 [(0, .ref o), (1, .int x1), (2, .int x2), (3, .int x3), (4, .int x4)] [] f := by
  intro n
  induction n with
  | zero => intro _ _ _ _ _ h; exact h.elim
  | succ n ih => intro x1 x2 x3 x4 f h; exact tbX7_worthAll_5 E ih h
theorem kX7_worthAll (l : Launch) (D : va_G) (cs : Nat → ClassId) (b : Nat) (H0 : Heap) (XK : State → Prop) (o : Nat) (Z : cP) (z u : Nat) (f : St) (x1 : Int32) (x2 : Int32) (Q : Int32 → St → Prop) (h : wX7_worthAll f x1 x2 Q) : CM l D cs b H0 XK o Z z u yX7_worthAll cX7_worthAll 5 (some .int) 5 121 [.ref o, .int x1, .int x2] f (pI Q) := by
  refine cm_of (by decide) rfl (Nat.le_of_ble_eq_true rfl) (fun p e R s m below meth c E => ?_)
  have E1 := E.1
  refine ag_sub (lv' := [(0, .ref o), (1, .int x1), (2, .int x2)]) [0, 1, 2] rfl ?_
  refine ag_iconst E1 dX7_worthAll_0 ki_0 ?_
  refine ag_istore_n E1 (lv' := [(3, .int (0 : Int32)), (0, .ref o), (1, .int x1), (2, .int x2)]) dX7_worthAll_1 rfl (Nat.lt_of_lt_of_le (Nat.le_refl _) (Nat.le_of_ble_eq_true rfl)) rfl ?_
  refine ag_iconst E1 dX7_worthAll_2 ki_0 ?_
  refine ag_istore E1 (lv' := [(4, .int (0 : Int32)), (3, .int (0 : Int32)), (0, .ref o), (1, .int x1), (2, .int x2)]) dX7_worthAll_3 (Nat.lt_of_lt_of_le (Nat.le_refl _) (Nat.le_of_ble_eq_true rfl)) rfl ?_
  refine ag_sub (lv' := [(0, .ref o), (1, .int x1), (2, .int x2), (3, .int (0 : Int32)), (4, .int (0 : Int32))]) [2, 3, 4, 1, 0] rfl ?_
  obtain ⟨n, h⟩ := h
  exact tlX7_worthAll_5 E  n _ _ _ _ _ h
theorem hdX7_worthAll : yX7_worthAll.cls = RX7 ∧ yX7_worthAll.cls ≠ "java/lang/invoke/MethodHandle" ∧ yX7_worthAll.cls ≠ "java/lang/invoke/VarHandle" ∧ (parseMethodDescriptor yX7_worthAll.desc).map (fun d => d.parameters.length) = some 2 := by decide +kernel
end
