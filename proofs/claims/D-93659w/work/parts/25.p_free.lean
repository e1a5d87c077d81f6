/-! methods of whole numbers alone (by program) -/
set_option maxRecDepth 100000
def wJ18_bitCount (x0 : Int32) (Q : Int32 → Prop) : Prop :=
  (∀ x0_1 : Int32, x0_1 = (x0 - ((i_ushr x0 (1 : Int32)) &&& (1431655765 : Int32))) → (∀ x0_2 : Int32, x0_2 = ((x0_1 &&& (858993459 : Int32)) + ((i_ushr x0_1 (2 : Int32)) &&& (858993459 : Int32))) → (∀ x0_3 : Int32, x0_3 = ((x0_2 + (i_ushr x0_2 (4 : Int32))) &&& (252645135 : Int32)) → (∀ x0_4 : Int32, x0_4 = (x0_3 + (i_ushr x0_3 (8 : Int32))) → (∀ x0_5 : Int32, x0_5 = (x0_4 + (i_ushr x0_4 (16 : Int32))) → Q (x0_5 &&& (63 : Int32)))))))
def wX0_in (x0 : Int64) (x2 : Int64) (x4 : Int64) (Q : Int32 → Prop) : Prop :=
  (((lg_cmp x0 x2) < (0 : Int32) → Q (0 : Int32)) ∧ (¬ (lg_cmp x0 x2) < (0 : Int32) → (((0 : Int32) < (lg_cmp x0 x4) → Q (0 : Int32)) ∧ (¬ (0 : Int32) < (lg_cmp x0 x4) → Q (1 : Int32)))))
def wX0_isSheet (x0 : Int32) (Q : Int32 → Prop) : Prop :=
  (wX0_in (Int32.toInt64 x0) (0 : Int64) (3 : Int64) (fun r_1 => (vz r_1 ∧ Q r_1)))
section
variable {p : Program} {l : Launch} {e : Env} {R : Room} {s : State} {m : MethodId} {args : Array Value} {below : List Frame} {meth : Method} {c : Code} {D : va_G} {cs : Nat → ClassId} {b o z u : Nat} {H0 : Heap} {XK : State → Prop}
theorem kJ18_bitCount (l : Launch) (D : va_G) (cl : List vw_C) (tys : List (ClassId × FieldType)) (b : Nat) (H0 : Heap) (XK : State → Prop) (w : cW) (x0 : Int32) (Q : Int32 → Prop) (h : wJ18_bitCount x0 Q) : CON l D cl tys b H0 XK yJ18_bitCount cJ18_bitCount 1 (some .int) 0 0 [.int x0] w (fun v w' => w' = w ∧ zI Q v) := by
  refine con_of (by decide) (Nat.le_of_ble_eq_true rfl) (fun p e R s m below meth c E1 h0 _ => ?_)
  refine ag_sub (lv' := [(0, .int x0)]) [0] rfl ?_
  refine ag_iload_n E1 dJ18_bitCount_0 rfl 0 rfl ?_
  refine ag_iload_n E1 dJ18_bitCount_1 rfl 0 rfl ?_
  refine ag_iconst E1 dJ18_bitCount_2 ki_1 ?_
  refine ag_iushr E1 dJ18_bitCount_3 ?_
  refine ag_ldcw E1 q1227 dJ18_bitCount_4 ?_
  refine ag_iand E1 dJ18_bitCount_7 ?_
  refine ag_isub E1 dJ18_bitCount_8 ?_
  refine ag_topi (fun x0_1 e_x0_1 => ?_)
  have h := h x0_1 e_x0_1
  refine ag_istore_n E1 (lv' := [(0, .int x0_1)]) dJ18_bitCount_9 rfl (Nat.lt_of_lt_of_le (Nat.le_refl _) (Nat.le_of_ble_eq_true rfl)) rfl ?_
  refine ag_iload_n E1 dJ18_bitCount_10 rfl 0 rfl ?_
  refine ag_ldcw E1 q1228 dJ18_bitCount_11 ?_
  refine ag_iand E1 dJ18_bitCount_14 ?_
  refine ag_iload_n E1 dJ18_bitCount_15 rfl 0 rfl ?_
  refine ag_iconst E1 dJ18_bitCount_16 ki_2 ?_
  refine ag_iushr E1 dJ18_bitCount_17 ?_
  refine ag_ldcw E1 q1228 dJ18_bitCount_18 ?_
  refine ag_iand E1 dJ18_bitCount_21 ?_
  refine ag_iadd E1 dJ18_bitCount_22 ?_
  refine ag_topi (fun x0_2 e_x0_2 => ?_)
  have h := h x0_2 e_x0_2
  refine ag_istore_n E1 (lv' := [(0, .int x0_2)]) dJ18_bitCount_23 rfl (Nat.lt_of_lt_of_le (Nat.le_refl _) (Nat.le_of_ble_eq_true rfl)) rfl ?_
  refine ag_iload_n E1 dJ18_bitCount_24 rfl 0 rfl ?_
  refine ag_iload_n E1 dJ18_bitCount_25 rfl 0 rfl ?_
  refine ag_iconst E1 dJ18_bitCount_26 ki_4 ?_
  refine ag_iushr E1 dJ18_bitCount_27 ?_
  refine ag_iadd E1 dJ18_bitCount_28 ?_
  refine ag_ldcw E1 q1229 dJ18_bitCount_29 ?_
  refine ag_iand E1 dJ18_bitCount_32 ?_
  refine ag_topi (fun x0_3 e_x0_3 => ?_)
  have h := h x0_3 e_x0_3
  refine ag_istore_n E1 (lv' := [(0, .int x0_3)]) dJ18_bitCount_33 rfl (Nat.lt_of_lt_of_le (Nat.le_refl _) (Nat.le_of_ble_eq_true rfl)) rfl ?_
  refine ag_iload_n E1 dJ18_bitCount_34 rfl 0 rfl ?_
  refine ag_iload_n E1 dJ18_bitCount_35 rfl 0 rfl ?_
  refine ag_bipush E1 dJ18_bitCount_36 kb_8 ?_
  refine ag_iushr E1 dJ18_bitCount_38 ?_
  refine ag_iadd E1 dJ18_bitCount_39 ?_
  refine ag_topi (fun x0_4 e_x0_4 => ?_)
  have h := h x0_4 e_x0_4
  refine ag_istore_n E1 (lv' := [(0, .int x0_4)]) dJ18_bitCount_40 rfl (Nat.lt_of_lt_of_le (Nat.le_refl _) (Nat.le_of_ble_eq_true rfl)) rfl ?_
  refine ag_iload_n E1 dJ18_bitCount_41 rfl 0 rfl ?_
  refine ag_iload_n E1 dJ18_bitCount_42 rfl 0 rfl ?_
  refine ag_bipush E1 dJ18_bitCount_43 kb_16 ?_
  refine ag_iushr E1 dJ18_bitCount_45 ?_
  refine ag_iadd E1 dJ18_bitCount_46 ?_
  refine ag_topi (fun x0_5 e_x0_5 => ?_)
  have h := h x0_5 e_x0_5
  refine ag_istore_n E1 (lv' := [(0, .int x0_5)]) dJ18_bitCount_47 rfl (Nat.lt_of_lt_of_le (Nat.le_refl _) (Nat.le_of_ble_eq_true rfl)) rfl ?_
  refine ag_iload_n E1 dJ18_bitCount_48 rfl 0 rfl ?_
  refine ag_bipush E1 dJ18_bitCount_49 kb_63 ?_
  refine ag_iand E1 dJ18_bitCount_51 ?_
  exact ag_iret rfl E1.2.2.2.2.2.1 E1 h0 ⟨rfl, _, rfl, h⟩ dJ18_bitCount_52
theorem hdJ18_bitCount : yJ18_bitCount.cls ≠ "java/lang/invoke/MethodHandle" ∧ yJ18_bitCount.cls ≠ "java/lang/invoke/VarHandle" ∧ (parseMethodDescriptor yJ18_bitCount.desc).map (fun d => d.parameters.length) = some 1 := by decide +kernel
theorem kX0_in (l : Launch) (D : va_G) (cl : List vw_C) (tys : List (ClassId × FieldType)) (b : Nat) (H0 : Heap) (XK : State → Prop) (w : cW) (x0 : Int64) (x2 : Int64) (x4 : Int64) (Q : Int32 → Prop) (h : wX0_in x0 x2 x4 Q) : CON l D cl tys b H0 XK yX0_in cX0_in 6 (some .boolean) 0 0 [.long x0, .long x2, .long x4] w (fun v w' => w' = w ∧ zI Q v) := by
  refine con_of (by decide) (Nat.le_of_ble_eq_true rfl) (fun p e R s m below meth c E1 h0 _ => ?_)
  refine ag_sub (lv' := [(0, .long x0), (2, .long x2), (4, .long x4)]) [0, 1, 2] rfl ?_
  refine ag_lload_n E1 dX0_in_0 rfl 0 rfl ?_
  refine ag_lload_n E1 dX0_in_1 rfl 1 rfl ?_
  refine ag_lcmp E1 dX0_in_2 ?_
  refine ag_if_lt E1 (tgt := 17) dX0_in_3 (by decide) (fun c_3 => ?_) (fun c_3 => ?_)
  · have h := h.1 c_3
    refine ag_iconst E1 dX0_in_17 ki_0 ?_
    exact ag_zret rfl (vz_nar (Or.inl rfl)) E1.2.2.2.2.2.1 E1 h0 ⟨rfl, _, rfl, h⟩ dX0_in_18
  · have h := h.2 c_3
    refine ag_lload_n E1 dX0_in_6 rfl 0 rfl ?_
    refine ag_lload E1 dX0_in_7 2 rfl ?_
    refine ag_lcmp E1 dX0_in_9 ?_
    refine ag_if_gt E1 (tgt := 17) dX0_in_10 (by decide) (fun c_10 => ?_) (fun c_10 => ?_)
    · have h := h.1 c_10
      refine ag_iconst E1 dX0_in_17 ki_0 ?_
      exact ag_zret rfl (vz_nar (Or.inl rfl)) E1.2.2.2.2.2.1 E1 h0 ⟨rfl, _, rfl, h⟩ dX0_in_18
    · have h := h.2 c_10
      refine ag_iconst E1 dX0_in_13 ki_1 ?_
      refine ag_goto E1 (tgt := 18) dX0_in_14 (by decide) ?_
      exact ag_zret rfl (vz_nar (Or.inr rfl)) E1.2.2.2.2.2.1 E1 h0 ⟨rfl, _, rfl, h⟩ dX0_in_18
theorem hdX0_in : yX0_in.cls ≠ "java/lang/invoke/MethodHandle" ∧ yX0_in.cls ≠ "java/lang/invoke/VarHandle" ∧ (parseMethodDescriptor yX0_in.desc).map (fun d => d.parameters.length) = some 3 := by decide +kernel
theorem kX0_isSheet (l : Launch) (D : va_G) (cl : List vw_C) (tys : List (ClassId × FieldType)) (b : Nat) (H0 : Heap) (XK : State → Prop) (w : cW) (x0 : Int32) (Q : Int32 → Prop) (h : wX0_isSheet x0 Q) : CON l D cl tys b H0 XK yX0_isSheet cX0_isSheet 1 (some .boolean) 1 25 [.int x0] w (fun v w' => w' = w ∧ zI Q v) := by
  refine con_of (by decide) (Nat.le_of_ble_eq_true rfl) (fun p e R s m below meth c E1 h0 _ => ?_)
  refine ag_sub (lv' := [(0, .int x0)]) [0] rfl ?_
  refine ag_iload_n E1 dX0_isSheet_0 rfl 0 rfl ?_
  refine ag_i2l E1 dX0_isSheet_1 ?_
  refine ag_lconst E1 (v := 0) dX0_isSheet_2 rfl ?_
  refine ag_ldc2 E1 q901 dX0_isSheet_3 ?_
  refine ag_callPi E1 (As := [.long (Int32.toInt64 x0), .long (0 : Int64), .long (3 : Int64)]) (kX0_in _ _ _ _ _ _ _ _ _ _ _ _ h) (lw_S q801 q280 q83 q281) hdX0_in (Nat.le_of_ble_eq_true rfl) (Nat.le_of_ble_eq_true rfl) rfl (Nat.le_of_ble_eq_true rfl) dX0_isSheet_6 rfl (fun r_1 h => ?_)
  exact ag_zret rfl (vz_nar h.1) E1.2.2.2.2.2.1 E1 h0 ⟨rfl, _, rfl, h.2⟩ dX0_isSheet_9
theorem hdX0_isSheet : yX0_isSheet.cls ≠ "java/lang/invoke/MethodHandle" ∧ yX0_isSheet.cls ≠ "java/lang/invoke/VarHandle" ∧ (parseMethodDescriptor yX0_isSheet.desc).map (fun d => d.parameters.length) = some 1 := by decide +kernel
end
