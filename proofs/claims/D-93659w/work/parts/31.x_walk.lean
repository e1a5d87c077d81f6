/-! walks of the class's methods (by program) -/
set_option maxRecDepth 100000
set_option maxHeartbeats 4000000
section
variable {p : Program} {l : Launch} {e : Env} {R : Room} {s : State} {m : MethodId} {args : Array Value} {below : List Frame} {meth : Method} {c : Code} {D : va_G} {cs : Nat → ClassId} {b o z u n : Nat} {H0 : Heap} {ad : Nat → Nat} {vs : Nat → Option Nat}
theorem tbX0_ways_69 (E : EX p R s m args meth c cX0_ways 4 RX0 none D cs b H0 (XKd b H0 ad vs) [] 1 21 z u) {Q : XS → Prop} {K12 : Int32 → Int32 → XS → Prop} (hK12 : ∀ (x1 : Int32) (x2 : Int32) (f : XS), K12 x1 x2 f → AX p l e R s m args below meth c D cs b 4 o z u (xV Q) 12 [(0, .ref o), (1, .int x1), (2, .int x2)] [] f) {K76 : Int32 → XS → Prop} (hK76 : ∀ (x1 : Int32) (f : XS), K76 x1 f → AX p l e R s m args below meth c D cs b 4 o z u (xV Q) 76 [(0, .ref o), (1, .int x1)] [] f) {x1 : Int32} {x2 : Int32} {t0 : Int32} {t1 : Int32} {f : XS} (h : wbX0_ways_69 b cs ad vs o K12 K76 Q x1 x2 t0 t1 f) : AX p l e R s m args below meth c D cs b 4 o z u (xV Q) 69 [(0, .ref o), (1, .int x1), (2, .int x2)] [.int t0, .int t1, .ref (o + 6)] f := by
  have E1 := E.1
  obtain ⟨hin, h⟩ := h
  refine ax_iast E 5 rfl rfl rfl (by decide) hin dX0_ways_69 (fun f_1 e_f_1 => ?_)
  have h := h f_1 e_f_1
  refine ag_iincN E1 (lv' := fun x2_2 => [(2, .int x2_2), (0, .ref o), (1, .int x1)]) dX0_ways_70 2 rfl ki_1 (Nat.lt_of_lt_of_le (Nat.le_refl _) (Nat.le_of_ble_eq_true rfl)) (fun _ => rfl) (fun x2_2 e_x2_2 => ?_)
  have h := h x2_2 e_x2_2
  refine ag_goto E1 (tgt := 12) dX0_ways_73 (by decide) ?_
  refine ag_sub (lv' := [(0, .ref o), (1, .int x1), (2, .int x2_2)]) [1, 2, 0] rfl ?_
  exact hK12 _ _ _ h
theorem tbX0_ways_12 (E : EX p R s m args meth c cX0_ways 4 RX0 none D cs b H0 (XKd b H0 ad vs) [] 1 21 z u) {Q : XS → Prop} {K12 : Int32 → Int32 → XS → Prop} (hK12 : ∀ (x1 : Int32) (x2 : Int32) (f : XS), K12 x1 x2 f → AX p l e R s m args below meth c D cs b 4 o z u (xV Q) 12 [(0, .ref o), (1, .int x1), (2, .int x2)] [] f) {K76 : Int32 → XS → Prop} (hK76 : ∀ (x1 : Int32) (f : XS), K76 x1 f → AX p l e R s m args below meth c D cs b 4 o z u (xV Q) 76 [(0, .ref o), (1, .int x1)] [] f) {x1 : Int32} {x2 : Int32} {f : XS} (h : wbX0_ways_12 b cs ad vs o K12 K76 Q x1 x2 f) : AX p l e R s m args below meth c D cs b 4 o z u (xV Q) 12 [(0, .ref o), (1, .int x1), (2, .int x2)] [] f := by
  have E1 := E.1
  refine ag_iload_n E1 dX0_ways_12 rfl 2 rfl ?_
  refine ag_aload_n E1 dX0_ways_13 rfl 0 rfl ?_
  refine ax_geti E 6 (by decide) rfl q672 dX0_ways_14 ?_
  refine ag_icmp_ge E1 (tgt := 76) dX0_ways_17 (by decide) (fun c_17 => ?_) (fun c_17 => ?_)
  · have h := h.1 c_17
    refine ag_sub (lv' := [(0, .ref o), (1, .int x1)]) [0, 1] rfl ?_
    exact hK76 _ _ h
  · have h := h.2 c_17
    refine ag_aload_n E1 dX0_ways_20 rfl 0 rfl ?_
    refine ax_geta E 5 (i := 6) (by decide) rfl rfl q671 dX0_ways_21 ?_
    refine ag_bipush E1 dX0_ways_24 kb_6 ?_
    refine ag_iload_n E1 dX0_ways_26 rfl 1 rfl ?_
    refine ag_imul E1 dX0_ways_27 ?_
    refine ag_iload_n E1 dX0_ways_28 rfl 2 rfl ?_
    refine ag_iadd E1 dX0_ways_29 ?_
    refine ag_iload_n E1 dX0_ways_30 rfl 1 rfl ?_
    refine ag_iload_n E1 dX0_ways_31 rfl 2 rfl ?_
    refine ag_icmp_ne E1 (tgt := 39) dX0_ways_32 (by decide) (fun c_32 => ?_) (fun c_32 => ?_)
    · have h := h.1 c_32
      refine ag_aload_n E1 dX0_ways_39 rfl 0 rfl ?_
      refine ax_geta E 4 (i := 5) (by decide) rfl rfl q670 dX0_ways_40 ?_
      refine ag_bipush E1 dX0_ways_43 kb_6 ?_
      refine ag_iload_n E1 dX0_ways_45 rfl 1 rfl ?_
      refine ag_imul E1 dX0_ways_46 ?_
      refine ag_iload_n E1 dX0_ways_47 rfl 2 rfl ?_
      refine ag_iadd E1 dX0_ways_48 ?_
      obtain ⟨hin, h⟩ := h
      refine ax_iald E 4 rfl rfl rfl (by decide) hin dX0_ways_49 ?_
      refine ag_if_ne E1 (tgt := 58) dX0_ways_50 (by decide) (fun c_50 => ?_) (fun c_50 => ?_)
      · have h := h.1 c_50
        refine ag_aload_n E1 dX0_ways_58 rfl 0 rfl ?_
        refine ax_geta E 4 (i := 5) (by decide) rfl rfl q670 dX0_ways_59 ?_
        refine ag_bipush E1 dX0_ways_62 kb_6 ?_
        refine ag_iload_n E1 dX0_ways_64 rfl 1 rfl ?_
        refine ag_imul E1 dX0_ways_65 ?_
        refine ag_iload_n E1 dX0_ways_66 rfl 2 rfl ?_
        refine ag_iadd E1 dX0_ways_67 ?_
        obtain ⟨hin, h⟩ := h
        refine ax_iald E 4 rfl rfl rfl (by decide) hin dX0_ways_68 ?_
        exact tbX0_ways_69 E hK12 hK76 h
      · have h := h.2 c_50
        refine ag_bipush E1 dX0_ways_53 kb_99 ?_
        refine ag_goto E1 (tgt := 69) dX0_ways_55 (by decide) ?_
        exact tbX0_ways_69 E hK12 hK76 h
    · have h := h.2 c_32
      refine ag_iconst E1 dX0_ways_35 ki_0 ?_
      refine ag_goto E1 (tgt := 69) dX0_ways_36 (by decide) ?_
      exact tbX0_ways_69 E hK12 hK76 h
theorem tlX0_ways_12 (E : EX p R s m args meth c cX0_ways 4 RX0 none D cs b H0 (XKd b H0 ad vs) [] 1 21 z u) {Q : XS → Prop} {K76 : Int32 → XS → Prop} (hK76 : ∀ (x1 : Int32) (f : XS), K76 x1 f → AX p l e R s m args below meth c D cs b 4 o z u (xV Q) 76 [(0, .ref o), (1, .int x1)] [] f) : ∀ (n : Nat) (x1 : Int32) (x2 : Int32) (f : XS), wlX0_ways_12 b cs ad vs o K76 Q n x1 x2 f → AX p l e R s m args below meth c D cs b 4 o z u (xV Q) 12 [(0, .ref o), (1, .int x1), (2, .int x2)] [] f := by
  intro n
  induction n with
  | zero => intro _ _ _ h; exact h.elim
  | succ n ih => intro x1 x2 f h; exact tbX0_ways_12 E ih hK76 h
theorem tbX0_ways_2 (E : EX p R s m args meth c cX0_ways 4 RX0 none D cs b H0 (XKd b H0 ad vs) [] 1 21 z u) {Q : XS → Prop} {K2 : Int32 → XS → Prop} (hK2 : ∀ (x1 : Int32) (f : XS), K2 x1 f → AX p l e R s m args below meth c D cs b 4 o z u (xV Q) 2 [(0, .ref o), (1, .int x1)] [] f) {K82 : XS → Prop} (hK82 : ∀  (f : XS), K82  f → AX p l e R s m args below meth c D cs b 4 o z u (xV Q) 82 [(0, .ref o)] [] f) {x1 : Int32} {f : XS} (h : wbX0_ways_2 b cs ad vs o K2 K82 Q x1 f) : AX p l e R s m args below meth c D cs b 4 o z u (xV Q) 2 [(0, .ref o), (1, .int x1)] [] f := by
  have E1 := E.1
  refine ag_iload_n E1 dX0_ways_2 rfl 1 rfl ?_
  refine ag_aload_n E1 dX0_ways_3 rfl 0 rfl ?_
  refine ax_geti E 6 (by decide) rfl q672 dX0_ways_4 ?_
  refine ag_icmp_ge E1 (tgt := 82) dX0_ways_7 (by decide) (fun c_7 => ?_) (fun c_7 => ?_)
  · have h := h.1 c_7
    refine ag_sub (lv' := [(0, .ref o)]) [0] rfl ?_
    exact hK82  _ h
  · have h := h.2 c_7
    refine ag_iconst E1 dX0_ways_10 ki_0 ?_
    refine ag_istore_n E1 (lv' := [(2, .int (0 : Int32)), (0, .ref o), (1, .int x1)]) dX0_ways_11 rfl (Nat.lt_of_lt_of_le (Nat.le_refl _) (Nat.le_of_ble_eq_true rfl)) rfl ?_
    refine ag_sub (lv' := [(0, .ref o), (1, .int x1), (2, .int (0 : Int32))]) [1, 2, 0] rfl ?_
    obtain ⟨n, h⟩ := h
    refine tlX0_ways_12 E ?_ n _ _ _ h
    · intro x1 f h
      refine ag_iincN E1 (lv' := fun x1_3 => [(1, .int x1_3), (0, .ref o)]) dX0_ways_76 1 rfl ki_1 (Nat.lt_of_lt_of_le (Nat.le_refl _) (Nat.le_of_ble_eq_true rfl)) (fun _ => rfl) (fun x1_3 e_x1_3 => ?_)
      have h := h x1_3 e_x1_3
      refine ag_goto E1 (tgt := 2) dX0_ways_79 (by decide) ?_
      refine ag_sub (lv' := [(0, .ref o), (1, .int x1_3)]) [1, 0] rfl ?_
      exact hK2 _ _ h
theorem tlX0_ways_2 (E : EX p R s m args meth c cX0_ways 4 RX0 none D cs b H0 (XKd b H0 ad vs) [] 1 21 z u) {Q : XS → Prop} {K82 : XS → Prop} (hK82 : ∀  (f : XS), K82  f → AX p l e R s m args below meth c D cs b 4 o z u (xV Q) 82 [(0, .ref o)] [] f) : ∀ (n : Nat) (x1 : Int32) (f : XS), wlX0_ways_2 b cs ad vs o K82 Q n x1 f → AX p l e R s m args below meth c D cs b 4 o z u (xV Q) 2 [(0, .ref o), (1, .int x1)] [] f := by
  intro n
  induction n with
  | zero => intro _ _ h; exact h.elim
  | succ n ih => intro x1 f h; exact tbX0_ways_2 E ih hK82 h
theorem tbX0_ways_104 (E : EX p R s m args meth c cX0_ways 4 RX0 none D cs b H0 (XKd b H0 ad vs) [] 1 21 z u) {Q : XS → Prop} {K104 : Int32 → Int32 → Int32 → XS → Prop} (hK104 : ∀ (x1 : Int32) (x2 : Int32) (x3 : Int32) (f : XS), K104 x1 x2 x3 f → AX p l e R s m args below meth c D cs b 4 o z u (xV Q) 104 [(0, .ref o), (1, .int x1), (2, .int x2), (3, .int x3)] [] f) {K171 : Int32 → Int32 → XS → Prop} (hK171 : ∀ (x1 : Int32) (x2 : Int32) (f : XS), K171 x1 x2 f → AX p l e R s m args below meth c D cs b 4 o z u (xV Q) 171 [(0, .ref o), (1, .int x1), (2, .int x2)] [] f) {x1 : Int32} {x2 : Int32} {x3 : Int32} {f : XS} (h : wbX0_ways_104 b cs ad vs o K104 K171 Q x1 x2 x3 f) : AX p l e R s m args below meth c D cs b 4 o z u (xV Q) 104 [(0, .ref o), (1, .int x1), (2, .int x2), (3, .int x3)] [] f := by
  have E1 := E.1
  refine ag_iload_n E1 dX0_ways_104 rfl 3 rfl ?_
  refine ag_aload_n E1 dX0_ways_105 rfl 0 rfl ?_
  refine ax_geti E 6 (by decide) rfl q672 dX0_ways_106 ?_
  refine ag_icmp_ge E1 (tgt := 171) dX0_ways_109 (by decide) (fun c_109 => ?_) (fun c_109 => ?_)
  · have h := h.1 c_109
    refine ag_sub (lv' := [(0, .ref o), (1, .int x1), (2, .int x2)]) [0, 1, 2] rfl ?_
    exact hK171 _ _ _ h
  · have h := h.2 c_109
    refine ag_aload_n E1 dX0_ways_112 rfl 0 rfl ?_
    refine ax_geta E 5 (i := 6) (by decide) rfl rfl q671 dX0_ways_113 ?_
    refine ag_bipush E1 dX0_ways_116 kb_6 ?_
    refine ag_iload_n E1 dX0_ways_118 rfl 2 rfl ?_
    refine ag_imul E1 dX0_ways_119 ?_
    refine ag_iload_n E1 dX0_ways_120 rfl 3 rfl ?_
    refine ag_iadd E1 dX0_ways_121 ?_
    refine ag_aload_n E1 dX0_ways_122 rfl 0 rfl ?_
    refine ax_geta E 5 (i := 6) (by decide) rfl rfl q671 dX0_ways_123 ?_
    refine ag_bipush E1 dX0_ways_126 kb_6 ?_
    refine ag_iload_n E1 dX0_ways_128 rfl 2 rfl ?_
    refine ag_imul E1 dX0_ways_129 ?_
    refine ag_iload_n E1 dX0_ways_130 rfl 3 rfl ?_
    refine ag_iadd E1 dX0_ways_131 ?_
    obtain ⟨hin, h⟩ := h
    refine ax_iald E 5 rfl rfl rfl (by decide) hin dX0_ways_132 ?_
    refine ag_bipush E1 dX0_ways_133 kb_99 ?_
    refine ag_aload_n E1 dX0_ways_135 rfl 0 rfl ?_
    refine ax_geta E 5 (i := 6) (by decide) rfl rfl q671 dX0_ways_136 ?_
    refine ag_bipush E1 dX0_ways_139 kb_6 ?_
    refine ag_iload_n E1 dX0_ways_141 rfl 2 rfl ?_
    refine ag_imul E1 dX0_ways_142 ?_
    refine ag_iload_n E1 dX0_ways_143 rfl 1 rfl ?_
    refine ag_iadd E1 dX0_ways_144 ?_
    obtain ⟨hin, h⟩ := h
    refine ax_iald E 5 rfl rfl rfl (by decide) hin dX0_ways_145 ?_
    refine ag_aload_n E1 dX0_ways_146 rfl 0 rfl ?_
    refine ax_geta E 5 (i := 6) (by decide) rfl rfl q671 dX0_ways_147 ?_
    refine ag_bipush E1 dX0_ways_150 kb_6 ?_
    refine ag_iload_n E1 dX0_ways_152 rfl 1 rfl ?_
    refine ag_imul E1 dX0_ways_153 ?_
    refine ag_iload_n E1 dX0_ways_154 rfl 3 rfl ?_
    refine ag_iadd E1 dX0_ways_155 ?_
    obtain ⟨hin, h⟩ := h
    refine ax_iald E 5 rfl rfl rfl (by decide) hin dX0_ways_156 ?_
    refine ag_iadd E1 dX0_ways_157 ?_
    refine ag_mmin E1 q806 q356 q96 q357 (Nat.le_of_ble_eq_true rfl) (Nat.le_of_ble_eq_true rfl) (Nat.le_of_ble_eq_true rfl) dX0_ways_158 ?_
    refine ag_mmin E1 q806 q356 q96 q357 (Nat.le_of_ble_eq_true rfl) (Nat.le_of_ble_eq_true rfl) (Nat.le_of_ble_eq_true rfl) dX0_ways_161 ?_
    obtain ⟨hin, h⟩ := h
    refine ax_iast E 5 rfl rfl rfl (by decide) hin dX0_ways_164 (fun f_4 e_f_4 => ?_)
    have h := h f_4 e_f_4
    refine ag_iincN E1 (lv' := fun x3_5 => [(3, .int x3_5), (0, .ref o), (1, .int x1), (2, .int x2)]) dX0_ways_165 3 rfl ki_1 (Nat.lt_of_lt_of_le (Nat.le_refl _) (Nat.le_of_ble_eq_true rfl)) (fun _ => rfl) (fun x3_5 e_x3_5 => ?_)
    have h := h x3_5 e_x3_5
    refine ag_goto E1 (tgt := 104) dX0_ways_168 (by decide) ?_
    refine ag_sub (lv' := [(0, .ref o), (1, .int x1), (2, .int x2), (3, .int x3_5)]) [1, 2, 3, 0] rfl ?_
    exact hK104 _ _ _ _ h
theorem tlX0_ways_104 (E : EX p R s m args meth c cX0_ways 4 RX0 none D cs b H0 (XKd b H0 ad vs) [] 1 21 z u) {Q : XS → Prop} {K171 : Int32 → Int32 → XS → Prop} (hK171 : ∀ (x1 : Int32) (x2 : Int32) (f : XS), K171 x1 x2 f → AX p l e R s m args below meth c D cs b 4 o z u (xV Q) 171 [(0, .ref o), (1, .int x1), (2, .int x2)] [] f) : ∀ (n : Nat) (x1 : Int32) (x2 : Int32) (x3 : Int32) (f : XS), wlX0_ways_104 b cs ad vs o K171 Q n x1 x2 x3 f → AX p l e R s m args below meth c D cs b 4 o z u (xV Q) 104 [(0, .ref o), (1, .int x1), (2, .int x2), (3, .int x3)] [] f := by
  intro n
  induction n with
  | zero => intro _ _ _ _ h; exact h.elim
  | succ n ih => intro x1 x2 x3 f h; exact tbX0_ways_104 E ih hK171 h
theorem tbX0_ways_94 (E : EX p R s m args meth c cX0_ways 4 RX0 none D cs b H0 (XKd b H0 ad vs) [] 1 21 z u) {Q : XS → Prop} {K94 : Int32 → Int32 → XS → Prop} (hK94 : ∀ (x1 : Int32) (x2 : Int32) (f : XS), K94 x1 x2 f → AX p l e R s m args below meth c D cs b 4 o z u (xV Q) 94 [(0, .ref o), (1, .int x1), (2, .int x2)] [] f) {K177 : Int32 → XS → Prop} (hK177 : ∀ (x1 : Int32) (f : XS), K177 x1 f → AX p l e R s m args below meth c D cs b 4 o z u (xV Q) 177 [(0, .ref o), (1, .int x1)] [] f) {x1 : Int32} {x2 : Int32} {f : XS} (h : wbX0_ways_94 b cs ad vs o K94 K177 Q x1 x2 f) : AX p l e R s m args below meth c D cs b 4 o z u (xV Q) 94 [(0, .ref o), (1, .int x1), (2, .int x2)] [] f := by
  have E1 := E.1
  refine ag_iload_n E1 dX0_ways_94 rfl 2 rfl ?_
  refine ag_aload_n E1 dX0_ways_95 rfl 0 rfl ?_
  refine ax_geti E 6 (by decide) rfl q672 dX0_ways_96 ?_
  refine ag_icmp_ge E1 (tgt := 177) dX0_ways_99 (by decide) (fun c_99 => ?_) (fun c_99 => ?_)
  · have h := h.1 c_99
    refine ag_sub (lv' := [(0, .ref o), (1, .int x1)]) [0, 1] rfl ?_
    exact hK177 _ _ h
  · have h := h.2 c_99
    refine ag_iconst E1 dX0_ways_102 ki_0 ?_
    refine ag_istore_n E1 (lv' := [(3, .int (0 : Int32)), (0, .ref o), (1, .int x1), (2, .int x2)]) dX0_ways_103 rfl (Nat.lt_of_lt_of_le (Nat.le_refl _) (Nat.le_of_ble_eq_true rfl)) rfl ?_
    refine ag_sub (lv' := [(0, .ref o), (1, .int x1), (2, .int x2), (3, .int (0 : Int32))]) [1, 2, 3, 0] rfl ?_
    obtain ⟨n, h⟩ := h
    refine tlX0_ways_104 E ?_ n _ _ _ _ h
    · intro x1 x2 f h
      refine ag_iincN E1 (lv' := fun x2_6 => [(2, .int x2_6), (0, .ref o), (1, .int x1)]) dX0_ways_171 2 rfl ki_1 (Nat.lt_of_lt_of_le (Nat.le_refl _) (Nat.le_of_ble_eq_true rfl)) (fun _ => rfl) (fun x2_6 e_x2_6 => ?_)
      have h := h x2_6 e_x2_6
      refine ag_goto E1 (tgt := 94) dX0_ways_174 (by decide) ?_
      refine ag_sub (lv' := [(0, .ref o), (1, .int x1), (2, .int x2_6)]) [1, 2, 0] rfl ?_
      exact hK94 _ _ _ h
theorem tlX0_ways_94 (E : EX p R s m args meth c cX0_ways 4 RX0 none D cs b H0 (XKd b H0 ad vs) [] 1 21 z u) {Q : XS → Prop} {K177 : Int32 → XS → Prop} (hK177 : ∀ (x1 : Int32) (f : XS), K177 x1 f → AX p l e R s m args below meth c D cs b 4 o z u (xV Q) 177 [(0, .ref o), (1, .int x1)] [] f) : ∀ (n : Nat) (x1 : Int32) (x2 : Int32) (f : XS), wlX0_ways_94 b cs ad vs o K177 Q n x1 x2 f → AX p l e R s m args below meth c D cs b 4 o z u (xV Q) 94 [(0, .ref o), (1, .int x1), (2, .int x2)] [] f := by
  intro n
  induction n with
  | zero => intro _ _ _ h; exact h.elim
  | succ n ih => intro x1 x2 f h; exact tbX0_ways_94 E ih hK177 h
theorem tbX0_ways_84 (E : EX p R s m args meth c cX0_ways 4 RX0 none D cs b H0 (XKd b H0 ad vs) [] 1 21 z u) {Q : XS → Prop} {K84 : Int32 → XS → Prop} (hK84 : ∀ (x1 : Int32) (f : XS), K84 x1 f → AX p l e R s m args below meth c D cs b 4 o z u (xV Q) 84 [(0, .ref o), (1, .int x1)] [] f) {x1 : Int32} {f : XS} (h : wbX0_ways_84 b cs ad vs o K84 Q x1 f) : AX p l e R s m args below meth c D cs b 4 o z u (xV Q) 84 [(0, .ref o), (1, .int x1)] [] f := by
  have E1 := E.1
  refine ag_iload_n E1 dX0_ways_84 rfl 1 rfl ?_
  refine ag_aload_n E1 dX0_ways_85 rfl 0 rfl ?_
  refine ax_geti E 6 (by decide) rfl q672 dX0_ways_86 ?_
  refine ag_icmp_ge E1 (tgt := 183) dX0_ways_89 (by decide) (fun c_89 => ?_) (fun c_89 => ?_)
  · have h := h.1 c_89
    exact ax_vret E rfl ⟨rfl, h⟩ dX0_ways_183
  · have h := h.2 c_89
    refine ag_iconst E1 dX0_ways_92 ki_0 ?_
    refine ag_istore_n E1 (lv' := [(2, .int (0 : Int32)), (0, .ref o), (1, .int x1)]) dX0_ways_93 rfl (Nat.lt_of_lt_of_le (Nat.le_refl _) (Nat.le_of_ble_eq_true rfl)) rfl ?_
    refine ag_sub (lv' := [(0, .ref o), (1, .int x1), (2, .int (0 : Int32))]) [1, 2, 0] rfl ?_
    obtain ⟨n, h⟩ := h
    refine tlX0_ways_94 E ?_ n _ _ _ h
    · intro x1 f h
      refine ag_iincN E1 (lv' := fun x1_7 => [(1, .int x1_7), (0, .ref o)]) dX0_ways_177 1 rfl ki_1 (Nat.lt_of_lt_of_le (Nat.le_refl _) (Nat.le_of_ble_eq_true rfl)) (fun _ => rfl) (fun x1_7 e_x1_7 => ?_)
      have h := h x1_7 e_x1_7
      refine ag_goto E1 (tgt := 84) dX0_ways_180 (by decide) ?_
      refine ag_sub (lv' := [(0, .ref o), (1, .int x1_7)]) [1, 0] rfl ?_
      exact hK84 _ _ h
theorem tlX0_ways_84 (E : EX p R s m args meth c cX0_ways 4 RX0 none D cs b H0 (XKd b H0 ad vs) [] 1 21 z u) {Q : XS → Prop}  : ∀ (n : Nat) (x1 : Int32) (f : XS), wlX0_ways_84 b cs ad vs o  Q n x1 f → AX p l e R s m args below meth c D cs b 4 o z u (xV Q) 84 [(0, .ref o), (1, .int x1)] [] f := by
  intro n
  induction n with
  | zero => intro _ _ h; exact h.elim
  | succ n ih => intro x1 f h; exact tbX0_ways_84 E ih h
theorem kX0_ways (l : Launch) (D : va_G) (cs : Nat → ClassId) (b : Nat) (H0 : Heap) (ad : Nat → Nat) (vs : Nat → Option Nat) (o : Nat) (f : XS)  (Q : XS → Prop) (h : wX0_ways b cs ad vs o f  Q) : CX l D cs b H0 (XKd b H0 ad vs) o yX0_ways cX0_ways 4 none 1 21 [.ref o] f (xV Q) := by
  refine cx_of (by decide) (Nat.le_of_ble_eq_true rfl) (fun p e R s m below meth c E => ?_)
  have E1 := E.1
  refine ag_sub (lv' := [(0, .ref o)]) [0] rfl ?_
  refine ag_iconst E1 dX0_ways_0 ki_0 ?_
  refine ag_istore_n E1 (lv' := [(1, .int (0 : Int32)), (0, .ref o)]) dX0_ways_1 rfl (Nat.lt_of_lt_of_le (Nat.le_refl _) (Nat.le_of_ble_eq_true rfl)) rfl ?_
  refine ag_sub (lv' := [(0, .ref o), (1, .int (0 : Int32))]) [1, 0] rfl ?_
  obtain ⟨n, h⟩ := h
  refine tlX0_ways_2 E ?_ n _ _ h
  · intro f h
    refine ag_iconst E1 dX0_ways_82 ki_0 ?_
    refine ag_istore_n E1 (lv' := [(1, .int (0 : Int32)), (0, .ref o)]) dX0_ways_83 rfl (Nat.lt_of_lt_of_le (Nat.le_refl _) (Nat.le_of_ble_eq_true rfl)) rfl ?_
    refine ag_sub (lv' := [(0, .ref o), (1, .int (0 : Int32))]) [1, 0] rfl ?_
    obtain ⟨n, h⟩ := h
    exact tlX0_ways_84 E  n _ _ h
theorem hdX0_ways : yX0_ways.cls = RX0 ∧ yX0_ways.cls ≠ "java/lang/invoke/MethodHandle" ∧ yX0_ways.cls ≠ "java/lang/invoke/VarHandle" ∧ (parseMethodDescriptor yX0_ways.desc).map (fun d => d.parameters.length) = some 0 := by decide +kernel
theorem kX0_town (l : Launch) (D : va_G) (cs : Nat → ClassId) (b : Nat) (H0 : Heap) (ad : Nat → Nat) (vs : Nat → Option Nat) (o : Nat) (f : XS) (x1 : Int32) (Q : Int32 → XS → Prop) (h : wX0_town b cs ad vs o f x1 Q) : CX l D cs b H0 (XKd b H0 ad vs) o yX0_town cX0_town 2 (some .int) 2 44 [.ref o, .int x1] f (xI Q) := by
  refine cx_of (by decide) (Nat.le_of_ble_eq_true rfl) (fun p e R s m below meth c E => ?_)
  have E1 := E.1
  refine ag_sub (lv' := [(0, .ref o), (1, .int x1)]) [0, 1] rfl ?_
  refine ag_iload_n E1 dX0_town_0 rfl 1 rfl ?_
  refine ag_i2l E1 dX0_town_1 ?_
  refine ag_lconst E1 (v := 0) dX0_town_2 rfl ?_
  refine ag_ldc2 E1 q800 dX0_town_3 ?_
  refine ag_callPi E1 (As := [.long (Int32.toInt64 x1), .long (0 : Int64), .long (99 : Int64)]) (kX0_in _ _ _ _ _ _ _ _ _ _ _ _ h) (lw_S q801 q280 q83 q281) hdX0_in (Nat.le_of_ble_eq_true rfl) (Nat.le_of_ble_eq_true rfl) rfl (Nat.le_of_ble_eq_true rfl) dX0_town_6 rfl (fun r_1 h => ?_)
  refine ag_if_ne E1 (tgt := 15) dX0_town_9 (by decide) (fun c_9 => ?_) (fun c_9 => ?_)
  · have h := h.1 c_9
    refine ag_aload_n E1 dX0_town_15 rfl 0 rfl ?_
    refine ax_geti E 6 (by decide) rfl q672 dX0_town_16 ?_
    refine ag_bipush E1 dX0_town_19 kb_6 ?_
    refine ag_icmp_ne E1 (tgt := 27) dX0_town_21 (by decide) (fun c_21 => ?_) (fun c_21 => ?_)
    · have h := h.1 c_21
      refine ag_aload_n E1 dX0_town_27 rfl 0 rfl ?_
      refine ax_geta E 0 (i := 1) (by decide) rfl rfl q666 dX0_town_28 ?_
      refine ag_aload_n E1 dX0_town_31 rfl 0 rfl ?_
      refine ax_geti E 6 (by decide) rfl q672 dX0_town_32 ?_
      refine ag_iload_n E1 dX0_town_35 rfl 1 rfl ?_
      obtain ⟨hin, h⟩ := h
      refine ax_iast E 0 rfl rfl rfl (by decide) hin dX0_town_36 (fun f_2 e_f_2 => ?_)
      have h := h f_2 e_f_2
      refine ag_aload_n E1 dX0_town_37 rfl 0 rfl ?_
      refine ax_geta E 1 (i := 2) (by decide) rfl rfl q667 dX0_town_38 ?_
      refine ag_aload_n E1 dX0_town_41 rfl 0 rfl ?_
      refine ax_geti E 6 (by decide) rfl q672 dX0_town_42 ?_
      refine ag_bipush E1 dX0_town_45 kb_127 ?_
      obtain ⟨hin, h⟩ := h
      refine ax_iast E 1 rfl rfl rfl (by decide) hin dX0_town_47 (fun f_3 e_f_3 => ?_)
      have h := h f_3 e_f_3
      refine ag_aload_n E1 dX0_town_48 rfl 0 rfl ?_
      refine ax_geta E 2 (i := 3) (by decide) rfl rfl q668 dX0_town_49 ?_
      refine ag_aload_n E1 dX0_town_52 rfl 0 rfl ?_
      refine ax_geti E 6 (by decide) rfl q672 dX0_town_53 ?_
      refine ag_iconst E1 dX0_town_56 ki_m1 ?_
      obtain ⟨hin, h⟩ := h
      refine ax_iast E 2 rfl rfl rfl (by decide) hin dX0_town_57 (fun f_4 e_f_4 => ?_)
      have h := h f_4 e_f_4
      refine ag_aload_n E1 dX0_town_58 rfl 0 rfl ?_
      refine ax_geta E 3 (i := 4) (by decide) rfl rfl q669 dX0_town_59 ?_
      refine ag_aload_n E1 dX0_town_62 rfl 0 rfl ?_
      refine ax_geti E 6 (by decide) rfl q672 dX0_town_63 ?_
      refine ag_iconst E1 dX0_town_66 ki_m1 ?_
      obtain ⟨hin, h⟩ := h
      refine ax_iast E 3 rfl rfl rfl (by decide) hin dX0_town_67 (fun f_5 e_f_5 => ?_)
      have h := h f_5 e_f_5
      refine ag_aload_n E1 dX0_town_68 rfl 0 rfl ?_
      refine ag_dup E1 dX0_town_69 rfl ?_
      refine ax_geti E 6 (by decide) rfl q672 dX0_town_70 ?_
      refine ag_iconst E1 dX0_town_73 ki_1 ?_
      refine ag_iadd E1 dX0_town_74 ?_
      refine ax_puti E 6 (by decide) rfl q672 rfl (ty := .int) (by decide +kernel) rfl rfl dX0_town_75 (fun f_6 e_f_6 => ?_)
      have h := h f_6 e_f_6
      refine ag_aload_n E1 dX0_town_78 rfl 0 rfl ?_
      refine ax_callVv E [] (kX0_ways _ _ _ _ _ _ _ _ _  _ h) (lw_V q802 q804 qs13 q83 q805) hdX0_ways (Nat.le_of_ble_eq_true rfl) (Nat.le_of_ble_eq_true rfl) rfl (Nat.le_of_ble_eq_true rfl) dX0_town_79 rfl (fun f_7 h => ?_)
      refine ag_aload_n E1 dX0_town_82 rfl 0 rfl ?_
      refine ax_geti E 6 (by decide) rfl q672 dX0_town_83 ?_
      refine ag_iconst E1 dX0_town_86 ki_1 ?_
      refine ag_isub E1 dX0_town_87 ?_
      exact ax_iret E rfl ⟨_, rfl, h⟩ dX0_town_88
    · have h := h.2 c_21
      refine ag_bipush E1 dX0_town_24 kb_m4 ?_
      exact ax_iret E rfl ⟨_, rfl, h⟩ dX0_town_26
  · have h := h.2 c_9
    refine ag_bipush E1 dX0_town_12 kb_m2 ?_
    exact ax_iret E rfl ⟨_, rfl, h⟩ dX0_town_14
theorem hdX0_town : yX0_town.cls = RX0 ∧ yX0_town.cls ≠ "java/lang/invoke/MethodHandle" ∧ yX0_town.cls ≠ "java/lang/invoke/VarHandle" ∧ (parseMethodDescriptor yX0_town.desc).map (fun d => d.parameters.length) = some 1 := by decide +kernel
theorem kX0_isTown (l : Launch) (D : va_G) (cs : Nat → ClassId) (b : Nat) (H0 : Heap) (ad : Nat → Nat) (vs : Nat → Option Nat) (o : Nat) (f : XS) (x1 : Int32) (Q : Int32 → XS → Prop) (h : wX0_isTown b cs ad vs o f x1 Q) : CX l D cs b H0 (XKd b H0 ad vs) o yX0_isTown cX0_isTown 2 (some .boolean) 1 25 [.ref o, .int x1] f (xI Q) := by
  refine cx_of (by decide) (Nat.le_of_ble_eq_true rfl) (fun p e R s m below meth c E => ?_)
  have E1 := E.1
  refine ag_sub (lv' := [(0, .ref o), (1, .int x1)]) [0, 1] rfl ?_
  refine ag_iload_n E1 dX0_isTown_0 rfl 1 rfl ?_
  refine ag_i2l E1 dX0_isTown_1 ?_
  refine ag_lconst E1 (v := 0) dX0_isTown_2 rfl ?_
  refine ag_aload_n E1 dX0_isTown_3 rfl 0 rfl ?_
  refine ax_geti E 6 (by decide) rfl q672 dX0_isTown_4 ?_
  refine ag_iconst E1 dX0_isTown_7 ki_1 ?_
  refine ag_isub E1 dX0_isTown_8 ?_
  refine ag_i2l E1 dX0_isTown_9 ?_
  refine ag_callPi E1 (As := [.long (Int32.toInt64 x1), .long (0 : Int64), .long (Int32.toInt64 ((f.1 99 6) - (1 : Int32)))]) (kX0_in _ _ _ _ _ _ _ _ _ _ _ _ h) (lw_S q801 q280 q83 q281) hdX0_in (Nat.le_of_ble_eq_true rfl) (Nat.le_of_ble_eq_true rfl) rfl (Nat.le_of_ble_eq_true rfl) dX0_isTown_10 rfl (fun r_1 h => ?_)
  exact ax_zret E rfl h.1 ⟨_, rfl, h.2⟩ dX0_isTown_13
theorem hdX0_isTown : yX0_isTown.cls = RX0 ∧ yX0_isTown.cls ≠ "java/lang/invoke/MethodHandle" ∧ yX0_isTown.cls ≠ "java/lang/invoke/VarHandle" ∧ (parseMethodDescriptor yX0_isTown.desc).map (fun d => d.parameters.length) = some 1 := by decide +kernel
theorem kX0_road (l : Launch) (D : va_G) (cs : Nat → ClassId) (b : Nat) (H0 : Heap) (ad : Nat → Nat) (vs : Nat → Option Nat) (o : Nat) (f : XS) (x1 : Int32) (x2 : Int32) (x3 : Int32) (Q : Int32 → XS → Prop) (h : wX0_road b cs ad vs o f x1 x2 x3 Q) : CX l D cs b H0 (XKd b H0 ad vs) o yX0_road cX0_road 5 (some .int) 2 46 [.ref o, .int x1, .int x2, .int x3] f (xI Q) := by
  refine cx_of (by decide) (Nat.le_of_ble_eq_true rfl) (fun p e R s m below meth c E => ?_)
  have E1 := E.1
  refine ag_sub (lv' := [(0, .ref o), (1, .int x1), (2, .int x2), (3, .int x3)]) [0, 1, 2, 3] rfl ?_
  refine ag_aload_n E1 dX0_road_0 rfl 0 rfl ?_
  refine ag_iload_n E1 dX0_road_1 rfl 1 rfl ?_
  refine ax_callVi E [.int x1] (kX0_isTown _ _ _ _ _ _ _ _ _ _ _ h) (lw_V q811 q813 qs14 q83 q814) hdX0_isTown (Nat.le_of_ble_eq_true rfl) (Nat.le_of_ble_eq_true rfl) rfl (Nat.le_of_ble_eq_true rfl) dX0_road_2 rfl (fun r_2 f_1 h => ?_)
  refine ag_if_eq E1 (tgt := 16) dX0_road_5 (by decide) (fun c_5 => ?_) (fun c_5 => ?_)
  · have h := h.1 c_5
    refine ag_iconst E1 dX0_road_16 ki_m1 ?_
    exact ax_iret E rfl ⟨_, rfl, h⟩ dX0_road_17
  · have h := h.2 c_5
    refine ag_aload_n E1 dX0_road_8 rfl 0 rfl ?_
    refine ag_iload_n E1 dX0_road_9 rfl 2 rfl ?_
    refine ax_callVi E [.int x2] (kX0_isTown _ _ _ _ _ _ _ _ _ _ _ h) (lw_V q811 q813 qs14 q83 q814) hdX0_isTown (Nat.le_of_ble_eq_true rfl) (Nat.le_of_ble_eq_true rfl) rfl (Nat.le_of_ble_eq_true rfl) dX0_road_10 rfl (fun r_4 f_3 h => ?_)
    refine ag_if_ne E1 (tgt := 18) dX0_road_13 (by decide) (fun c_13 => ?_) (fun c_13 => ?_)
    · have h := h.1 c_13
      refine ag_iload_n E1 dX0_road_18 rfl 1 rfl ?_
      refine ag_iload_n E1 dX0_road_19 rfl 2 rfl ?_
      refine ag_icmp_eq E1 (tgt := 35) dX0_road_20 (by decide) (fun c_20 => ?_) (fun c_20 => ?_)
      · have h := h.1 c_20
        refine ag_bipush E1 dX0_road_35 kb_m2 ?_
        exact ax_iret E rfl ⟨_, rfl, h⟩ dX0_road_37
      · have h := h.2 c_20
        refine ag_iload_n E1 dX0_road_23 rfl 3 rfl ?_
        refine ag_i2l E1 dX0_road_24 ?_
        refine ag_lconst E1 (v := 0) dX0_road_25 rfl ?_
        refine ag_ldc2 E1 q815 dX0_road_26 ?_
        refine ag_callPi E1 (As := [.long (Int32.toInt64 x3), .long (0 : Int64), .long (50 : Int64)]) (kX0_in _ _ _ _ _ _ _ _ _ _ _ _ h) (lw_S q801 q280 q83 q281) hdX0_in (Nat.le_of_ble_eq_true rfl) (Nat.le_of_ble_eq_true rfl) rfl (Nat.le_of_ble_eq_true rfl) dX0_road_29 rfl (fun r_5 h => ?_)
        refine ag_if_ne E1 (tgt := 38) dX0_road_32 (by decide) (fun c_32 => ?_) (fun c_32 => ?_)
        · have h := h.1 c_32
          refine ag_aload_n E1 dX0_road_38 rfl 0 rfl ?_
          refine ax_geta E 4 (i := 5) (by decide) rfl rfl q670 dX0_road_39 ?_
          refine ag_bipush E1 dX0_road_42 kb_6 ?_
          refine ag_iload_n E1 dX0_road_44 rfl 1 rfl ?_
          refine ag_imul E1 dX0_road_45 ?_
          refine ag_iload_n E1 dX0_road_46 rfl 2 rfl ?_
          refine ag_iadd E1 dX0_road_47 ?_
          obtain ⟨hin, h⟩ := h
          refine ax_iald E 4 rfl rfl rfl (by decide) hin dX0_road_48 ?_
          refine ag_topi (fun x4_6 e_x4_6 => ?_)
          have h := h x4_6 e_x4_6
          refine ag_istore E1 (lv' := [(4, .int x4_6), (0, .ref o), (1, .int x1), (2, .int x2), (3, .int x3)]) dX0_road_49 (Nat.lt_of_lt_of_le (Nat.le_refl _) (Nat.le_of_ble_eq_true rfl)) rfl ?_
          refine ag_aload_n E1 dX0_road_51 rfl 1 rfl ?_
          refine ax_geta E 4 (i := 5) (by decide) rfl rfl q670 dX0_road_52 ?_
          refine ag_bipush E1 dX0_road_55 kb_6 ?_
          refine ag_iload_n E1 dX0_road_57 rfl 2 rfl ?_
          refine ag_imul E1 dX0_road_58 ?_
          refine ag_iload_n E1 dX0_road_59 rfl 3 rfl ?_
          refine ag_iadd E1 dX0_road_60 ?_
          refine ag_iload_n E1 dX0_road_61 rfl 4 rfl ?_
          obtain ⟨hin, h⟩ := h
          refine ax_iast E 4 rfl rfl rfl (by decide) hin dX0_road_62 (fun f_7 e_f_7 => ?_)
          have h := h f_7 e_f_7
          refine ag_aload_n E1 dX0_road_63 rfl 1 rfl ?_
          refine ax_geta E 4 (i := 5) (by decide) rfl rfl q670 dX0_road_64 ?_
          refine ag_bipush E1 dX0_road_67 kb_6 ?_
          refine ag_iload_n E1 dX0_road_69 rfl 3 rfl ?_
          refine ag_imul E1 dX0_road_70 ?_
          refine ag_iload_n E1 dX0_road_71 rfl 2 rfl ?_
          refine ag_iadd E1 dX0_road_72 ?_
          refine ag_iload_n E1 dX0_road_73 rfl 4 rfl ?_
          obtain ⟨hin, h⟩ := h
          refine ax_iast E 4 rfl rfl rfl (by decide) hin dX0_road_74 (fun f_8 e_f_8 => ?_)
          have h := h f_8 e_f_8
          refine ag_aload_n E1 dX0_road_75 rfl 1 rfl ?_
          refine ax_callVv E [] (kX0_ways _ _ _ _ _ _ _ _ _  _ h) (lw_V q802 q804 qs13 q83 q805) hdX0_ways (Nat.le_of_ble_eq_true rfl) (Nat.le_of_ble_eq_true rfl) rfl (Nat.le_of_ble_eq_true rfl) dX0_road_76 rfl (fun f_9 h => ?_)
          refine ag_iload E1 dX0_road_79 0 rfl ?_
          exact ax_iret E rfl ⟨_, rfl, h⟩ dX0_road_81
        · have h := h.2 c_32
          refine ag_bipush E1 dX0_road_35 kb_m2 ?_
          exact ax_iret E rfl ⟨_, rfl, h⟩ dX0_road_37
    · have h := h.2 c_13
      refine ag_iconst E1 dX0_road_16 ki_m1 ?_
      exact ax_iret E rfl ⟨_, rfl, h⟩ dX0_road_17
theorem hdX0_road : yX0_road.cls = RX0 ∧ yX0_road.cls ≠ "java/lang/invoke/MethodHandle" ∧ yX0_road.cls ≠ "java/lang/invoke/VarHandle" ∧ (parseMethodDescriptor yX0_road.desc).map (fun d => d.parameters.length) = some 3 := by decide +kernel
theorem tbX0_hours_16 (E : EX p R s m args meth c cX0_hours 3 RX0 (some .int) D cs b H0 (XKd b H0 ad vs) [] 2 46 z u) {Q : Int32 → XS → Prop}   {f : XS} (h : wbX0_hours_16 b cs ad vs o  Q  f) : AX p l e R s m args below meth c D cs b 3 o z u (xI Q) 16 [] [] f := by
  have E1 := E.1
  refine ag_iconst E1 dX0_hours_16 ki_m1 ?_
  refine ag_goto E1 (tgt := 31) dX0_hours_17 (by decide) ?_
  exact ax_iret E rfl ⟨_, rfl, h⟩ dX0_hours_31
theorem kX0_hours (l : Launch) (D : va_G) (cs : Nat → ClassId) (b : Nat) (H0 : Heap) (ad : Nat → Nat) (vs : Nat → Option Nat) (o : Nat) (f : XS) (x1 : Int32) (x2 : Int32) (Q : Int32 → XS → Prop) (h : wX0_hours b cs ad vs o f x1 x2 Q) : CX l D cs b H0 (XKd b H0 ad vs) o yX0_hours cX0_hours 3 (some .int) 2 46 [.ref o, .int x1, .int x2] f (xI Q) := by
  refine cx_of (by decide) (Nat.le_of_ble_eq_true rfl) (fun p e R s m below meth c E => ?_)
  have E1 := E.1
  refine ag_sub (lv' := [(0, .ref o), (1, .int x1), (2, .int x2)]) [0, 1, 2] rfl ?_
  refine ag_aload_n E1 dX0_hours_0 rfl 0 rfl ?_
  refine ag_iload_n E1 dX0_hours_1 rfl 1 rfl ?_
  refine ax_callVi E [.int x1] (kX0_isTown _ _ _ _ _ _ _ _ _ _ _ h) (lw_V q811 q813 qs14 q83 q814) hdX0_isTown (Nat.le_of_ble_eq_true rfl) (Nat.le_of_ble_eq_true rfl) rfl (Nat.le_of_ble_eq_true rfl) dX0_hours_2 rfl (fun r_2 f_1 h => ?_)
  refine ag_if_eq E1 (tgt := 16) dX0_hours_5 (by decide) (fun c_5 => ?_) (fun c_5 => ?_)
  · have h := h.1 c_5
    refine ag_sub (lv' := []) [] rfl ?_
    exact tbX0_hours_16 E  h
  · have h := h.2 c_5
    refine ag_aload_n E1 dX0_hours_8 rfl 0 rfl ?_
    refine ag_iload_n E1 dX0_hours_9 rfl 2 rfl ?_
    refine ax_callVi E [.int x2] (kX0_isTown _ _ _ _ _ _ _ _ _ _ _ h) (lw_V q811 q813 qs14 q83 q814) hdX0_isTown (Nat.le_of_ble_eq_true rfl) (Nat.le_of_ble_eq_true rfl) rfl (Nat.le_of_ble_eq_true rfl) dX0_hours_10 rfl (fun r_4 f_3 h => ?_)
    refine ag_if_ne E1 (tgt := 20) dX0_hours_13 (by decide) (fun c_13 => ?_) (fun c_13 => ?_)
    · have h := h.1 c_13
      refine ag_aload_n E1 dX0_hours_20 rfl 0 rfl ?_
      refine ax_geta E 5 (i := 6) (by decide) rfl rfl q671 dX0_hours_21 ?_
      refine ag_bipush E1 dX0_hours_24 kb_6 ?_
      refine ag_iload_n E1 dX0_hours_26 rfl 1 rfl ?_
      refine ag_imul E1 dX0_hours_27 ?_
      refine ag_iload_n E1 dX0_hours_28 rfl 2 rfl ?_
      refine ag_iadd E1 dX0_hours_29 ?_
      obtain ⟨hin, h⟩ := h
      refine ax_iald E 5 rfl rfl rfl (by decide) hin dX0_hours_30 ?_
      exact ax_iret E rfl ⟨_, rfl, h⟩ dX0_hours_31
    · have h := h.2 c_13
      refine ag_sub (lv' := []) [] rfl ?_
      exact tbX0_hours_16 E  h
theorem hdX0_hours : yX0_hours.cls = RX0 ∧ yX0_hours.cls ≠ "java/lang/invoke/MethodHandle" ∧ yX0_hours.cls ≠ "java/lang/invoke/VarHandle" ∧ (parseMethodDescriptor yX0_hours.desc).map (fun d => d.parameters.length) = some 2 := by decide +kernel
theorem kX0_week (l : Launch) (D : va_G) (cs : Nat → ClassId) (b : Nat) (H0 : Heap) (ad : Nat → Nat) (vs : Nat → Option Nat) (o : Nat) (f : XS) (x1 : Int32) (Q : Int32 → XS → Prop) (h : wX0_week b cs ad vs o f x1 Q) : CX l D cs b H0 (XKd b H0 ad vs) o yX0_week cX0_week 3 (some .int) 1 25 [.ref o, .int x1] f (xI Q) := by
  refine cx_of (by decide) (Nat.le_of_ble_eq_true rfl) (fun p e R s m below meth c E => ?_)
  have E1 := E.1
  refine ag_sub (lv' := [(0, .ref o), (1, .int x1)]) [0, 1] rfl ?_
  refine ag_iload_n E1 dX0_week_0 rfl 1 rfl ?_
  refine ag_i2l E1 dX0_week_1 ?_
  refine ag_ldc2 E1 q824 dX0_week_2 ?_
  refine ag_ldc2 E1 q825 dX0_week_5 ?_
  refine ag_callPi E1 (As := [.long (Int32.toInt64 x1), .long (2 : Int64), .long (7 : Int64)]) (kX0_in _ _ _ _ _ _ _ _ _ _ _ _ h) (lw_S q801 q280 q83 q281) hdX0_in (Nat.le_of_ble_eq_true rfl) (Nat.le_of_ble_eq_true rfl) rfl (Nat.le_of_ble_eq_true rfl) dX0_week_8 rfl (fun r_1 h => ?_)
  refine ag_if_ne E1 (tgt := 17) dX0_week_11 (by decide) (fun c_11 => ?_) (fun c_11 => ?_)
  · have h := h.1 c_11
    refine ag_aload_n E1 dX0_week_17 rfl 0 rfl ?_
    refine ax_geti E 7 (by decide) rfl q673 dX0_week_18 ?_
    refine ag_topi (fun x2_2 e_x2_2 => ?_)
    have h := h x2_2 e_x2_2
    refine ag_istore_n E1 (lv' := [(2, .int x2_2), (0, .ref o), (1, .int x1)]) dX0_week_21 rfl (Nat.lt_of_lt_of_le (Nat.le_refl _) (Nat.le_of_ble_eq_true rfl)) rfl ?_
    refine ag_aload_n E1 dX0_week_22 rfl 1 rfl ?_
    refine ag_iload_n E1 dX0_week_23 rfl 2 rfl ?_
    refine ax_puti E 7 (by decide) rfl q673 rfl (ty := .int) (by decide +kernel) rfl rfl dX0_week_24 (fun f_3 e_f_3 => ?_)
    have h := h f_3 e_f_3
    refine ag_iload_n E1 dX0_week_27 rfl 0 rfl ?_
    exact ax_iret E rfl ⟨_, rfl, h⟩ dX0_week_28
  · have h := h.2 c_11
    refine ag_bipush E1 dX0_week_14 kb_m2 ?_
    exact ax_iret E rfl ⟨_, rfl, h⟩ dX0_week_16
theorem hdX0_week : yX0_week.cls = RX0 ∧ yX0_week.cls ≠ "java/lang/invoke/MethodHandle" ∧ yX0_week.cls ≠ "java/lang/invoke/VarHandle" ∧ (parseMethodDescriptor yX0_week.desc).map (fun d => d.parameters.length) = some 1 := by decide +kernel
theorem tbX0_want_116 (E : EX p R s m args meth c cX0_want 5 RX0 (some .int) D cs b H0 (XKd b H0 ad vs) [] 2 46 z u) {Q : Int32 → XS → Prop}  {x1 : Int32} {x2 : Int32} {x3 : Int32} {t0 : Int32} {f : XS} (h : wbX0_want_116 b cs ad vs o  Q x1 x2 x3 t0 f) : AX p l e R s m args below meth c D cs b 5 o z u (xI Q) 116 [(0, .ref o), (1, .int x1), (2, .int x2), (3, .int x3)] [.int t0] f := by
  have E1 := E.1
  refine ag_istore E1 (lv' := [(4, .int t0), (0, .ref o), (1, .int x1), (2, .int x2), (3, .int x3)]) dX0_want_116 (Nat.lt_of_lt_of_le (Nat.le_refl _) (Nat.le_of_ble_eq_true rfl)) rfl ?_
  refine ag_iload_n E1 dX0_want_118 rfl 3 rfl ?_
  refine ag_if_ne E1 (tgt := 132) dX0_want_119 (by decide) (fun c_119 => ?_) (fun c_119 => ?_)
  · have h := h.1 c_119
    refine ag_iload_n E1 dX0_want_132 rfl 3 rfl ?_
    refine ag_iconst E1 dX0_want_133 ki_1 ?_
    refine ag_icmp_ne E1 (tgt := 147) dX0_want_134 (by decide) (fun c_134 => ?_) (fun c_134 => ?_)
    · have h := h.1 c_134
      refine ag_aload_n E1 dX0_want_147 rfl 1 rfl ?_
      refine ax_geta E 3 (i := 4) (by decide) rfl rfl q669 dX0_want_148 ?_
      refine ag_iload_n E1 dX0_want_151 rfl 2 rfl ?_
      refine ag_iload_n E1 dX0_want_152 rfl 4 rfl ?_
      obtain ⟨hin, h⟩ := h
      refine ax_iast E 3 rfl rfl rfl (by decide) hin dX0_want_153 (fun f_5 e_f_5 => ?_)
      have h := h f_5 e_f_5
      refine ag_iload E1 dX0_want_154 0 rfl ?_
      exact ax_iret E rfl ⟨_, rfl, h⟩ dX0_want_156
    · have h := h.2 c_134
      refine ag_aload_n E1 dX0_want_137 rfl 1 rfl ?_
      refine ax_geta E 2 (i := 3) (by decide) rfl rfl q668 dX0_want_138 ?_
      refine ag_iload_n E1 dX0_want_141 rfl 2 rfl ?_
      refine ag_iload_n E1 dX0_want_142 rfl 4 rfl ?_
      obtain ⟨hin, h⟩ := h
      refine ax_iast E 2 rfl rfl rfl (by decide) hin dX0_want_143 (fun f_6 e_f_6 => ?_)
      have h := h f_6 e_f_6
      refine ag_goto E1 (tgt := 154) dX0_want_144 (by decide) ?_
      refine ag_iload E1 dX0_want_154 0 rfl ?_
      exact ax_iret E rfl ⟨_, rfl, h⟩ dX0_want_156
  · have h := h.2 c_119
    refine ag_aload_n E1 dX0_want_122 rfl 1 rfl ?_
    refine ax_geta E 1 (i := 2) (by decide) rfl rfl q667 dX0_want_123 ?_
    refine ag_iload_n E1 dX0_want_126 rfl 2 rfl ?_
    refine ag_iload_n E1 dX0_want_127 rfl 4 rfl ?_
    obtain ⟨hin, h⟩ := h
    refine ax_iast E 1 rfl rfl rfl (by decide) hin dX0_want_128 (fun f_7 e_f_7 => ?_)
    have h := h f_7 e_f_7
    refine ag_goto E1 (tgt := 154) dX0_want_129 (by decide) ?_
    refine ag_iload E1 dX0_want_154 0 rfl ?_
    exact ax_iret E rfl ⟨_, rfl, h⟩ dX0_want_156
theorem tbX0_want_83 (E : EX p R s m args meth c cX0_want 5 RX0 (some .int) D cs b H0 (XKd b H0 ad vs) [] 2 46 z u) {Q : Int32 → XS → Prop}  {x1 : Int32} {x2 : Int32} {x3 : Int32} {f : XS} (h : wbX0_want_83 b cs ad vs o  Q x1 x2 x3 f) : AX p l e R s m args below meth c D cs b 5 o z u (xI Q) 83 [(0, .ref o), (1, .int x1), (2, .int x2), (3, .int x3)] [] f := by
  have E1 := E.1
  refine ag_iload_n E1 dX0_want_83 rfl 2 rfl ?_
  refine ag_if_ne E1 (tgt := 96) dX0_want_84 (by decide) (fun c_84 => ?_) (fun c_84 => ?_)
  · have h := h.1 c_84
    refine ag_iload_n E1 dX0_want_96 rfl 2 rfl ?_
    refine ag_iconst E1 dX0_want_97 ki_1 ?_
    refine ag_icmp_ne E1 (tgt := 110) dX0_want_98 (by decide) (fun c_98 => ?_) (fun c_98 => ?_)
    · have h := h.1 c_98
      refine ag_aload_n E1 dX0_want_110 rfl 0 rfl ?_
      refine ax_geta E 3 (i := 4) (by decide) rfl rfl q669 dX0_want_111 ?_
      refine ag_iload_n E1 dX0_want_114 rfl 1 rfl ?_
      obtain ⟨hin, h⟩ := h
      refine ax_iald E 3 rfl rfl rfl (by decide) hin dX0_want_115 ?_
      exact tbX0_want_116 E  h
    · have h := h.2 c_98
      refine ag_aload_n E1 dX0_want_101 rfl 0 rfl ?_
      refine ax_geta E 2 (i := 3) (by decide) rfl rfl q668 dX0_want_102 ?_
      refine ag_iload_n E1 dX0_want_105 rfl 1 rfl ?_
      obtain ⟨hin, h⟩ := h
      refine ax_iald E 2 rfl rfl rfl (by decide) hin dX0_want_106 ?_
      refine ag_goto E1 (tgt := 116) dX0_want_107 (by decide) ?_
      exact tbX0_want_116 E  h
  · have h := h.2 c_84
    refine ag_aload_n E1 dX0_want_87 rfl 0 rfl ?_
    refine ax_geta E 1 (i := 2) (by decide) rfl rfl q667 dX0_want_88 ?_
    refine ag_iload_n E1 dX0_want_91 rfl 1 rfl ?_
    obtain ⟨hin, h⟩ := h
    refine ax_iald E 1 rfl rfl rfl (by decide) hin dX0_want_92 ?_
    refine ag_goto E1 (tgt := 116) dX0_want_93 (by decide) ?_
    exact tbX0_want_116 E  h
theorem tbX0_want_64 (E : EX p R s m args meth c cX0_want 5 RX0 (some .int) D cs b H0 (XKd b H0 ad vs) [] 2 46 z u) {Q : Int32 → XS → Prop}  {x1 : Int32} {x2 : Int32} {x3 : Int32} {t0 : Int64} {t1 : Int64} {t2 : Int64} {f : XS} (h : wbX0_want_64 b cs ad vs o  Q x1 x2 x3 t0 t1 t2 f) : AX p l e R s m args below meth c D cs b 5 o z u (xI Q) 64 [(0, .ref o), (1, .int x1), (2, .int x2), (3, .int x3)] [.long t0, .long t1, .long t2] f := by
  have E1 := E.1
  refine ag_callPi E1 (As := [.long t2, .long t1, .long t0]) (kX0_in _ _ _ _ _ _ _ _ _ _ _ _ h) (lw_S q801 q280 q83 q281) hdX0_in (Nat.le_of_ble_eq_true rfl) (Nat.le_of_ble_eq_true rfl) rfl (Nat.le_of_ble_eq_true rfl) dX0_want_64 rfl (fun r_4 h => ?_)
  refine ag_if_eq E1 (tgt := 80) dX0_want_67 (by decide) (fun c_67 => ?_) (fun c_67 => ?_)
  · have h := h.1 c_67
    refine ag_bipush E1 dX0_want_80 kb_m7 ?_
    exact ax_iret E rfl ⟨_, rfl, h⟩ dX0_want_82
  · have h := h.2 c_67
    refine ag_iload_n E1 dX0_want_70 rfl 2 rfl ?_
    refine ag_iconst E1 dX0_want_71 ki_2 ?_
    refine ag_icmp_ne E1 (tgt := 83) dX0_want_72 (by decide) (fun c_72 => ?_) (fun c_72 => ?_)
    · have h := h.1 c_72
      exact tbX0_want_83 E  h
    · have h := h.2 c_72
      refine ag_iload_n E1 dX0_want_75 rfl 3 rfl ?_
      refine ag_iload_n E1 dX0_want_76 rfl 1 rfl ?_
      refine ag_icmp_ne E1 (tgt := 83) dX0_want_77 (by decide) (fun c_77 => ?_) (fun c_77 => ?_)
      · have h := h.1 c_77
        exact tbX0_want_83 E  h
      · have h := h.2 c_77
        refine ag_bipush E1 dX0_want_80 kb_m7 ?_
        exact ax_iret E rfl ⟨_, rfl, h⟩ dX0_want_82
theorem tbX0_want_36 (E : EX p R s m args meth c cX0_want 5 RX0 (some .int) D cs b H0 (XKd b H0 ad vs) [] 2 46 z u) {Q : Int32 → XS → Prop}  {x1 : Int32} {x2 : Int32} {x3 : Int32} {t0 : Int64} {t1 : Int64} {f : XS} (h : wbX0_want_36 b cs ad vs o  Q x1 x2 x3 t0 t1 f) : AX p l e R s m args below meth c D cs b 5 o z u (xI Q) 36 [(0, .ref o), (1, .int x1), (2, .int x2), (3, .int x3)] [.long t0, .long t1] f := by
  have E1 := E.1
  refine ag_iload_n E1 dX0_want_36 rfl 2 rfl ?_
  refine ag_if_ne E1 (tgt := 46) dX0_want_37 (by decide) (fun c_37 => ?_) (fun c_37 => ?_)
  · have h := h.1 c_37
    refine ag_iload_n E1 dX0_want_46 rfl 2 rfl ?_
    refine ag_iconst E1 dX0_want_47 ki_1 ?_
    refine ag_icmp_ne E1 (tgt := 57) dX0_want_48 (by decide) (fun c_48 => ?_) (fun c_48 => ?_)
    · have h := h.1 c_48
      refine ag_aload_n E1 dX0_want_57 rfl 0 rfl ?_
      refine ax_geti E 6 (by decide) rfl q672 dX0_want_58 ?_
      refine ag_i2l E1 dX0_want_61 ?_
      refine ag_lconst E1 (v := 1) dX0_want_62 rfl ?_
      refine ag_lsub E1 dX0_want_63 ?_
      exact tbX0_want_64 E  h
    · have h := h.2 c_48
      refine ag_ldc2 E1 q832 dX0_want_51 ?_
      refine ag_goto E1 (tgt := 64) dX0_want_54 (by decide) ?_
      exact tbX0_want_64 E  h
  · have h := h.2 c_37
    refine ag_ldc2 E1 q831 dX0_want_40 ?_
    refine ag_goto E1 (tgt := 64) dX0_want_43 (by decide) ?_
    exact tbX0_want_64 E  h
theorem kX0_want (l : Launch) (D : va_G) (cs : Nat → ClassId) (b : Nat) (H0 : Heap) (ad : Nat → Nat) (vs : Nat → Option Nat) (o : Nat) (f : XS) (x1 : Int32) (x2 : Int32) (x3 : Int32) (Q : Int32 → XS → Prop) (h : wX0_want b cs ad vs o f x1 x2 x3 Q) : CX l D cs b H0 (XKd b H0 ad vs) o yX0_want cX0_want 5 (some .int) 2 46 [.ref o, .int x1, .int x2, .int x3] f (xI Q) := by
  refine cx_of (by decide) (Nat.le_of_ble_eq_true rfl) (fun p e R s m below meth c E => ?_)
  have E1 := E.1
  refine ag_sub (lv' := [(0, .ref o), (1, .int x1), (2, .int x2), (3, .int x3)]) [0, 1, 2, 3] rfl ?_
  refine ag_aload_n E1 dX0_want_0 rfl 0 rfl ?_
  refine ag_iload_n E1 dX0_want_1 rfl 1 rfl ?_
  refine ax_callVi E [.int x1] (kX0_isTown _ _ _ _ _ _ _ _ _ _ _ h) (lw_V q811 q813 qs14 q83 q814) hdX0_isTown (Nat.le_of_ble_eq_true rfl) (Nat.le_of_ble_eq_true rfl) rfl (Nat.le_of_ble_eq_true rfl) dX0_want_2 rfl (fun r_2 f_1 h => ?_)
  refine ag_if_ne E1 (tgt := 11) dX0_want_5 (by decide) (fun c_5 => ?_) (fun c_5 => ?_)
  · have h := h.1 c_5
    refine ag_iload_n E1 dX0_want_11 rfl 2 rfl ?_
    refine ag_i2l E1 dX0_want_12 ?_
    refine ag_lconst E1 (v := 0) dX0_want_13 rfl ?_
    refine ag_ldc2 E1 q824 dX0_want_14 ?_
    refine ag_callPi E1 (As := [.long (Int32.toInt64 x2), .long (0 : Int64), .long (2 : Int64)]) (kX0_in _ _ _ _ _ _ _ _ _ _ _ _ h) (lw_S q801 q280 q83 q281) hdX0_in (Nat.le_of_ble_eq_true rfl) (Nat.le_of_ble_eq_true rfl) rfl (Nat.le_of_ble_eq_true rfl) dX0_want_17 rfl (fun r_3 h => ?_)
    refine ag_if_eq E1 (tgt := 80) dX0_want_20 (by decide) (fun c_20 => ?_) (fun c_20 => ?_)
    · have h := h.1 c_20
      refine ag_bipush E1 dX0_want_80 kb_m7 ?_
      exact ax_iret E rfl ⟨_, rfl, h⟩ dX0_want_82
    · have h := h.2 c_20
      refine ag_iload_n E1 dX0_want_23 rfl 3 rfl ?_
      refine ag_i2l E1 dX0_want_24 ?_
      refine ag_iload_n E1 dX0_want_25 rfl 2 rfl ?_
      refine ag_if_ne E1 (tgt := 33) dX0_want_26 (by decide) (fun c_26 => ?_) (fun c_26 => ?_)
      · have h := h.1 c_26
        refine ag_ldc2 E1 q830 dX0_want_33 ?_
        exact tbX0_want_36 E  h
      · have h := h.2 c_26
        refine ag_lconst E1 (v := 0) dX0_want_29 rfl ?_
        refine ag_goto E1 (tgt := 36) dX0_want_30 (by decide) ?_
        exact tbX0_want_36 E  h
  · have h := h.2 c_5
    refine ag_bipush E1 dX0_want_8 kb_m5 ?_
    exact ax_iret E rfl ⟨_, rfl, h⟩ dX0_want_10
theorem hdX0_want : yX0_want.cls = RX0 ∧ yX0_want.cls ≠ "java/lang/invoke/MethodHandle" ∧ yX0_want.cls ≠ "java/lang/invoke/VarHandle" ∧ (parseMethodDescriptor yX0_want.desc).map (fun d => d.parameters.length) = some 3 := by decide +kernel
theorem kX0_townTold (l : Launch) (D : va_G) (cs : Nat → ClassId) (b : Nat) (H0 : Heap) (ad : Nat → Nat) (vs : Nat → Option Nat) (o : Nat) (f : XS) (x1 : Int32) (x2 : Int32) (Q : Int32 → XS → Prop) (h : wX0_townTold b cs ad vs o f x1 x2 Q) : CX l D cs b H0 (XKd b H0 ad vs) o yX0_townTold cX0_townTold 3 (some .int) 2 46 [.ref o, .int x1, .int x2] f (xI Q) := by
  refine cx_of (by decide) (Nat.le_of_ble_eq_true rfl) (fun p e R s m below meth c E => ?_)
  have E1 := E.1
  refine ag_sub (lv' := [(0, .ref o), (1, .int x1), (2, .int x2)]) [0, 1, 2] rfl ?_
  refine ag_aload_n E1 dX0_townTold_0 rfl 0 rfl ?_
  refine ag_iload_n E1 dX0_townTold_1 rfl 1 rfl ?_
  refine ax_callVi E [.int x1] (kX0_isTown _ _ _ _ _ _ _ _ _ _ _ h) (lw_V q811 q813 qs14 q83 q814) hdX0_isTown (Nat.le_of_ble_eq_true rfl) (Nat.le_of_ble_eq_true rfl) rfl (Nat.le_of_ble_eq_true rfl) dX0_townTold_2 rfl (fun r_2 f_1 h => ?_)
  refine ag_if_ne E1 (tgt := 11) dX0_townTold_5 (by decide) (fun c_5 => ?_) (fun c_5 => ?_)
  · have h := h.1 c_5
    refine ag_iload_n E1 dX0_townTold_11 rfl 2 rfl ?_
    rcases Classical.em (x2 = (0 : Int32)) with c_12_0 | c_12_0
    · have h := h.1 c_12_0
      refine ag_tableIn E1 (tgt := 44) (off := 32) dX0_townTold_12 (by rw [c_12_0]; decide) (by rw [c_12_0]; decide) (by rw [c_12_0]; decide) (by decide) ?_
      refine ag_aload_n E1 dX0_townTold_44 rfl 0 rfl ?_
      refine ax_geta E 0 (i := 1) (by decide) rfl rfl q666 dX0_townTold_45 ?_
      refine ag_iload_n E1 dX0_townTold_48 rfl 1 rfl ?_
      obtain ⟨hin, h⟩ := h
      refine ax_iald E 0 rfl rfl rfl (by decide) hin dX0_townTold_49 ?_
      exact ax_iret E rfl ⟨_, rfl, h⟩ dX0_townTold_50
    · have h := h.2 c_12_0
      have n_0 := lv_neT c_12_0 (show (0 : Int32).toInt = 0 by decide)
      rcases Classical.em (x2 = (1 : Int32)) with c_12_1 | c_12_1
      · have h := h.1 c_12_1
        refine ag_tableIn E1 (tgt := 51) (off := 39) dX0_townTold_12 (by rw [c_12_1]; decide) (by rw [c_12_1]; decide) (by rw [c_12_1]; decide) (by decide) ?_
        refine ag_aload_n E1 dX0_townTold_51 rfl 0 rfl ?_
        refine ax_geta E 1 (i := 2) (by decide) rfl rfl q667 dX0_townTold_52 ?_
        refine ag_iload_n E1 dX0_townTold_55 rfl 1 rfl ?_
        obtain ⟨hin, h⟩ := h
        refine ax_iald E 1 rfl rfl rfl (by decide) hin dX0_townTold_56 ?_
        exact ax_iret E rfl ⟨_, rfl, h⟩ dX0_townTold_57
      · have h := h.2 c_12_1
        have n_1 := lv_neT c_12_1 (show (1 : Int32).toInt = 1 by decide)
        rcases Classical.em (x2 = (2 : Int32)) with c_12_2 | c_12_2
        · have h := h.1 c_12_2
          refine ag_tableIn E1 (tgt := 58) (off := 46) dX0_townTold_12 (by rw [c_12_2]; decide) (by rw [c_12_2]; decide) (by rw [c_12_2]; decide) (by decide) ?_
          refine ag_aload_n E1 dX0_townTold_58 rfl 0 rfl ?_
          refine ax_geta E 2 (i := 3) (by decide) rfl rfl q668 dX0_townTold_59 ?_
          refine ag_iload_n E1 dX0_townTold_62 rfl 1 rfl ?_
          obtain ⟨hin, h⟩ := h
          refine ax_iald E 2 rfl rfl rfl (by decide) hin dX0_townTold_63 ?_
          exact ax_iret E rfl ⟨_, rfl, h⟩ dX0_townTold_64
        · have h := h.2 c_12_2
          have n_2 := lv_neT c_12_2 (show (2 : Int32).toInt = 2 by decide)
          rcases Classical.em (x2 = (3 : Int32)) with c_12_3 | c_12_3
          · have h := h.1 c_12_3
            refine ag_tableIn E1 (tgt := 65) (off := 53) dX0_townTold_12 (by rw [c_12_3]; decide) (by rw [c_12_3]; decide) (by rw [c_12_3]; decide) (by decide) ?_
            refine ag_aload_n E1 dX0_townTold_65 rfl 0 rfl ?_
            refine ax_geta E 3 (i := 4) (by decide) rfl rfl q669 dX0_townTold_66 ?_
            refine ag_iload_n E1 dX0_townTold_69 rfl 1 rfl ?_
            obtain ⟨hin, h⟩ := h
            refine ax_iald E 3 rfl rfl rfl (by decide) hin dX0_townTold_70 ?_
            exact ax_iret E rfl ⟨_, rfl, h⟩ dX0_townTold_71
          · have h := h.2 c_12_3
            have n_3 := lv_neT c_12_3 (show (3 : Int32).toInt = 3 by decide)
            refine ag_tableOut E1 (tgt := 72) dX0_townTold_12 (by omega) (by decide) ?_
            refine ag_bipush E1 dX0_townTold_72 kb_m7 ?_
            exact ax_iret E rfl ⟨_, rfl, h⟩ dX0_townTold_74
  · have h := h.2 c_5
    refine ag_bipush E1 dX0_townTold_8 kb_m5 ?_
    exact ax_iret E rfl ⟨_, rfl, h⟩ dX0_townTold_10
theorem hdX0_townTold : yX0_townTold.cls = RX0 ∧ yX0_townTold.cls ≠ "java/lang/invoke/MethodHandle" ∧ yX0_townTold.cls ≠ "java/lang/invoke/VarHandle" ∧ (parseMethodDescriptor yX0_townTold.desc).map (fun d => d.parameters.length) = some 2 := by decide +kernel
theorem kX0_isWeek (l : Launch) (D : va_G) (cs : Nat → ClassId) (b : Nat) (H0 : Heap) (ad : Nat → Nat) (vs : Nat → Option Nat) (o : Nat) (f : XS) (x1 : Int32) (Q : Int32 → XS → Prop) (h : wX0_isWeek b cs ad vs o f x1 Q) : CX l D cs b H0 (XKd b H0 ad vs) o yX0_isWeek cX0_isWeek 2 (some .boolean) 1 25 [.ref o, .int x1] f (xI Q) := by
  refine cx_of (by decide) (Nat.le_of_ble_eq_true rfl) (fun p e R s m below meth c E => ?_)
  have E1 := E.1
  refine ag_sub (lv' := [(0, .ref o), (1, .int x1)]) [0, 1] rfl ?_
  refine ag_iload_n E1 dX0_isWeek_0 rfl 1 rfl ?_
  refine ag_i2l E1 dX0_isWeek_1 ?_
  refine ag_lconst E1 (v := 0) dX0_isWeek_2 rfl ?_
  refine ag_ldc2 E1 q800 dX0_isWeek_3 ?_
  refine ag_callPi E1 (As := [.long (Int32.toInt64 x1), .long (0 : Int64), .long (99 : Int64)]) (kX0_in _ _ _ _ _ _ _ _ _ _ _ _ h) (lw_S q801 q280 q83 q281) hdX0_in (Nat.le_of_ble_eq_true rfl) (Nat.le_of_ble_eq_true rfl) rfl (Nat.le_of_ble_eq_true rfl) dX0_isWeek_6 rfl (fun r_1 h => ?_)
  exact ax_zret E rfl h.1 ⟨_, rfl, h.2⟩ dX0_isWeek_9
theorem hdX0_isWeek : yX0_isWeek.cls = RX0 ∧ yX0_isWeek.cls ≠ "java/lang/invoke/MethodHandle" ∧ yX0_isWeek.cls ≠ "java/lang/invoke/VarHandle" ∧ (parseMethodDescriptor yX0_isWeek.desc).map (fun d => d.parameters.length) = some 1 := by decide +kernel
theorem kX0_feast (l : Launch) (D : va_G) (cs : Nat → ClassId) (b : Nat) (H0 : Heap) (ad : Nat → Nat) (vs : Nat → Option Nat) (o : Nat) (f : XS) (x1 : Int32) (x2 : Int32) (Q : Int32 → XS → Prop) (h : wX0_feast b cs ad vs o f x1 x2 Q) : CX l D cs b H0 (XKd b H0 ad vs) o yX0_feast cX0_feast 3 (some .int) 2 46 [.ref o, .int x1, .int x2] f (xI Q) := by
  refine cx_of (by decide) (Nat.le_of_ble_eq_true rfl) (fun p e R s m below meth c E => ?_)
  have E1 := E.1
  refine ag_sub (lv' := [(0, .ref o), (1, .int x1), (2, .int x2)]) [0, 1, 2] rfl ?_
  refine ag_aload_n E1 dX0_feast_0 rfl 0 rfl ?_
  refine ag_iload_n E1 dX0_feast_1 rfl 1 rfl ?_
  refine ax_callVi E [.int x1] (kX0_isWeek _ _ _ _ _ _ _ _ _ _ _ h) (lw_V q841 q843 qs15 q83 q844) hdX0_isWeek (Nat.le_of_ble_eq_true rfl) (Nat.le_of_ble_eq_true rfl) rfl (Nat.le_of_ble_eq_true rfl) dX0_feast_2 rfl (fun r_2 f_1 h => ?_)
  refine ag_if_eq E1 (tgt := 20) dX0_feast_5 (by decide) (fun c_5 => ?_) (fun c_5 => ?_)
  · have h := h.1 c_5
    refine ag_bipush E1 dX0_feast_20 kb_m2 ?_
    exact ax_iret E rfl ⟨_, rfl, h⟩ dX0_feast_22
  · have h := h.2 c_5
    refine ag_iload_n E1 dX0_feast_8 rfl 2 rfl ?_
    refine ag_i2l E1 dX0_feast_9 ?_
    refine ag_lconst E1 (v := 0) dX0_feast_10 rfl ?_
    refine ag_ldc2 E1 q832 dX0_feast_11 ?_
    refine ag_callPi E1 (As := [.long (Int32.toInt64 x2), .long (0 : Int64), .long (6 : Int64)]) (kX0_in _ _ _ _ _ _ _ _ _ _ _ _ h) (lw_S q801 q280 q83 q281) hdX0_in (Nat.le_of_ble_eq_true rfl) (Nat.le_of_ble_eq_true rfl) rfl (Nat.le_of_ble_eq_true rfl) dX0_feast_14 rfl (fun r_3 h => ?_)
    refine ag_if_ne E1 (tgt := 23) dX0_feast_17 (by decide) (fun c_17 => ?_) (fun c_17 => ?_)
    · have h := h.1 c_17
      refine ag_aload_n E1 dX0_feast_23 rfl 0 rfl ?_
      refine ax_geti E 10 (by decide) rfl q676 dX0_feast_24 ?_
      refine ag_bipush E1 dX0_feast_27 kb_10 ?_
      refine ag_icmp_ne E1 (tgt := 35) dX0_feast_29 (by decide) (fun c_29 => ?_) (fun c_29 => ?_)
      · have h := h.1 c_29
        refine ag_aload_n E1 dX0_feast_35 rfl 0 rfl ?_
        refine ax_geta E 8 (i := 7) (by decide) rfl rfl q674 dX0_feast_36 ?_
        refine ag_aload_n E1 dX0_feast_39 rfl 0 rfl ?_
        refine ax_geti E 10 (by decide) rfl q676 dX0_feast_40 ?_
        refine ag_iload_n E1 dX0_feast_43 rfl 1 rfl ?_
        obtain ⟨hin, h⟩ := h
        refine ax_iast E 8 rfl rfl rfl (by decide) hin dX0_feast_44 (fun f_4 e_f_4 => ?_)
        have h := h f_4 e_f_4
        refine ag_aload_n E1 dX0_feast_45 rfl 0 rfl ?_
        refine ax_geta E 9 (i := 8) (by decide) rfl rfl q675 dX0_feast_46 ?_
        refine ag_aload_n E1 dX0_feast_49 rfl 0 rfl ?_
        refine ax_geti E 10 (by decide) rfl q676 dX0_feast_50 ?_
        refine ag_iload_n E1 dX0_feast_53 rfl 2 rfl ?_
        obtain ⟨hin, h⟩ := h
        refine ax_iast E 9 rfl rfl rfl (by decide) hin dX0_feast_54 (fun f_5 e_f_5 => ?_)
        have h := h f_5 e_f_5
        refine ag_aload_n E1 dX0_feast_55 rfl 0 rfl ?_
        refine ag_dup E1 dX0_feast_56 rfl ?_
        refine ax_geti E 10 (by decide) rfl q676 dX0_feast_57 ?_
        refine ag_iconst E1 dX0_feast_60 ki_1 ?_
        refine ag_iadd E1 dX0_feast_61 ?_
        refine ax_puti E 10 (by decide) rfl q676 rfl (ty := .int) (by decide +kernel) rfl rfl dX0_feast_62 (fun f_6 e_f_6 => ?_)
        have h := h f_6 e_f_6
        refine ag_aload_n E1 dX0_feast_65 rfl 0 rfl ?_
        refine ax_geti E 10 (by decide) rfl q676 dX0_feast_66 ?_
        exact ax_iret E rfl ⟨_, rfl, h⟩ dX0_feast_69
      · have h := h.2 c_29
        refine ag_bipush E1 dX0_feast_32 kb_m4 ?_
        exact ax_iret E rfl ⟨_, rfl, h⟩ dX0_feast_34
    · have h := h.2 c_17
      refine ag_bipush E1 dX0_feast_20 kb_m2 ?_
      exact ax_iret E rfl ⟨_, rfl, h⟩ dX0_feast_22
theorem hdX0_feast : yX0_feast.cls = RX0 ∧ yX0_feast.cls ≠ "java/lang/invoke/MethodHandle" ∧ yX0_feast.cls ≠ "java/lang/invoke/VarHandle" ∧ (parseMethodDescriptor yX0_feast.desc).map (fun d => d.parameters.length) = some 2 := by decide +kernel
theorem kX0_near (l : Launch) (D : va_G) (cs : Nat → ClassId) (b : Nat) (H0 : Heap) (ad : Nat → Nat) (vs : Nat → Option Nat) (o : Nat) (f : XS) (x1 : Int32) (x2 : Int32) (Q : Int32 → XS → Prop) (h : wX0_near b cs ad vs o f x1 x2 Q) : CX l D cs b H0 (XKd b H0 ad vs) o yX0_near cX0_near 3 (some .int) 201 8040 [.ref o, .int x1, .int x2] f (xI Q) := by
  refine cx_of (by decide) (Nat.le_of_ble_eq_true rfl) (fun p e R s m below meth c E => ?_)
  have E1 := E.1
  refine ag_sub (lv' := [(0, .ref o), (1, .int x1), (2, .int x2)]) [0, 1, 2] rfl ?_
  refine ag_aload_n E1 dX0_near_0 rfl 0 rfl ?_
  refine ax_geta E 12 (i := 10) (by decide) rfl rfl q678 dX0_near_1 ?_
  refine ag_iconst E1 dX0_near_4 ki_0 ?_
  refine ag_aload_n E1 dX0_near_5 rfl 0 rfl ?_
  refine ax_geta E 5 (i := 6) (by decide) rfl rfl q671 dX0_near_6 ?_
  refine ag_bipush E1 dX0_near_9 kb_6 ?_
  refine ag_iload_n E1 dX0_near_11 rfl 1 rfl ?_
  refine ag_imul E1 dX0_near_12 ?_
  refine ag_iload_n E1 dX0_near_13 rfl 2 rfl ?_
  refine ag_iadd E1 dX0_near_14 ?_
  obtain ⟨hin, h⟩ := h
  refine ax_iald E 5 rfl rfl rfl (by decide) hin dX0_near_15 ?_
  obtain ⟨hin, h⟩ := h
  refine ax_iast E 12 rfl rfl rfl (by decide) hin dX0_near_16 (fun f_1 e_f_1 => ?_)
  have h := h f_1 e_f_1
  refine ag_aload_n E1 dX0_near_17 rfl 0 rfl ?_
  refine ax_geta E 12 (i := 10) (by decide) rfl rfl q678 dX0_near_18 ?_
  refine ag_iconst E1 dX0_near_21 ki_1 ?_
  refine ag_aload_n E1 dX0_near_22 rfl 0 rfl ?_
  refine ax_geta E 0 (i := 1) (by decide) rfl rfl q666 dX0_near_23 ?_
  refine ag_iload_n E1 dX0_near_26 rfl 1 rfl ?_
  obtain ⟨hin, h⟩ := h
  refine ax_iald E 0 rfl rfl rfl (by decide) hin dX0_near_27 ?_
  obtain ⟨hin, h⟩ := h
  refine ax_iast E 12 rfl rfl rfl (by decide) hin dX0_near_28 (fun f_2 e_f_2 => ?_)
  have h := h f_2 e_f_2
  refine ag_aload_n E1 dX0_near_29 rfl 0 rfl ?_
  refine ax_geta E 12 (i := 10) (by decide) rfl rfl q678 dX0_near_30 ?_
  refine ag_iconst E1 dX0_near_33 ki_2 ?_
  refine ag_aload_n E1 dX0_near_34 rfl 0 rfl ?_
  refine ax_geta E 0 (i := 1) (by decide) rfl rfl q666 dX0_near_35 ?_
  refine ag_iload_n E1 dX0_near_38 rfl 2 rfl ?_
  obtain ⟨hin, h⟩ := h
  refine ax_iald E 0 rfl rfl rfl (by decide) hin dX0_near_39 ?_
  obtain ⟨hin, h⟩ := h
  refine ax_iast E 12 rfl rfl rfl (by decide) hin dX0_near_40 (fun f_3 e_f_3 => ?_)
  have h := h f_3 e_f_3
  refine ag_aload_n E1 dX0_near_41 rfl 0 rfl ?_
  refine ax_geta E 12 (i := 10) (by decide) rfl rfl q678 dX0_near_42 ?_
  refine ag_iconst E1 dX0_near_45 ki_3 ?_
  refine ag_iconst E1 dX0_near_46 ki_0 ?_
  obtain ⟨hin, h⟩ := h
  refine ax_iast E 12 rfl rfl rfl (by decide) hin dX0_near_47 (fun f_4 e_f_4 => ?_)
  have h := h f_4 e_f_4
  refine ag_aload_n E1 dX0_near_48 rfl 0 rfl ?_
  refine ax_geta E 12 (i := 10) (by decide) rfl rfl q678 dX0_near_49 ?_
  refine ag_iconst E1 dX0_near_52 ki_4 ?_
  refine ag_iconst E1 dX0_near_53 ki_0 ?_
  obtain ⟨hin, h⟩ := h
  refine ax_iast E 12 rfl rfl rfl (by decide) hin dX0_near_54 (fun f_5 e_f_5 => ?_)
  have h := h f_5 e_f_5
  refine ag_aload_n E1 dX0_near_55 rfl 0 rfl ?_
  refine ax_geta E 12 (i := 10) (by decide) rfl rfl q678 dX0_near_56 ?_
  refine ag_iconst E1 dX0_near_59 ki_5 ?_
  refine ag_aload_n E1 dX0_near_60 rfl 0 rfl ?_
  refine ax_geti E 7 (by decide) rfl q673 dX0_near_61 ?_
  obtain ⟨hin, h⟩ := h
  refine ax_iast E 12 rfl rfl rfl (by decide) hin dX0_near_64 (fun f_6 e_f_6 => ?_)
  have h := h f_6 e_f_6
  refine ag_aload_n E1 dX0_near_65 rfl 0 rfl ?_
  refine ax_geto E 38 (i := 22) (by decide) rfl (fun _ => rfl) q704 dX0_near_66 ?_
  refine ag_aload_n E1 dX0_near_69 rfl 0 rfl ?_
  refine ax_geti E 13 (by decide) rfl q679 dX0_near_70 ?_
  obtain ⟨hF_8, h⟩ := h
  obtain ⟨n_9, c_10, hP_11_z, h⟩ := h
  have hP_11 := (wX_at (cs := cs) hF_8).trans hP_11_z
  obtain ⟨hin_7, a_12, e_13, h⟩ := h
  refine ag_aald E1 (t0 := 6) hP_11 rfl rfl hin_7 dX0_near_73 (v := .ref a_12) (by rw [e_13]; rfl) ?_
  refine ag_iconst E1 dX0_near_74 ki_0 ?_
  obtain ⟨hF_15, h⟩ := h
  obtain ⟨n_16, c_17, hP_18_z, h⟩ := h
  have hP_18 := (wX_at (cs := cs) hF_15).trans hP_18_z
  obtain ⟨hin_14, a_19, e_20, h⟩ := h
  refine ag_aald E1 (t0 := 5) hP_18 rfl rfl hin_14 dX0_near_75 (v := .ref a_19) (by rw [e_20]; rfl) ?_
  refine ag_aload_n E1 dX0_near_76 rfl 0 rfl ?_
  refine ax_geta E 12 (i := 10) (by decide) rfl rfl q678 dX0_near_77 ?_
  obtain ⟨dn_23, hd_24, h⟩ := h
  refine ag_nodeF E1 (node_ok _ _ _ _ _ _ _ dn_23 _ _ _ _ h) q854 (by omega) (by omega) (Nat.le_of_ble_eq_true rfl) dX0_near_80 (fun r_21 f_22_w h => ?_)
  obtain ⟨f_22, rfl, h⟩ := h
  exact ax_iret E rfl ⟨_, rfl, h⟩ dX0_near_85
theorem hdX0_near : yX0_near.cls = RX0 ∧ yX0_near.cls ≠ "java/lang/invoke/MethodHandle" ∧ yX0_near.cls ≠ "java/lang/invoke/VarHandle" ∧ (parseMethodDescriptor yX0_near.desc).map (fun d => d.parameters.length) = some 2 := by decide +kernel
theorem kX0_says (l : Launch) (D : va_G) (cs : Nat → ClassId) (b : Nat) (H0 : Heap) (ad : Nat → Nat) (vs : Nat → Option Nat) (o : Nat) (f : XS) (x1 : Int32) (x2 : Int32) (Q : Int64 → XS → Prop) (h : wX0_says b cs ad vs o f x1 x2 Q) : CX l D cs b H0 (XKd b H0 ad vs) o yX0_says cX0_says 3 (some .long) 202 8062 [.ref o, .int x1, .int x2] f (xJ Q) := by
  refine cx_of (by decide) (Nat.le_of_ble_eq_true rfl) (fun p e R s m below meth c E => ?_)
  have E1 := E.1
  refine ag_sub (lv' := [(0, .ref o), (1, .int x1), (2, .int x2)]) [0, 1, 2] rfl ?_
  refine ag_aload_n E1 dX0_says_0 rfl 0 rfl ?_
  refine ag_iload_n E1 dX0_says_1 rfl 1 rfl ?_
  refine ax_callVi E [.int x1] (kX0_isTown _ _ _ _ _ _ _ _ _ _ _ h) (lw_V q811 q813 qs14 q83 q814) hdX0_isTown (Nat.le_of_ble_eq_true rfl) (Nat.le_of_ble_eq_true rfl) rfl (Nat.le_of_ble_eq_true rfl) dX0_says_2 rfl (fun r_2 f_1 h => ?_)
  refine ag_if_eq E1 (tgt := 31) dX0_says_5 (by decide) (fun c_5 => ?_) (fun c_5 => ?_)
  · have h := h.1 c_5
    refine ag_ldc2 E1 q879 dX0_says_31 ?_
    exact ax_lret E rfl ⟨_, rfl, h⟩ dX0_says_34
  · have h := h.2 c_5
    refine ag_aload_n E1 dX0_says_8 rfl 0 rfl ?_
    refine ag_iload_n E1 dX0_says_9 rfl 2 rfl ?_
    refine ax_callVi E [.int x2] (kX0_isTown _ _ _ _ _ _ _ _ _ _ _ h) (lw_V q811 q813 qs14 q83 q814) hdX0_isTown (Nat.le_of_ble_eq_true rfl) (Nat.le_of_ble_eq_true rfl) rfl (Nat.le_of_ble_eq_true rfl) dX0_says_10 rfl (fun r_4 f_3 h => ?_)
    refine ag_if_eq E1 (tgt := 31) dX0_says_13 (by decide) (fun c_13 => ?_) (fun c_13 => ?_)
    · have h := h.1 c_13
      refine ag_ldc2 E1 q879 dX0_says_31 ?_
      exact ax_lret E rfl ⟨_, rfl, h⟩ dX0_says_34
    · have h := h.2 c_13
      refine ag_iload_n E1 dX0_says_16 rfl 1 rfl ?_
      refine ag_iload_n E1 dX0_says_17 rfl 2 rfl ?_
      refine ag_icmp_eq E1 (tgt := 31) dX0_says_18 (by decide) (fun c_18 => ?_) (fun c_18 => ?_)
      · have h := h.1 c_18
        refine ag_ldc2 E1 q879 dX0_says_31 ?_
        exact ax_lret E rfl ⟨_, rfl, h⟩ dX0_says_34
      · have h := h.2 c_18
        refine ag_aload_n E1 dX0_says_21 rfl 0 rfl ?_
        refine ag_iload_n E1 dX0_says_22 rfl 1 rfl ?_
        refine ag_iload_n E1 dX0_says_23 rfl 2 rfl ?_
        refine ax_callVi E [.int x1, .int x2] (kX0_near _ _ _ _ _ _ _ _ _ _ _ _ h) (lw_V q849 q851 qs16 q83 q852) hdX0_near (Nat.le_of_ble_eq_true rfl) (Nat.le_of_ble_eq_true rfl) rfl (Nat.le_of_ble_eq_true rfl) dX0_says_24 rfl (fun r_6 f_5 h => ?_)
        refine ag_i2l E1 dX0_says_27 ?_
        refine ag_goto E1 (tgt := 34) dX0_says_28 (by decide) ?_
        exact ax_lret E rfl ⟨_, rfl, h⟩ dX0_says_34
theorem hdX0_says : yX0_says.cls = RX0 ∧ yX0_says.cls ≠ "java/lang/invoke/MethodHandle" ∧ yX0_says.cls ≠ "java/lang/invoke/VarHandle" ∧ (parseMethodDescriptor yX0_says.desc).map (fun d => d.parameters.length) = some 2 := by decide +kernel
theorem kX0_isDay (l : Launch) (D : va_G) (cs : Nat → ClassId) (b : Nat) (H0 : Heap) (ad : Nat → Nat) (vs : Nat → Option Nat) (o : Nat) (f : XS) (x1 : Int32) (Q : Int32 → XS → Prop) (h : wX0_isDay b cs ad vs o f x1 Q) : CX l D cs b H0 (XKd b H0 ad vs) o yX0_isDay cX0_isDay 2 (some .boolean) 1 25 [.ref o, .int x1] f (xI Q) := by
  refine cx_of (by decide) (Nat.le_of_ble_eq_true rfl) (fun p e R s m below meth c E => ?_)
  have E1 := E.1
  refine ag_sub (lv' := [(0, .ref o), (1, .int x1)]) [0, 1] rfl ?_
  refine ag_iload_n E1 dX0_isDay_0 rfl 1 rfl ?_
  refine ag_i2l E1 dX0_isDay_1 ?_
  refine ag_lconst E1 (v := 0) dX0_isDay_2 rfl ?_
  refine ag_aload_n E1 dX0_isDay_3 rfl 0 rfl ?_
  refine ax_geti E 7 (by decide) rfl q673 dX0_isDay_4 ?_
  refine ag_iconst E1 dX0_isDay_7 ki_1 ?_
  refine ag_isub E1 dX0_isDay_8 ?_
  refine ag_i2l E1 dX0_isDay_9 ?_
  refine ag_callPi E1 (As := [.long (Int32.toInt64 x1), .long (0 : Int64), .long (Int32.toInt64 ((f.1 99 7) - (1 : Int32)))]) (kX0_in _ _ _ _ _ _ _ _ _ _ _ _ h) (lw_S q801 q280 q83 q281) hdX0_in (Nat.le_of_ble_eq_true rfl) (Nat.le_of_ble_eq_true rfl) rfl (Nat.le_of_ble_eq_true rfl) dX0_isDay_10 rfl (fun r_1 h => ?_)
  exact ax_zret E rfl h.1 ⟨_, rfl, h.2⟩ dX0_isDay_13
theorem hdX0_isDay : yX0_isDay.cls = RX0 ∧ yX0_isDay.cls ≠ "java/lang/invoke/MethodHandle" ∧ yX0_isDay.cls ≠ "java/lang/invoke/VarHandle" ∧ (parseMethodDescriptor yX0_isDay.desc).map (fun d => d.parameters.length) = some 1 := by decide +kernel
theorem tbX0_saysWorth_54 (E : EX p R s m args meth c cX0_saysWorth 6 RX0 (some .int) D cs b H0 (XKd b H0 ad vs) [] 201 8040 z u) {Q : Int32 → XS → Prop}  {t0 : Int32} {t1 : Int32} {f : XS} (h : wbX0_saysWorth_54 b cs ad vs o  Q t0 t1 f) : AX p l e R s m args below meth c D cs b 6 o z u (xI Q) 54 [(0, .ref o)] [.int t0, .int t1, .ref (o + 10)] f := by
  have E1 := E.1
  obtain ⟨hin, h⟩ := h
  refine ax_iast E 12 rfl rfl rfl (by decide) hin dX0_saysWorth_54 (fun f_5 e_f_5 => ?_)
  have h := h f_5 e_f_5
  refine ag_aload_n E1 dX0_saysWorth_55 rfl 0 rfl ?_
  refine ax_geta E 12 (i := 10) (by decide) rfl rfl q678 dX0_saysWorth_56 ?_
  refine ag_iconst E1 dX0_saysWorth_59 ki_5 ?_
  refine ag_aload_n E1 dX0_saysWorth_60 rfl 0 rfl ?_
  refine ax_geti E 7 (by decide) rfl q673 dX0_saysWorth_61 ?_
  obtain ⟨hin, h⟩ := h
  refine ax_iast E 12 rfl rfl rfl (by decide) hin dX0_saysWorth_64 (fun f_6 e_f_6 => ?_)
  have h := h f_6 e_f_6
  refine ag_aload_n E1 dX0_saysWorth_65 rfl 0 rfl ?_
  refine ax_geto E 38 (i := 22) (by decide) rfl (fun _ => rfl) q704 dX0_saysWorth_66 ?_
  refine ag_aload_n E1 dX0_saysWorth_69 rfl 0 rfl ?_
  refine ax_geti E 13 (by decide) rfl q679 dX0_saysWorth_70 ?_
  obtain ⟨hF_8, h⟩ := h
  obtain ⟨n_9, c_10, hP_11_z, h⟩ := h
  have hP_11 := (wX_at (cs := cs) hF_8).trans hP_11_z
  obtain ⟨hin_7, a_12, e_13, h⟩ := h
  refine ag_aald E1 (t0 := 6) hP_11 rfl rfl hin_7 dX0_saysWorth_73 (v := .ref a_12) (by rw [e_13]; rfl) ?_
  refine ag_iconst E1 dX0_saysWorth_74 ki_1 ?_
  obtain ⟨hF_15, h⟩ := h
  obtain ⟨n_16, c_17, hP_18_z, h⟩ := h
  have hP_18 := (wX_at (cs := cs) hF_15).trans hP_18_z
  obtain ⟨hin_14, a_19, e_20, h⟩ := h
  refine ag_aald E1 (t0 := 5) hP_18 rfl rfl hin_14 dX0_saysWorth_75 (v := .ref a_19) (by rw [e_20]; rfl) ?_
  refine ag_aload_n E1 dX0_saysWorth_76 rfl 0 rfl ?_
  refine ax_geta E 12 (i := 10) (by decide) rfl rfl q678 dX0_saysWorth_77 ?_
  obtain ⟨dn_23, hd_24, h⟩ := h
  refine ag_nodeF E1 (node_ok _ _ _ _ _ _ _ dn_23 _ _ _ _ h) q854 (by omega) (by omega) (Nat.le_of_ble_eq_true rfl) dX0_saysWorth_80 (fun r_21 f_22_w h => ?_)
  obtain ⟨f_22, rfl, h⟩ := h
  refine ag_istore E1 (lv' := [(5, .int r_21), (0, .ref o)]) dX0_saysWorth_85 (Nat.lt_of_lt_of_le (Nat.le_refl _) (Nat.le_of_ble_eq_true rfl)) rfl ?_
  refine ag_sipush E1 dX0_saysWorth_87 ks_m999 ?_
  refine ag_sipush E1 dX0_saysWorth_90 ks_999 ?_
  refine ag_iload E1 dX0_saysWorth_93 0 rfl ?_
  refine ag_mmin E1 q806 q356 q96 q357 (Nat.le_of_ble_eq_true rfl) (Nat.le_of_ble_eq_true rfl) (Nat.le_of_ble_eq_true rfl) dX0_saysWorth_95 ?_
  refine ag_mmax E1 q892 q338 q96 q339 (Nat.le_of_ble_eq_true rfl) (Nat.le_of_ble_eq_true rfl) (Nat.le_of_ble_eq_true rfl) dX0_saysWorth_98 ?_
  exact ax_iret E rfl ⟨_, rfl, h⟩ dX0_saysWorth_101
theorem kX0_saysWorth (l : Launch) (D : va_G) (cs : Nat → ClassId) (b : Nat) (H0 : Heap) (ad : Nat → Nat) (vs : Nat → Option Nat) (o : Nat) (f : XS) (x1 : Int32) (x2 : Int32) (x3 : Int32) (x4 : Int32) (Q : Int32 → XS → Prop) (h : wX0_saysWorth b cs ad vs o f x1 x2 x3 x4 Q) : CX l D cs b H0 (XKd b H0 ad vs) o yX0_saysWorth cX0_saysWorth 6 (some .int) 201 8040 [.ref o, .int x1, .int x2, .int x3, .int x4] f (xI Q) := by
  refine cx_of (by decide) (Nat.le_of_ble_eq_true rfl) (fun p e R s m below meth c E => ?_)
  have E1 := E.1
  refine ag_sub (lv' := [(0, .ref o), (1, .int x1), (2, .int x2), (3, .int x3), (4, .int x4)]) [0, 1, 2, 3, 4] rfl ?_
  refine ag_aload_n E1 dX0_saysWorth_0 rfl 0 rfl ?_
  refine ax_geta E 12 (i := 10) (by decide) rfl rfl q678 dX0_saysWorth_1 ?_
  refine ag_iconst E1 dX0_saysWorth_4 ki_0 ?_
  refine ag_iload_n E1 dX0_saysWorth_5 rfl 3 rfl ?_
  obtain ⟨hin, h⟩ := h
  refine ax_iast E 12 rfl rfl rfl (by decide) hin dX0_saysWorth_6 (fun f_1 e_f_1 => ?_)
  have h := h f_1 e_f_1
  refine ag_aload_n E1 dX0_saysWorth_7 rfl 0 rfl ?_
  refine ax_geta E 12 (i := 10) (by decide) rfl rfl q678 dX0_saysWorth_8 ?_
  refine ag_iconst E1 dX0_saysWorth_11 ki_1 ?_
  refine ag_aload_n E1 dX0_saysWorth_12 rfl 0 rfl ?_
  refine ax_geta E 0 (i := 1) (by decide) rfl rfl q666 dX0_saysWorth_13 ?_
  refine ag_iload_n E1 dX0_saysWorth_16 rfl 1 rfl ?_
  obtain ⟨hin, h⟩ := h
  refine ax_iald E 0 rfl rfl rfl (by decide) hin dX0_saysWorth_17 ?_
  obtain ⟨hin, h⟩ := h
  refine ax_iast E 12 rfl rfl rfl (by decide) hin dX0_saysWorth_18 (fun f_2 e_f_2 => ?_)
  have h := h f_2 e_f_2
  refine ag_aload_n E1 dX0_saysWorth_19 rfl 0 rfl ?_
  refine ax_geta E 12 (i := 10) (by decide) rfl rfl q678 dX0_saysWorth_20 ?_
  refine ag_iconst E1 dX0_saysWorth_23 ki_2 ?_
  refine ag_iload E1 dX0_saysWorth_24 4 rfl ?_
  obtain ⟨hin, h⟩ := h
  refine ax_iast E 12 rfl rfl rfl (by decide) hin dX0_saysWorth_26 (fun f_3 e_f_3 => ?_)
  have h := h f_3 e_f_3
  refine ag_aload_n E1 dX0_saysWorth_27 rfl 0 rfl ?_
  refine ax_geta E 12 (i := 10) (by decide) rfl rfl q678 dX0_saysWorth_28 ?_
  refine ag_iconst E1 dX0_saysWorth_31 ki_3 ?_
  refine ag_iload_n E1 dX0_saysWorth_32 rfl 2 rfl ?_
  obtain ⟨hin, h⟩ := h
  refine ax_iast E 12 rfl rfl rfl (by decide) hin dX0_saysWorth_33 (fun f_4 e_f_4 => ?_)
  have h := h f_4 e_f_4
  refine ag_aload_n E1 dX0_saysWorth_34 rfl 0 rfl ?_
  refine ax_geta E 12 (i := 10) (by decide) rfl rfl q678 dX0_saysWorth_35 ?_
  refine ag_iconst E1 dX0_saysWorth_38 ki_4 ?_
  refine ag_aload_n E1 dX0_saysWorth_39 rfl 0 rfl ?_
  refine ax_geta E 2 (i := 3) (by decide) rfl rfl q668 dX0_saysWorth_40 ?_
  refine ag_iload_n E1 dX0_saysWorth_43 rfl 1 rfl ?_
  obtain ⟨hin, h⟩ := h
  refine ax_iald E 2 rfl rfl rfl (by decide) hin dX0_saysWorth_44 ?_
  refine ag_iload_n E1 dX0_saysWorth_45 rfl 2 rfl ?_
  refine ag_icmp_ne E1 (tgt := 53) dX0_saysWorth_46 (by decide) (fun c_46 => ?_) (fun c_46 => ?_)
  · have h := h.1 c_46
    refine ag_iconst E1 dX0_saysWorth_53 ki_0 ?_
    refine ag_sub (lv' := [(0, .ref o)]) [0] rfl ?_
    exact tbX0_saysWorth_54 E  h
  · have h := h.2 c_46
    refine ag_iconst E1 dX0_saysWorth_49 ki_1 ?_
    refine ag_goto E1 (tgt := 54) dX0_saysWorth_50 (by decide) ?_
    refine ag_sub (lv' := [(0, .ref o)]) [0] rfl ?_
    exact tbX0_saysWorth_54 E  h
theorem hdX0_saysWorth : yX0_saysWorth.cls = RX0 ∧ yX0_saysWorth.cls ≠ "java/lang/invoke/MethodHandle" ∧ yX0_saysWorth.cls ≠ "java/lang/invoke/VarHandle" ∧ (parseMethodDescriptor yX0_saysWorth.desc).map (fun d => d.parameters.length) = some 4 := by decide +kernel
theorem kX0_worthOf (l : Launch) (D : va_G) (cs : Nat → ClassId) (b : Nat) (H0 : Heap) (ad : Nat → Nat) (vs : Nat → Option Nat) (o : Nat) (f : XS) (x1 : Int32) (x2 : Int32) (x3 : Int32) (x4 : Int32) (Q : Int64 → XS → Prop) (h : wX0_worthOf b cs ad vs o f x1 x2 x3 x4 Q) : CX l D cs b H0 (XKd b H0 ad vs) o yX0_worthOf cX0_worthOf 5 (some .long) 202 8065 [.ref o, .int x1, .int x2, .int x3, .int x4] f (xJ Q) := by
  refine cx_of (by decide) (Nat.le_of_ble_eq_true rfl) (fun p e R s m below meth c E => ?_)
  have E1 := E.1
  refine ag_sub (lv' := [(0, .ref o), (1, .int x1), (2, .int x2), (3, .int x3), (4, .int x4)]) [0, 1, 2, 3, 4] rfl ?_
  refine ag_aload_n E1 dX0_worthOf_0 rfl 0 rfl ?_
  refine ag_iload_n E1 dX0_worthOf_1 rfl 1 rfl ?_
  refine ax_callVi E [.int x1] (kX0_isTown _ _ _ _ _ _ _ _ _ _ _ h) (lw_V q811 q813 qs14 q83 q814) hdX0_isTown (Nat.le_of_ble_eq_true rfl) (Nat.le_of_ble_eq_true rfl) rfl (Nat.le_of_ble_eq_true rfl) dX0_worthOf_2 rfl (fun r_2 f_1 h => ?_)
  refine ag_if_eq E1 (tgt := 54) dX0_worthOf_5 (by decide) (fun c_5 => ?_) (fun c_5 => ?_)
  · have h := h.1 c_5
    refine ag_ldc2 E1 q879 dX0_worthOf_54 ?_
    exact ax_lret E rfl ⟨_, rfl, h⟩ dX0_worthOf_57
  · have h := h.2 c_5
    refine ag_aload_n E1 dX0_worthOf_8 rfl 0 rfl ?_
    refine ag_iload_n E1 dX0_worthOf_9 rfl 2 rfl ?_
    refine ax_callVi E [.int x2] (kX0_isDay _ _ _ _ _ _ _ _ _ _ _ h) (lw_V q884 q886 qs17 q83 q887) hdX0_isDay (Nat.le_of_ble_eq_true rfl) (Nat.le_of_ble_eq_true rfl) rfl (Nat.le_of_ble_eq_true rfl) dX0_worthOf_10 rfl (fun r_4 f_3 h => ?_)
    refine ag_if_eq E1 (tgt := 54) dX0_worthOf_13 (by decide) (fun c_13 => ?_) (fun c_13 => ?_)
    · have h := h.1 c_13
      refine ag_ldc2 E1 q879 dX0_worthOf_54 ?_
      exact ax_lret E rfl ⟨_, rfl, h⟩ dX0_worthOf_57
    · have h := h.2 c_13
      refine ag_iload_n E1 dX0_worthOf_16 rfl 3 rfl ?_
      refine ag_i2l E1 dX0_worthOf_17 ?_
      refine ag_lconst E1 (v := 0) dX0_worthOf_18 rfl ?_
      refine ag_ldc2 E1 q800 dX0_worthOf_19 ?_
      refine ag_callPi E1 (As := [.long (Int32.toInt64 x3), .long (0 : Int64), .long (99 : Int64)]) (kX0_in _ _ _ _ _ _ _ _ _ _ _ _ h) (lw_S q801 q280 q83 q281) hdX0_in (Nat.le_of_ble_eq_true rfl) (Nat.le_of_ble_eq_true rfl) rfl (Nat.le_of_ble_eq_true rfl) dX0_worthOf_22 rfl (fun r_5 h => ?_)
      refine ag_if_eq E1 (tgt := 54) dX0_worthOf_25 (by decide) (fun c_25 => ?_) (fun c_25 => ?_)
      · have h := h.1 c_25
        refine ag_ldc2 E1 q879 dX0_worthOf_54 ?_
        exact ax_lret E rfl ⟨_, rfl, h⟩ dX0_worthOf_57
      · have h := h.2 c_25
        refine ag_iload E1 dX0_worthOf_28 4 rfl ?_
        refine ag_i2l E1 dX0_worthOf_30 ?_
        refine ag_lconst E1 (v := 0) dX0_worthOf_31 rfl ?_
        refine ag_ldc2 E1 q832 dX0_worthOf_32 ?_
        refine ag_callPi E1 (As := [.long (Int32.toInt64 x4), .long (0 : Int64), .long (6 : Int64)]) (kX0_in _ _ _ _ _ _ _ _ _ _ _ _ h) (lw_S q801 q280 q83 q281) hdX0_in (Nat.le_of_ble_eq_true rfl) (Nat.le_of_ble_eq_true rfl) rfl (Nat.le_of_ble_eq_true rfl) dX0_worthOf_35 rfl (fun r_6 h => ?_)
        refine ag_if_eq E1 (tgt := 54) dX0_worthOf_38 (by decide) (fun c_38 => ?_) (fun c_38 => ?_)
        · have h := h.1 c_38
          refine ag_ldc2 E1 q879 dX0_worthOf_54 ?_
          exact ax_lret E rfl ⟨_, rfl, h⟩ dX0_worthOf_57
        · have h := h.2 c_38
          refine ag_aload_n E1 dX0_worthOf_41 rfl 0 rfl ?_
          refine ag_iload_n E1 dX0_worthOf_42 rfl 1 rfl ?_
          refine ag_iload_n E1 dX0_worthOf_43 rfl 2 rfl ?_
          refine ag_iload_n E1 dX0_worthOf_44 rfl 3 rfl ?_
          refine ag_iload E1 dX0_worthOf_45 4 rfl ?_
          refine ax_callVi E [.int x1, .int x2, .int x3, .int x4] (kX0_saysWorth _ _ _ _ _ _ _ _ _ _ _ _ _ _ h) (lw_V q888 q890 qs18 q83 q891) hdX0_saysWorth (Nat.le_of_ble_eq_true rfl) (Nat.le_of_ble_eq_true rfl) rfl (Nat.le_of_ble_eq_true rfl) dX0_worthOf_47 rfl (fun r_8 f_7 h => ?_)
          refine ag_i2l E1 dX0_worthOf_50 ?_
          refine ag_goto E1 (tgt := 57) dX0_worthOf_51 (by decide) ?_
          exact ax_lret E rfl ⟨_, rfl, h⟩ dX0_worthOf_57
theorem hdX0_worthOf : yX0_worthOf.cls = RX0 ∧ yX0_worthOf.cls ≠ "java/lang/invoke/MethodHandle" ∧ yX0_worthOf.cls ≠ "java/lang/invoke/VarHandle" ∧ (parseMethodDescriptor yX0_worthOf.desc).map (fun d => d.parameters.length) = some 4 := by decide +kernel
theorem tbX0_giving_79 (E : EX p R s m args meth c cX0_giving 7 RX0 (some .int) D cs b H0 (XKd b H0 ad vs) [] 7 171 z u) {Q : Int32 → XS → Prop} {K79 : Nat → Nat → Nat → Int32 → XS → Prop} (hK79 : ∀ (x3 : Nat) (x4 : Nat) (x5 : Nat) (x6 : Int32) (f : XS), K79 x3 x4 x5 x6 f → AX p l e R s m args below meth c D cs b 7 o z u (xI Q) 79 [(0, .ref o), (3, .ref (o + 25 + 2 * x3)), (4, .ref x4), (5, .ref x5), (6, .int x6)] [] f) {K135 : Nat → XS → Prop} (hK135 : ∀ (x5 : Nat) (f : XS), K135 x5 f → AX p l e R s m args below meth c D cs b 7 o z u (xI Q) 135 [(0, .ref o), (5, .ref x5)] [] f) {x3 : Nat} {x4 : Nat} {x5 : Nat} {x6 : Int32} {f : XS} (h : wbX0_giving_79 b cs ad vs o K79 K135 Q x3 x4 x5 x6 f) : AX p l e R s m args below meth c D cs b 7 o z u (xI Q) 79 [(0, .ref o), (3, .ref (o + 25 + 2 * x3)), (4, .ref x4), (5, .ref x5), (6, .int x6)] [] f := by
  have E1 := E.1
  refine ag_iload E1 dX0_giving_79 4 rfl ?_
  refine ag_aload_n E1 dX0_giving_81 rfl 0 rfl ?_
  refine ax_geti E 6 (by decide) rfl q672 dX0_giving_82 ?_
  refine ag_icmp_ge E1 (tgt := 135) dX0_giving_85 (by decide) (fun c_85 => ?_) (fun c_85 => ?_)
  · have h := h.1 c_85
    refine ag_sub (lv' := [(0, .ref o), (5, .ref x5)]) [0, 3] rfl ?_
    exact hK135 _ _ h
  · have h := h.2 c_85
    refine ag_aload_n E1 dX0_giving_88 rfl 1 rfl ?_
    obtain ⟨ht_24, h⟩ := h
    refine ag_get E1 (ci := 2) (C := RX1) (T := TX1) (N := 3) (k := 2) (v := .ref (o + 26 + 2 * x3)) rfl in_X1 (by decide) q169 (fun _ h => h) dX0_giving_89 (wX_sheet ht_24) rfl ?_
    refine ag_iload E1 dX0_giving_92 4 rfl ?_
    obtain ⟨ht_25, h⟩ := h
    obtain ⟨hin_26, h⟩ := h
    refine ag_iald E1 (t0 := 0) (wX_cells ht_25) rfl hin_26 dX0_giving_94 ?_
    refine ag_i2l E1 dX0_giving_95 ?_
    refine ag_lconst E1 (v := 0) dX0_giving_96 rfl ?_
    refine ag_aload E1 dX0_giving_97 3 rfl ?_
    refine ag_aload_n E1 dX0_giving_99 rfl 0 rfl ?_
    refine ax_geti E 7 (by decide) rfl q673 dX0_giving_100 ?_
    refine av_mostTold E1 h q982 (Nat.le_of_ble_eq_true rfl) (Nat.le_of_ble_eq_true rfl) (Nat.le_of_ble_eq_true rfl) dX0_giving_103 (fun r_27 f_28_w h => ?_)
    obtain ⟨f_28, rfl, h⟩ := h
    refine ag_i2l E1 dX0_giving_106 ?_
    refine ag_callPi E1 (As := [.long (Int32.toInt64 (f.1 (70 + x3) (Int32.toNatClampNeg x6))), .long (0 : Int64), .long (Int32.toInt64 r_27)]) (kX0_in _ _ _ _ _ _ _ _ _ _ _ _ h) (lw_S q801 q280 q83 q281) hdX0_in (Nat.le_of_ble_eq_true rfl) (Nat.le_of_ble_eq_true rfl) rfl (Nat.le_of_ble_eq_true rfl) dX0_giving_107 rfl (fun r_29 h => ?_)
    refine ag_if_ne E1 (tgt := 116) dX0_giving_110 (by decide) (fun c_110 => ?_) (fun c_110 => ?_)
    · have h := h.1 c_110
      refine ag_aload E1 dX0_giving_116 2 rfl ?_
      refine ag_iload E1 dX0_giving_118 4 rfl ?_
      refine ag_aload_n E1 dX0_giving_120 rfl 1 rfl ?_
      obtain ⟨ht_30, h⟩ := h
      refine ag_get E1 (ci := 2) (C := RX1) (T := TX1) (N := 3) (k := 2) (v := .ref (o + 26 + 2 * x3)) rfl in_X1 (by decide) q169 (fun _ h => h) dX0_giving_121 (wX_sheet ht_30) rfl ?_
      refine ag_iload E1 dX0_giving_124 4 rfl ?_
      obtain ⟨ht_31, h⟩ := h
      obtain ⟨hin_32, h⟩ := h
      refine ag_iald E1 (t0 := 0) (wX_cells ht_31) rfl hin_32 dX0_giving_126 ?_
      refine ag_i2b E1 dX0_giving_127 ?_
      obtain ⟨hF_33, h⟩ := h
      obtain ⟨n_34, c_35, hP_36_z, h⟩ := h
      have hP_36 := (wX_at (cs := cs) hF_33).trans hP_36_z
      obtain ⟨hin_37, h⟩ := h
      refine ag_bast E1 (t0 := 1) hP_36 rfl hin_37 dX0_giving_128 ?_
      refine ag_named (fun f_38_w e_39_w => ?_)
      refine ag_eqX (e_39_w.trans (wX_upd hF_33)) (fun f_38 e_39 => ?_)
      have h := h f_38 e_39
      refine ag_iincN E1 (lv' := fun x6_40 => [(6, .int x6_40), (0, .ref o), (3, .ref (o + 25 + 2 * x3)), (4, .ref x4), (5, .ref x5)]) dX0_giving_129 4 rfl ki_1 (Nat.lt_of_lt_of_le (Nat.le_refl _) (Nat.le_of_ble_eq_true rfl)) (fun _ => rfl) (fun x6_40 e_x6_40 => ?_)
      have h := h x6_40 e_x6_40
      refine ag_goto E1 (tgt := 79) dX0_giving_132 (by decide) ?_
      refine ag_sub (lv' := [(0, .ref o), (3, .ref (o + 25 + 2 * x3)), (4, .ref x4), (5, .ref x5), (6, .int x6_40)]) [1, 2, 3, 4, 0] rfl ?_
      exact hK79 _ _ _ _ _ h
    · have h := h.2 c_110
      refine ag_bipush E1 dX0_giving_113 kb_m2 ?_
      exact ax_iret E rfl ⟨_, rfl, h⟩ dX0_giving_115
theorem tlX0_giving_79 (E : EX p R s m args meth c cX0_giving 7 RX0 (some .int) D cs b H0 (XKd b H0 ad vs) [] 7 171 z u) {Q : Int32 → XS → Prop} {K135 : Nat → XS → Prop} (hK135 : ∀ (x5 : Nat) (f : XS), K135 x5 f → AX p l e R s m args below meth c D cs b 7 o z u (xI Q) 135 [(0, .ref o), (5, .ref x5)] [] f) : ∀ (n : Nat) (x3 : Nat) (x4 : Nat) (x5 : Nat) (x6 : Int32) (f : XS), wlX0_giving_79 b cs ad vs o K135 Q n x3 x4 x5 x6 f → AX p l e R s m args below meth c D cs b 7 o z u (xI Q) 79 [(0, .ref o), (3, .ref (o + 25 + 2 * x3)), (4, .ref x4), (5, .ref x5), (6, .int x6)] [] f := by
  intro n
  induction n with
  | zero => intro _ _ _ _ _ h; exact h.elim
  | succ n ih => intro x3 x4 x5 x6 f h; exact tbX0_giving_79 E ih hK135 h
theorem kX0_giving (l : Launch) (D : va_G) (cs : Nat → ClassId) (b : Nat) (H0 : Heap) (ad : Nat → Nat) (vs : Nat → Option Nat) (o : Nat) (f : XS) (x1 : Int32) (x2 : Int32) (Q : Int32 → XS → Prop) (h : wX0_giving b cs ad vs o f x1 x2 Q) : CX l D cs b H0 (XKd b H0 ad vs) o yX0_giving cX0_giving 7 (some .int) 7 171 [.ref o, .int x1, .int x2] f (xI Q) := by
  refine cx_of (by decide) (Nat.le_of_ble_eq_true rfl) (fun p e R s m below meth c E => ?_)
  have E1 := E.1
  refine ag_sub (lv' := [(0, .ref o), (1, .int x1), (2, .int x2)]) [0, 1, 2] rfl ?_
  refine ag_iload_n E1 dX0_giving_0 rfl 1 rfl ?_
  refine ag_i2l E1 dX0_giving_1 ?_
  refine ag_lconst E1 (v := 0) dX0_giving_2 rfl ?_
  refine ag_ldc2 E1 q897 dX0_giving_3 ?_
  refine ag_callPi E1 (As := [.long (Int32.toInt64 x1), .long (0 : Int64), .long (5 : Int64)]) (kX0_in _ _ _ _ _ _ _ _ _ _ _ _ h) (lw_S q801 q280 q83 q281) hdX0_in (Nat.le_of_ble_eq_true rfl) (Nat.le_of_ble_eq_true rfl) rfl (Nat.le_of_ble_eq_true rfl) dX0_giving_6 rfl (fun r_1 h => ?_)
  refine ag_if_eq E1 (tgt := 19) dX0_giving_9 (by decide) (fun c_9 => ?_) (fun c_9 => ?_)
  · have h := h.1 c_9
    refine ag_bipush E1 dX0_giving_19 kb_m2 ?_
    exact ax_iret E rfl ⟨_, rfl, h⟩ dX0_giving_21
  · have h := h.2 c_9
    refine ag_iload_n E1 dX0_giving_12 rfl 2 rfl ?_
    refine ag_callPi E1 (As := [.int x2]) (kX0_isSheet _ _ _ _ _ _ _ _ _ _ h) (lw_S q898 q899 q83 q900) hdX0_isSheet (Nat.le_of_ble_eq_true rfl) (Nat.le_of_ble_eq_true rfl) rfl (Nat.le_of_ble_eq_true rfl) dX0_giving_13 rfl (fun r_2 h => ?_)
    refine ag_if_ne E1 (tgt := 22) dX0_giving_16 (by decide) (fun c_16 => ?_) (fun c_16 => ?_)
    · have h := h.1 c_16
      refine ag_aload_n E1 dX0_giving_22 rfl 0 rfl ?_
      refine ax_geto E 42 (i := 24) (by decide) rfl (fun _ => rfl) q708 dX0_giving_23 ?_
      refine ag_iload_n E1 dX0_giving_26 rfl 2 rfl ?_
      obtain ⟨hin_3, h⟩ := h
      refine ag_aald E1 (t0 := 7) wX_sheets rfl rfl hin_3 dX0_giving_27 (v := .ref (o + 25 + 2 * (Int32.toNatClampNeg x2))) rfl ?_
      refine ag_astore_n E1 (lv' := [(3, .ref (o + 25 + 2 * (Int32.toNatClampNeg x2))), (0, .ref o), (1, .int x1), (2, .int x2)]) dX0_giving_28 rfl (Nat.lt_of_lt_of_le (Nat.le_refl _) (Nat.le_of_ble_eq_true rfl)) rfl ?_
      refine ag_aload_n E1 dX0_giving_29 rfl 0 rfl ?_
      obtain ⟨ht_4, h⟩ := h
      refine ag_get E1 (ci := 2) (C := RX1) (T := TX1) (N := 3) (k := 0) (v := .int (f.1 (60 + (Int32.toNatClampNeg x2)) 0)) rfl in_X1 (by decide) q165 (fun _ h => h) dX0_giving_30 (wX_sheet ht_4) rfl ?_
      refine ag_if_ge E1 (tgt := 39) dX0_giving_33 (by decide) (fun c_33 => ?_) (fun c_33 => ?_)
      · have h := h.1 c_33
        refine ag_aload_n E1 dX0_giving_39 rfl 0 rfl ?_
        obtain ⟨ht_5, h⟩ := h
        refine ag_get E1 (ci := 2) (C := RX1) (T := TX1) (N := 3) (k := 1) (v := .int (f.1 (60 + (Int32.toNatClampNeg x2)) 1)) rfl in_X1 (by decide) q167 (fun _ h => h) dX0_giving_40 (wX_sheet ht_5) rfl ?_
        refine ag_aload_n E1 dX0_giving_43 rfl 1 rfl ?_
        refine ax_geti E 6 (by decide) rfl q672 dX0_giving_44 ?_
        refine ag_icmp_eq E1 (tgt := 53) dX0_giving_47 (by decide) (fun c_47 => ?_) (fun c_47 => ?_)
        · have h := h.1 c_47
          refine ag_aload_n E1 dX0_giving_53 rfl 1 rfl ?_
          refine ax_geti E 6 (by decide) rfl q672 dX0_giving_54 ?_
          obtain ⟨hb_8, hb_9, hb_10, hF_13_0, h⟩ := h
          refine ag_newarr_byte E1 (t0 := 1) q177 rfl hb_8 rfl hb_9 hb_10 dX0_giving_57 (fun a_6 f_7_w e_11 e_12_w => ?_)
          refine ag_eqX (e_12_w.trans (wX_new hF_13_0)) (fun f_7 e_12 => ?_)
          have h := h a_6 f_7 e_11 e_12
          have hF_13 : xF o a_6 := by rw [e_11]; exact hF_13_0
          have hP_14 : (wX o cs f_7).1 a_6 = some (.inl (cs 1, (Int32.toNatClampNeg (f.1 99 6)), .inl (fun _ => 0))) := (wX_at hF_13).trans (by rw [e_12, e_11]; exact xNew_s)
          refine ag_astore E1 (lv' := [(4, .ref a_6), (3, .ref (o + 25 + 2 * (Int32.toNatClampNeg x2))), (0, .ref o), (1, .int x1), (2, .int x2)]) dX0_giving_59 (Nat.lt_of_lt_of_le (Nat.le_refl _) (Nat.le_of_ble_eq_true rfl)) rfl ?_
          refine ag_iload_n E1 dX0_giving_61 rfl 3 rfl ?_
          refine ag_aload_n E1 dX0_giving_62 rfl 2 rfl ?_
          refine ax_geto E 11 (i := 9) (by decide) rfl (fun _ => rfl) q677 dX0_giving_63 ?_
          obtain ⟨hF_16, h⟩ := h
          obtain ⟨y_17, v_18, y_19, hP_20_z, h⟩ := h
          have hP_20 := (wX_at (cs := cs) hF_16).trans hP_20_z
          refine ag_callV E1 (ci := 16) (C := RJ2) (T0 := TJ2) (n2 := 3) hP_20 rfl (kJ2_size _ _ _ _ _ _ _ _ _ _ h) (lw_V q902 q903 q904 q86 q905) ⟨rfl, hdJ2_size⟩ (Nat.le_of_ble_eq_true rfl) (Nat.le_of_ble_eq_true rfl) (As := []) rfl (Nat.le_of_ble_eq_true rfl) dX0_giving_66 (fun v_ f_15_w hv => ?_) rfl
          obtain ⟨r_21, rfl, f_15, rfl, h⟩ := hv
          refine ag_aload E1 dX0_giving_69 0 rfl ?_
          refine ag_callS E1 (kX0_made _ _ _ _ _ _ _ _ _ _ _ _ h) (lw_S q906 q907 q83 q908) hdX0_made (Nat.le_of_ble_eq_true rfl) (Nat.le_of_ble_eq_true rfl) (As := [.int x1, .int r_21, .ref a_6]) rfl (Nat.le_of_ble_eq_true rfl) dX0_giving_71 (fun v_ f_22_w hv => ?_) rfl
          obtain ⟨r_23, rfl, f_22, rfl, h⟩ := hv
          refine ag_astore E1 (lv' := [(5, .ref r_23), (4, .ref a_6), (3, .ref (o + 25 + 2 * (Int32.toNatClampNeg x2))), (0, .ref o), (1, .int x1), (2, .int x2)]) dX0_giving_74 (Nat.lt_of_lt_of_le (Nat.le_refl _) (Nat.le_of_ble_eq_true rfl)) rfl ?_
          refine ag_iconst E1 dX0_giving_76 ki_0 ?_
          refine ag_istore E1 (lv' := [(6, .int (0 : Int32)), (5, .ref r_23), (4, .ref a_6), (3, .ref (o + 25 + 2 * (Int32.toNatClampNeg x2))), (0, .ref o), (1, .int x1), (2, .int x2)]) dX0_giving_77 (Nat.lt_of_lt_of_le (Nat.le_refl _) (Nat.le_of_ble_eq_true rfl)) rfl ?_
          refine ag_sub (lv' := [(0, .ref o), (3, .ref (o + 25 + 2 * (Int32.toNatClampNeg x2))), (4, .ref a_6), (5, .ref r_23), (6, .int (0 : Int32))]) [4, 3, 2, 1, 0] rfl ?_
          obtain ⟨n, h⟩ := h
          refine tlX0_giving_79 E ?_ n _ _ _ _ _ h
          · intro x5 f h
            refine ag_aload_n E1 dX0_giving_135 rfl 0 rfl ?_
            refine ax_geto E 11 (i := 9) (by decide) rfl (fun _ => rfl) q677 dX0_giving_136 ?_
            obtain ⟨hF_42, h⟩ := h
            obtain ⟨y_43, v_44, y_45, hP_46_z, h⟩ := h
            have hP_46 := (wX_at (cs := cs) hF_42).trans hP_46_z
            refine ag_callV E1 (ci := 16) (C := RJ2) (T0 := TJ2) (n2 := 3) hP_46 rfl (kJ2_size _ _ _ _ _ _ _ _ _ _ h) (lw_V q902 q903 q904 q86 q905) ⟨rfl, hdJ2_size⟩ (Nat.le_of_ble_eq_true rfl) (Nat.le_of_ble_eq_true rfl) (As := []) rfl (Nat.le_of_ble_eq_true rfl) dX0_giving_139 (fun v_ f_41_w hv => ?_) rfl
            obtain ⟨r_47, rfl, f_41, rfl, h⟩ := hv
            refine ag_bipush E1 dX0_giving_142 kb_12 ?_
            refine ag_icmp_ne E1 (tgt := 150) dX0_giving_144 (by decide) (fun c_144 => ?_) (fun c_144 => ?_)
            · have h := h.1 c_144
              refine ag_aload_n E1 dX0_giving_150 rfl 0 rfl ?_
              refine ax_geto E 11 (i := 9) (by decide) rfl (fun _ => rfl) q677 dX0_giving_151 ?_
              refine ag_aload E1 dX0_giving_154 1 rfl ?_
              obtain ⟨y_49, v_50, y_51, hP_52_z, h⟩ := h
              have hP_52 := (wX_at (cs := cs) hF_42).trans hP_52_z
              refine ag_callV E1 (ci := 16) (C := RJ2) (T0 := TJ2) (n2 := 3) hP_52 rfl (kJ2_add _ _ _ _ _ _ _ _ _ _ _ h) (lw_V q994 q995 q996 q86 q997) ⟨rfl, hdJ2_add⟩ (Nat.le_of_ble_eq_true rfl) (Nat.le_of_ble_eq_true rfl) (As := [.ref x5]) rfl (Nat.le_of_ble_eq_true rfl) dX0_giving_156 (fun v_ f_48_w hv => ?_) rfl
              obtain ⟨r_53, rfl, f_48, rfl, h⟩ := hv
              refine ag_pop E1 dX0_giving_159 rfl ?_
              refine ag_aload E1 dX0_giving_160 1 rfl ?_
              obtain ⟨hF_54, h⟩ := h
              obtain ⟨ci_55, y_56, y_57, v_58, hz_59, ho_60, h⟩ := h
              refine ag_givf E1 0 (by decide) ho_60 q916 dX0_giving_162 ((wX_at hF_54).trans hz_59) rfl ?_
              exact ax_iret E rfl ⟨_, rfl, h⟩ dX0_giving_165
            · have h := h.2 c_144
              refine ag_bipush E1 dX0_giving_147 kb_m4 ?_
              exact ax_iret E rfl ⟨_, rfl, h⟩ dX0_giving_149
        · have h := h.2 c_47
          refine ag_bipush E1 dX0_giving_50 kb_m2 ?_
          exact ax_iret E rfl ⟨_, rfl, h⟩ dX0_giving_52
      · have h := h.2 c_33
        refine ag_bipush E1 dX0_giving_36 kb_m11 ?_
        exact ax_iret E rfl ⟨_, rfl, h⟩ dX0_giving_38
    · have h := h.2 c_16
      refine ag_bipush E1 dX0_giving_19 kb_m2 ?_
      exact ax_iret E rfl ⟨_, rfl, h⟩ dX0_giving_21
theorem hdX0_giving : yX0_giving.cls = RX0 ∧ yX0_giving.cls ≠ "java/lang/invoke/MethodHandle" ∧ yX0_giving.cls ≠ "java/lang/invoke/VarHandle" ∧ (parseMethodDescriptor yX0_giving.desc).map (fun d => d.parameters.length) = some 2 := by decide +kernel
theorem kX0_isGiving (l : Launch) (D : va_G) (cs : Nat → ClassId) (b : Nat) (H0 : Heap) (ad : Nat → Nat) (vs : Nat → Option Nat) (o : Nat) (f : XS) (x1 : Int32) (Q : Int32 → XS → Prop) (h : wX0_isGiving b cs ad vs o f x1 Q) : CX l D cs b H0 (XKd b H0 ad vs) o yX0_isGiving cX0_isGiving 2 (some .boolean) 1 25 [.ref o, .int x1] f (xI Q) := by
  refine cx_of (by decide) (Nat.le_of_ble_eq_true rfl) (fun p e R s m below meth c E => ?_)
  have E1 := E.1
  refine ag_sub (lv' := [(0, .ref o), (1, .int x1)]) [0, 1] rfl ?_
  refine ag_iload_n E1 dX0_isGiving_0 rfl 1 rfl ?_
  refine ag_i2l E1 dX0_isGiving_1 ?_
  refine ag_lconst E1 (v := 0) dX0_isGiving_2 rfl ?_
  refine ag_aload_n E1 dX0_isGiving_3 rfl 0 rfl ?_
  refine ax_geto E 11 (i := 9) (by decide) rfl (fun _ => rfl) q677 dX0_isGiving_4 ?_
  obtain ⟨hF_2, h⟩ := h
  obtain ⟨y_3, v_4, y_5, hP_6_z, h⟩ := h
  have hP_6 := (wX_at (cs := cs) hF_2).trans hP_6_z
  refine ag_callV E1 (ci := 16) (C := RJ2) (T0 := TJ2) (n2 := 3) hP_6 rfl (kJ2_size _ _ _ _ _ _ _ _ _ _ h) (lw_V q902 q903 q904 q86 q905) ⟨rfl, hdJ2_size⟩ (Nat.le_of_ble_eq_true rfl) (Nat.le_of_ble_eq_true rfl) (As := []) rfl (Nat.le_of_ble_eq_true rfl) dX0_isGiving_7 (fun v_ f_1_w hv => ?_) rfl
  obtain ⟨r_7, rfl, f_1, rfl, h⟩ := hv
  refine ag_i2l E1 dX0_isGiving_10 ?_
  refine ag_lconst E1 (v := 1) dX0_isGiving_11 rfl ?_
  refine ag_lsub E1 dX0_isGiving_12 ?_
  refine ag_callPi E1 (As := [.long (Int32.toInt64 x1), .long (0 : Int64), .long ((Int32.toInt64 r_7) - (1 : Int64))]) (kX0_in _ _ _ _ _ _ _ _ _ _ _ _ h) (lw_S q801 q280 q83 q281) hdX0_in (Nat.le_of_ble_eq_true rfl) (Nat.le_of_ble_eq_true rfl) rfl (Nat.le_of_ble_eq_true rfl) dX0_isGiving_13 rfl (fun r_8 h => ?_)
  exact ax_zret E rfl h.1 ⟨_, rfl, h.2⟩ dX0_isGiving_16
theorem hdX0_isGiving : yX0_isGiving.cls = RX0 ∧ yX0_isGiving.cls ≠ "java/lang/invoke/MethodHandle" ∧ yX0_isGiving.cls ≠ "java/lang/invoke/VarHandle" ∧ (parseMethodDescriptor yX0_isGiving.desc).map (fun d => d.parameters.length) = some 1 := by decide +kernel
theorem tbX0_market_114 (E : EX p R s m args meth c cX0_market 6 RX0 (some .int) D cs b H0 (XKd b H0 ad vs) [] 3 69 z u) {Q : Int32 → XS → Prop} {K25 : Int32 → Int32 → Int32 → XS → Prop} (hK25 : ∀ (x3 : Int32) (x4 : Int32) (x5 : Int32) (f : XS), K25 x3 x4 x5 f → AX p l e R s m args below meth c D cs b 6 o z u (xI Q) 25 [(0, .ref o), (3, .int x3), (4, .int x4), (5, .int x5)] [] f) {x3 : Int32} {x4 : Int32} {x5 : Int32} {f : XS} (h : wbX0_market_114 b cs ad vs o K25 Q x3 x4 x5 f) : AX p l e R s m args below meth c D cs b 6 o z u (xI Q) 114 [(0, .ref o), (3, .int x3), (4, .int x4), (5, .int x5)] [] f := by
  have E1 := E.1
  refine ag_iincN E1 (lv' := fun x5_5 => [(5, .int x5_5), (0, .ref o), (3, .int x3), (4, .int x4)]) dX0_market_114 3 rfl ki_1 (Nat.lt_of_lt_of_le (Nat.le_refl _) (Nat.le_of_ble_eq_true rfl)) (fun _ => rfl) (fun x5_5 e_x5_5 => ?_)
  have h := h x5_5 e_x5_5
  refine ag_goto E1 (tgt := 25) dX0_market_117 (by decide) ?_
  refine ag_sub (lv' := [(0, .ref o), (3, .int x3), (4, .int x4), (5, .int x5_5)]) [1, 2, 3, 0] rfl ?_
  exact hK25 _ _ _ _ h
theorem tbX0_market_25 (E : EX p R s m args meth c cX0_market 6 RX0 (some .int) D cs b H0 (XKd b H0 ad vs) [] 3 69 z u) {Q : Int32 → XS → Prop} {K25 : Int32 → Int32 → Int32 → XS → Prop} (hK25 : ∀ (x3 : Int32) (x4 : Int32) (x5 : Int32) (f : XS), K25 x3 x4 x5 f → AX p l e R s m args below meth c D cs b 6 o z u (xI Q) 25 [(0, .ref o), (3, .int x3), (4, .int x4), (5, .int x5)] [] f) {x3 : Int32} {x4 : Int32} {x5 : Int32} {f : XS} (h : wbX0_market_25 b cs ad vs o K25 Q x3 x4 x5 f) : AX p l e R s m args below meth c D cs b 6 o z u (xI Q) 25 [(0, .ref o), (3, .int x3), (4, .int x4), (5, .int x5)] [] f := by
  have E1 := E.1
  refine ag_iload E1 dX0_market_25 3 rfl ?_
  refine ag_aload_n E1 dX0_market_27 rfl 0 rfl ?_
  refine ax_geti E 10 (by decide) rfl q676 dX0_market_28 ?_
  refine ag_icmp_ge E1 (tgt := 120) dX0_market_31 (by decide) (fun c_31 => ?_) (fun c_31 => ?_)
  · have h := h.1 c_31
    refine ag_iload E1 dX0_market_120 2 rfl ?_
    exact ax_iret E rfl ⟨_, rfl, h⟩ dX0_market_122
  · have h := h.2 c_31
    refine ag_aload_n E1 dX0_market_34 rfl 0 rfl ?_
    refine ax_geta E 8 (i := 7) (by decide) rfl rfl q674 dX0_market_35 ?_
    refine ag_iload E1 dX0_market_38 3 rfl ?_
    obtain ⟨hin, h⟩ := h
    refine ax_iald E 8 rfl rfl rfl (by decide) hin dX0_market_40 ?_
    refine ag_iload_n E1 dX0_market_41 rfl 1 rfl ?_
    refine ag_icmp_ne E1 (tgt := 114) dX0_market_42 (by decide) (fun c_42 => ?_) (fun c_42 => ?_)
    · have h := h.1 c_42
      exact tbX0_market_114 E hK25 h
    · have h := h.2 c_42
      refine ag_aload_n E1 dX0_market_45 rfl 0 rfl ?_
      refine ax_geta E 9 (i := 8) (by decide) rfl rfl q675 dX0_market_46 ?_
      refine ag_iload E1 dX0_market_49 3 rfl ?_
      obtain ⟨hin, h⟩ := h
      refine ax_iald E 9 rfl rfl rfl (by decide) hin dX0_market_51 ?_
      refine ag_aload_n E1 dX0_market_52 rfl 0 rfl ?_
      refine ax_geti E 7 (by decide) rfl q673 dX0_market_53 ?_
      refine ag_icmp_ge E1 (tgt := 114) dX0_market_56 (by decide) (fun c_56 => ?_) (fun c_56 => ?_)
      · have h := h.1 c_56
        exact tbX0_market_114 E hK25 h
      · have h := h.2 c_56
        refine ag_iload E1 dX0_market_59 2 rfl ?_
        refine ag_aload_n E1 dX0_market_61 rfl 0 rfl ?_
        refine ax_geta E 9 (i := 8) (by decide) rfl rfl q675 dX0_market_62 ?_
        refine ag_iload E1 dX0_market_65 3 rfl ?_
        obtain ⟨hin, h⟩ := h
        refine ax_iald E 9 rfl rfl rfl (by decide) hin dX0_market_67 ?_
        refine ag_ishr E1 dX0_market_68 ?_
        refine ag_iconst E1 dX0_market_69 ki_1 ?_
        refine ag_iand E1 dX0_market_70 ?_
        refine ag_if_ne E1 (tgt := 77) dX0_market_71 (by decide) (fun c_71 => ?_) (fun c_71 => ?_)
        · have h := h.1 c_71
          refine ag_iload E1 dX0_market_77 2 rfl ?_
          refine ag_iconst E1 dX0_market_79 ki_1 ?_
          refine ag_aload_n E1 dX0_market_80 rfl 0 rfl ?_
          refine ax_geta E 9 (i := 8) (by decide) rfl rfl q675 dX0_market_81 ?_
          refine ag_iload E1 dX0_market_84 3 rfl ?_
          obtain ⟨hin, h⟩ := h
          refine ax_iald E 9 rfl rfl rfl (by decide) hin dX0_market_86 ?_
          refine ag_ishl E1 dX0_market_87 ?_
          refine ag_iconst E1 dX0_market_88 ki_m1 ?_
          refine ag_ixor E1 dX0_market_89 ?_
          refine ag_iand E1 dX0_market_90 ?_
          refine ag_topi (fun x4_6 e_x4_6 => ?_)
          have h := h x4_6 e_x4_6
          refine ag_istore E1 (lv' := [(4, .int x4_6), (0, .ref o), (3, .int x3), (5, .int x5)]) dX0_market_91 (Nat.lt_of_lt_of_le (Nat.le_refl _) (Nat.le_of_ble_eq_true rfl)) rfl ?_
          refine ag_iload E1 dX0_market_93 0 rfl ?_
          refine ag_iconst E1 dX0_market_95 ki_1 ?_
          refine ag_aload_n E1 dX0_market_96 rfl 1 rfl ?_
          refine ax_geta E 9 (i := 8) (by decide) rfl rfl q675 dX0_market_97 ?_
          refine ag_iload E1 dX0_market_100 3 rfl ?_
          obtain ⟨hin, h⟩ := h
          refine ax_iald E 9 rfl rfl rfl (by decide) hin dX0_market_102 ?_
          refine ag_iconst E1 dX0_market_103 ki_1 ?_
          refine ag_iadd E1 dX0_market_104 ?_
          refine ag_aload_n E1 dX0_market_105 rfl 1 rfl ?_
          refine ax_geti E 7 (by decide) rfl q673 dX0_market_106 ?_
          obtain ⟨hne, h⟩ := h
          refine ag_irem E1 dX0_market_109 hne ?_
          refine ag_ishl E1 dX0_market_110 ?_
          refine ag_ior E1 dX0_market_111 ?_
          refine ag_topi (fun x4_7 e_x4_7 => ?_)
          have h := h x4_7 e_x4_7
          refine ag_istore E1 (lv' := [(4, .int x4_7), (0, .ref o), (3, .int x3), (5, .int x5)]) dX0_market_112 (Nat.lt_of_lt_of_le (Nat.le_refl _) (Nat.le_of_ble_eq_true rfl)) rfl ?_
          refine ag_sub (lv' := [(0, .ref o), (3, .int x3), (4, .int x4_7), (5, .int x5)]) [1, 2, 0, 3] rfl ?_
          exact tbX0_market_114 E hK25 h
        · have h := h.2 c_71
          refine ag_goto E1 (tgt := 114) dX0_market_74 (by decide) ?_
          exact tbX0_market_114 E hK25 h
theorem tlX0_market_25 (E : EX p R s m args meth c cX0_market 6 RX0 (some .int) D cs b H0 (XKd b H0 ad vs) [] 3 69 z u) {Q : Int32 → XS → Prop}  : ∀ (n : Nat) (x3 : Int32) (x4 : Int32) (x5 : Int32) (f : XS), wlX0_market_25 b cs ad vs o  Q n x3 x4 x5 f → AX p l e R s m args below meth c D cs b 6 o z u (xI Q) 25 [(0, .ref o), (3, .int x3), (4, .int x4), (5, .int x5)] [] f := by
  intro n
  induction n with
  | zero => intro _ _ _ _ h; exact h.elim
  | succ n ih => intro x3 x4 x5 f h; exact tbX0_market_25 E ih h
theorem kX0_market (l : Launch) (D : va_G) (cs : Nat → ClassId) (b : Nat) (H0 : Heap) (ad : Nat → Nat) (vs : Nat → Option Nat) (o : Nat) (f : XS) (x1 : Nat) (x2 : Int32) (x3 : Int32) (Q : Int32 → XS → Prop) (h : wX0_market b cs ad vs o f x1 x2 x3 Q) : CX l D cs b H0 (XKd b H0 ad vs) o yX0_market cX0_market 6 (some .int) 3 69 [.ref o, .ref x1, .int x2, .int x3] f (xI Q) := by
  refine cx_of (by decide) (Nat.le_of_ble_eq_true rfl) (fun p e R s m below meth c E => ?_)
  have E1 := E.1
  refine ag_sub (lv' := [(0, .ref o), (1, .ref x1), (2, .int x2), (3, .int x3)]) [0, 1, 2, 3] rfl ?_
  refine ag_aload_n E1 dX0_market_0 rfl 1 rfl ?_
  refine ag_iload_n E1 dX0_market_1 rfl 2 rfl ?_
  refine ag_iload_n E1 dX0_market_2 rfl 3 rfl ?_
  refine ag_aload_n E1 dX0_market_3 rfl 0 rfl ?_
  refine ax_geti E 7 (by decide) rfl q673 dX0_market_4 ?_
  refine av_daysOf E1 h q1070 (Nat.le_of_ble_eq_true rfl) (Nat.le_of_ble_eq_true rfl) (Nat.le_of_ble_eq_true rfl) dX0_market_7 (fun r_1 f_2_w h => ?_)
  obtain ⟨f_2, rfl, h⟩ := h
  refine ag_istore E1 (lv' := [(4, .int r_1), (0, .ref o), (1, .ref x1), (2, .int x2), (3, .int x3)]) dX0_market_10 (Nat.lt_of_lt_of_le (Nat.le_refl _) (Nat.le_of_ble_eq_true rfl)) rfl ?_
  refine ag_aload_n E1 dX0_market_12 rfl 2 rfl ?_
  refine av_moves E1 h q1089 (Nat.le_of_ble_eq_true rfl) (Nat.le_of_ble_eq_true rfl) (Nat.le_of_ble_eq_true rfl) dX0_market_13 (fun r_3 f_4_w h => ?_)
  obtain ⟨f_4, rfl, h⟩ := h
  refine ag_if_ne E1 (tgt := 22) dX0_market_16 (by decide) (fun c_16 => ?_) (fun c_16 => ?_)
  · have h := h.1 c_16
    refine ag_iconst E1 dX0_market_22 ki_0 ?_
    refine ag_istore E1 (lv' := [(5, .int (0 : Int32)), (4, .int r_1), (0, .ref o), (1, .ref x1), (2, .int x2), (3, .int x3)]) dX0_market_23 (Nat.lt_of_lt_of_le (Nat.le_refl _) (Nat.le_of_ble_eq_true rfl)) rfl ?_
    refine ag_sub (lv' := [(0, .ref o), (3, .int x3), (4, .int r_1), (5, .int (0 : Int32))]) [2, 5, 1, 0] rfl ?_
    obtain ⟨n, h⟩ := h
    exact tlX0_market_25 E  n _ _ _ _ h
  · have h := h.2 c_16
    refine ag_iload E1 dX0_market_19 0 rfl ?_
    exact ax_iret E rfl ⟨_, rfl, h⟩ dX0_market_21
theorem hdX0_market : yX0_market.cls = RX0 ∧ yX0_market.cls ≠ "java/lang/invoke/MethodHandle" ∧ yX0_market.cls ≠ "java/lang/invoke/VarHandle" ∧ (parseMethodDescriptor yX0_market.desc).map (fun d => d.parameters.length) = some 3 := by decide +kernel
theorem tbX0_marketOf_24 (E : EX p R s m args meth c cX0_marketOf 4 RX0 (some .int) D cs b H0 (XKd b H0 ad vs) [] 4 94 z u) {Q : Int32 → XS → Prop}   {f : XS} (h : wbX0_marketOf_24 b cs ad vs o  Q  f) : AX p l e R s m args below meth c D cs b 4 o z u (xI Q) 24 [] [] f := by
  have E1 := E.1
  refine ag_bipush E1 dX0_marketOf_24 kb_m5 ?_
  refine ag_goto E1 (tgt := 46) dX0_marketOf_26 (by decide) ?_
  exact ax_iret E rfl ⟨_, rfl, h⟩ dX0_marketOf_46
theorem kX0_marketOf (l : Launch) (D : va_G) (cs : Nat → ClassId) (b : Nat) (H0 : Heap) (ad : Nat → Nat) (vs : Nat → Option Nat) (o : Nat) (f : XS) (x1 : Int32) (x2 : Int32) (x3 : Int32) (Q : Int32 → XS → Prop) (h : wX0_marketOf b cs ad vs o f x1 x2 x3 Q) : CX l D cs b H0 (XKd b H0 ad vs) o yX0_marketOf cX0_marketOf 4 (some .int) 4 94 [.ref o, .int x1, .int x2, .int x3] f (xI Q) := by
  refine cx_of (by decide) (Nat.le_of_ble_eq_true rfl) (fun p e R s m below meth c E => ?_)
  have E1 := E.1
  refine ag_sub (lv' := [(0, .ref o), (1, .int x1), (2, .int x2), (3, .int x3)]) [0, 1, 2, 3] rfl ?_
  refine ag_aload_n E1 dX0_marketOf_0 rfl 0 rfl ?_
  refine ag_iload_n E1 dX0_marketOf_1 rfl 1 rfl ?_
  refine ax_callVi E [.int x1] (kX0_isGiving _ _ _ _ _ _ _ _ _ _ _ h) (lw_V q1050 q1052 qs22 q83 q1053) hdX0_isGiving (Nat.le_of_ble_eq_true rfl) (Nat.le_of_ble_eq_true rfl) rfl (Nat.le_of_ble_eq_true rfl) dX0_marketOf_2 rfl (fun r_2 f_1 h => ?_)
  refine ag_if_eq E1 (tgt := 24) dX0_marketOf_5 (by decide) (fun c_5 => ?_) (fun c_5 => ?_)
  · have h := h.1 c_5
    refine ag_sub (lv' := []) [] rfl ?_
    exact tbX0_marketOf_24 E  h
  · have h := h.2 c_5
    refine ag_aload_n E1 dX0_marketOf_8 rfl 0 rfl ?_
    refine ag_iload_n E1 dX0_marketOf_9 rfl 2 rfl ?_
    refine ax_callVi E [.int x2] (kX0_isTown _ _ _ _ _ _ _ _ _ _ _ h) (lw_V q811 q813 qs14 q83 q814) hdX0_isTown (Nat.le_of_ble_eq_true rfl) (Nat.le_of_ble_eq_true rfl) rfl (Nat.le_of_ble_eq_true rfl) dX0_marketOf_10 rfl (fun r_4 f_3 h => ?_)
    refine ag_if_eq E1 (tgt := 24) dX0_marketOf_13 (by decide) (fun c_13 => ?_) (fun c_13 => ?_)
    · have h := h.1 c_13
      refine ag_sub (lv' := []) [] rfl ?_
      exact tbX0_marketOf_24 E  h
    · have h := h.2 c_13
      refine ag_aload_n E1 dX0_marketOf_16 rfl 0 rfl ?_
      refine ag_iload_n E1 dX0_marketOf_17 rfl 3 rfl ?_
      refine ax_callVi E [.int x3] (kX0_isWeek _ _ _ _ _ _ _ _ _ _ _ h) (lw_V q841 q843 qs15 q83 q844) hdX0_isWeek (Nat.le_of_ble_eq_true rfl) (Nat.le_of_ble_eq_true rfl) rfl (Nat.le_of_ble_eq_true rfl) dX0_marketOf_18 rfl (fun r_6 f_5 h => ?_)
      refine ag_if_ne E1 (tgt := 29) dX0_marketOf_21 (by decide) (fun c_21 => ?_) (fun c_21 => ?_)
      · have h := h.1 c_21
        refine ag_aload_n E1 dX0_marketOf_29 rfl 0 rfl ?_
        refine ag_aload_n E1 dX0_marketOf_30 rfl 0 rfl ?_
        refine ax_geto E 11 (i := 9) (by decide) rfl (fun _ => rfl) q677 dX0_marketOf_31 ?_
        refine ag_iload_n E1 dX0_marketOf_34 rfl 1 rfl ?_
        obtain ⟨hF_8, h⟩ := h
        obtain ⟨y_9, v_10, y_11, hP_12_z, h⟩ := h
        have hP_12 := (wX_at (cs := cs) hF_8).trans hP_12_z
        refine ag_callV E1 (ci := 16) (C := RJ2) (T0 := TJ2) (n2 := 3) hP_12 rfl (kJ2_get _ _ _ _ _ _ _ _ _ _ _ h) (lw_V q1054 q1055 q1056 q86 q1057) ⟨rfl, hdJ2_get⟩ (Nat.le_of_ble_eq_true rfl) (Nat.le_of_ble_eq_true rfl) (As := [.int x1]) rfl (Nat.le_of_ble_eq_true rfl) dX0_marketOf_35 (fun v_ f_7_w hv => ?_) rfl
        obtain ⟨r_13, rfl, f_7, rfl, h⟩ := hv
        obtain ⟨ci_14, cV_15, hv_16, ho_17, h⟩ := h
        refine ag_castO E1 hv_16 (gOk_ok ho_17) q909 dX0_marketOf_38 ?_
        refine ag_iload_n E1 dX0_marketOf_41 rfl 2 rfl ?_
        refine ag_iload_n E1 dX0_marketOf_42 rfl 3 rfl ?_
        refine ax_callVi E [.ref r_13, .int x2, .int x3] (kX0_market _ _ _ _ _ _ _ _ _ _ _ _ _ h) (lw_V q1066 q1068 qs23 q83 q1069) hdX0_market (Nat.le_of_ble_eq_true rfl) (Nat.le_of_ble_eq_true rfl) rfl (Nat.le_of_ble_eq_true rfl) dX0_marketOf_43 rfl (fun r_19 f_18 h => ?_)
        exact ax_iret E rfl ⟨_, rfl, h⟩ dX0_marketOf_46
      · have h := h.2 c_21
        refine ag_sub (lv' := []) [] rfl ?_
        exact tbX0_marketOf_24 E  h
theorem hdX0_marketOf : yX0_marketOf.cls = RX0 ∧ yX0_marketOf.cls ≠ "java/lang/invoke/MethodHandle" ∧ yX0_marketOf.cls ≠ "java/lang/invoke/VarHandle" ∧ (parseMethodDescriptor yX0_marketOf.desc).map (fun d => d.parameters.length) = some 3 := by decide +kernel
theorem tbX0_looks_2 (E : EX p R s m args meth c cX0_looks 4 RX0 none D cs b H0 (XKd b H0 ad vs) [] 4 94 z u) {Q : XS → Prop} {K2 : Nat → Int32 → Int32 → XS → Prop} (hK2 : ∀ (x1 : Nat) (x2 : Int32) (x3 : Int32) (f : XS), K2 x1 x2 x3 f → AX p l e R s m args below meth c D cs b 4 o z u (xV Q) 2 [(0, .ref o), (1, .ref x1), (2, .int x2), (3, .int x3)] [] f) {x1 : Nat} {x2 : Int32} {x3 : Int32} {f : XS} (h : wbX0_looks_2 b cs ad vs o K2 Q x1 x2 x3 f) : AX p l e R s m args below meth c D cs b 4 o z u (xV Q) 2 [(0, .ref o), (1, .ref x1), (2, .int x2), (3, .int x3)] [] f := by
  have E1 := E.1
  refine ag_iload_n E1 dX0_looks_2 rfl 3 rfl ?_
  refine ag_aload_n E1 dX0_looks_3 rfl 0 rfl ?_
  refine ax_geti E 6 (by decide) rfl q672 dX0_looks_4 ?_
  refine ag_icmp_ge E1 (tgt := 29) dX0_looks_7 (by decide) (fun c_7 => ?_) (fun c_7 => ?_)
  · have h := h.1 c_7
    exact ax_vret E rfl ⟨rfl, h⟩ dX0_looks_29
  · have h := h.2 c_7
    refine ag_aload_n E1 dX0_looks_10 rfl 0 rfl ?_
    refine ax_geta E 14 (i := 11) (by decide) rfl rfl q680 dX0_looks_11 ?_
    refine ag_iload_n E1 dX0_looks_14 rfl 3 rfl ?_
    refine ag_aload_n E1 dX0_looks_15 rfl 0 rfl ?_
    refine ag_aload_n E1 dX0_looks_16 rfl 1 rfl ?_
    refine ag_iload_n E1 dX0_looks_17 rfl 3 rfl ?_
    refine ag_iload_n E1 dX0_looks_18 rfl 2 rfl ?_
    refine ax_callVi E [.ref x1, .int x3, .int x2] (kX0_market _ _ _ _ _ _ _ _ _ _ _ _ _ h) (lw_V q1066 q1068 qs23 q83 q1069) hdX0_market (Nat.le_of_ble_eq_true rfl) (Nat.le_of_ble_eq_true rfl) rfl (Nat.le_of_ble_eq_true rfl) dX0_looks_19 rfl (fun r_2 f_1 h => ?_)
    obtain ⟨hin, h⟩ := h
    refine ax_iast E 14 rfl rfl rfl (by decide) hin dX0_looks_22 (fun f_3 e_f_3 => ?_)
    have h := h f_3 e_f_3
    refine ag_iincN E1 (lv' := fun x3_4 => [(3, .int x3_4), (0, .ref o), (1, .ref x1), (2, .int x2)]) dX0_looks_23 3 rfl ki_1 (Nat.lt_of_lt_of_le (Nat.le_refl _) (Nat.le_of_ble_eq_true rfl)) (fun _ => rfl) (fun x3_4 e_x3_4 => ?_)
    have h := h x3_4 e_x3_4
    refine ag_goto E1 (tgt := 2) dX0_looks_26 (by decide) ?_
    refine ag_sub (lv' := [(0, .ref o), (1, .ref x1), (2, .int x2), (3, .int x3_4)]) [1, 2, 3, 0] rfl ?_
    exact hK2 _ _ _ _ h
theorem tlX0_looks_2 (E : EX p R s m args meth c cX0_looks 4 RX0 none D cs b H0 (XKd b H0 ad vs) [] 4 94 z u) {Q : XS → Prop}  : ∀ (n : Nat) (x1 : Nat) (x2 : Int32) (x3 : Int32) (f : XS), wlX0_looks_2 b cs ad vs o  Q n x1 x2 x3 f → AX p l e R s m args below meth c D cs b 4 o z u (xV Q) 2 [(0, .ref o), (1, .ref x1), (2, .int x2), (3, .int x3)] [] f := by
  intro n
  induction n with
  | zero => intro _ _ _ _ h; exact h.elim
  | succ n ih => intro x1 x2 x3 f h; exact tbX0_looks_2 E ih h
theorem kX0_looks (l : Launch) (D : va_G) (cs : Nat → ClassId) (b : Nat) (H0 : Heap) (ad : Nat → Nat) (vs : Nat → Option Nat) (o : Nat) (f : XS) (x1 : Nat) (x2 : Int32) (Q : XS → Prop) (h : wX0_looks b cs ad vs o f x1 x2 Q) : CX l D cs b H0 (XKd b H0 ad vs) o yX0_looks cX0_looks 4 none 4 94 [.ref o, .ref x1, .int x2] f (xV Q) := by
  refine cx_of (by decide) (Nat.le_of_ble_eq_true rfl) (fun p e R s m below meth c E => ?_)
  have E1 := E.1
  refine ag_sub (lv' := [(0, .ref o), (1, .ref x1), (2, .int x2)]) [0, 1, 2] rfl ?_
  refine ag_iconst E1 dX0_looks_0 ki_0 ?_
  refine ag_istore_n E1 (lv' := [(3, .int (0 : Int32)), (0, .ref o), (1, .ref x1), (2, .int x2)]) dX0_looks_1 rfl (Nat.lt_of_lt_of_le (Nat.le_refl _) (Nat.le_of_ble_eq_true rfl)) rfl ?_
  refine ag_sub (lv' := [(0, .ref o), (1, .ref x1), (2, .int x2), (3, .int (0 : Int32))]) [1, 2, 3, 0] rfl ?_
  obtain ⟨n, h⟩ := h
  exact tlX0_looks_2 E  n _ _ _ _ h
theorem hdX0_looks : yX0_looks.cls = RX0 ∧ yX0_looks.cls ≠ "java/lang/invoke/MethodHandle" ∧ yX0_looks.cls ≠ "java/lang/invoke/VarHandle" ∧ (parseMethodDescriptor yX0_looks.desc).map (fun d => d.parameters.length) = some 2 := by decide +kernel
theorem kX0_nextDay (l : Launch) (D : va_G) (cs : Nat → ClassId) (b : Nat) (H0 : Heap) (ad : Nat → Nat) (vs : Nat → Option Nat) (o : Nat) (f : XS) (x1 : Int32) (Q : Int32 → XS → Prop) (h : wX0_nextDay b cs ad vs o f x1 Q) : CX l D cs b H0 (XKd b H0 ad vs) o yX0_nextDay cX0_nextDay 3 (some .int) 0 0 [.ref o, .int x1] f (xI Q) := by
  refine cx_of (by decide) (Nat.le_of_ble_eq_true rfl) (fun p e R s m below meth c E => ?_)
  have E1 := E.1
  refine ag_sub (lv' := [(0, .ref o), (1, .int x1)]) [0, 1] rfl ?_
  refine ag_iload_n E1 dX0_nextDay_0 rfl 1 rfl ?_
  refine ag_iconst E1 dX0_nextDay_1 ki_1 ?_
  refine ag_ishl E1 dX0_nextDay_2 ?_
  refine ag_topi (fun x2_1 e_x2_1 => ?_)
  have h := h x2_1 e_x2_1
  refine ag_istore_n E1 (lv' := [(2, .int x2_1), (0, .ref o), (1, .int x1)]) dX0_nextDay_3 rfl (Nat.lt_of_lt_of_le (Nat.le_refl _) (Nat.le_of_ble_eq_true rfl)) rfl ?_
  refine ag_iload_n E1 dX0_nextDay_4 rfl 0 rfl ?_
  refine ag_iconst E1 dX0_nextDay_5 ki_1 ?_
  refine ag_aload_n E1 dX0_nextDay_6 rfl 1 rfl ?_
  refine ax_geti E 7 (by decide) rfl q673 dX0_nextDay_7 ?_
  refine ag_ishl E1 dX0_nextDay_10 ?_
  refine ag_iconst E1 dX0_nextDay_11 ki_1 ?_
  refine ag_isub E1 dX0_nextDay_12 ?_
  refine ag_iand E1 dX0_nextDay_13 ?_
  refine ag_iload_n E1 dX0_nextDay_14 rfl 0 rfl ?_
  refine ag_aload_n E1 dX0_nextDay_15 rfl 1 rfl ?_
  refine ax_geti E 7 (by decide) rfl q673 dX0_nextDay_16 ?_
  refine ag_ishr E1 dX0_nextDay_19 ?_
  refine ag_iconst E1 dX0_nextDay_20 ki_1 ?_
  refine ag_iand E1 dX0_nextDay_21 ?_
  refine ag_ior E1 dX0_nextDay_22 ?_
  exact ax_iret E rfl ⟨_, rfl, h⟩ dX0_nextDay_23
theorem hdX0_nextDay : yX0_nextDay.cls = RX0 ∧ yX0_nextDay.cls ≠ "java/lang/invoke/MethodHandle" ∧ yX0_nextDay.cls ≠ "java/lang/invoke/VarHandle" ∧ (parseMethodDescriptor yX0_nextDay.desc).map (fun d => d.parameters.length) = some 1 := by decide +kernel
theorem tbX0_bars_106 (E : EX p R s m args meth c cX0_bars 3 RX0 (some .boolean) D cs b H0 (XKd b H0 ad vs) [] 202 8062 z u) {Q : Int32 → XS → Prop}  {x1 : Int32} {x2 : Int32} {f : XS} (h : wbX0_bars_106 b cs ad vs o  Q x1 x2 f) : AX p l e R s m args below meth c D cs b 3 o z u (xI Q) 106 [(0, .ref o), (1, .int x1), (2, .int x2)] [] f := by
  have E1 := E.1
  refine ag_aload_n E1 dX0_bars_106 rfl 0 rfl ?_
  refine ax_geta E 3 (i := 4) (by decide) rfl rfl q669 dX0_bars_107 ?_
  refine ag_iload_n E1 dX0_bars_110 rfl 2 rfl ?_
  obtain ⟨hin, h⟩ := h
  refine ax_iald E 3 rfl rfl rfl (by decide) hin dX0_bars_111 ?_
  refine ag_iload_n E1 dX0_bars_112 rfl 1 rfl ?_
  refine ag_icmp_ne E1 (tgt := 158) dX0_bars_113 (by decide) (fun c_113 => ?_) (fun c_113 => ?_)
  · have h := h.1 c_113
    refine ag_iconst E1 dX0_bars_158 ki_0 ?_
    exact ax_zret E rfl (Or.inl rfl) ⟨_, rfl, h⟩ dX0_bars_159
  · have h := h.2 c_113
    refine ag_aload_n E1 dX0_bars_116 rfl 0 rfl ?_
    refine ax_geta E 14 (i := 11) (by decide) rfl rfl q680 dX0_bars_117 ?_
    refine ag_iload_n E1 dX0_bars_120 rfl 1 rfl ?_
    obtain ⟨hin, h⟩ := h
    refine ax_iald E 14 rfl rfl rfl (by decide) hin dX0_bars_121 ?_
    refine ag_if_eq E1 (tgt := 158) dX0_bars_122 (by decide) (fun c_122 => ?_) (fun c_122 => ?_)
    · have h := h.1 c_122
      refine ag_iconst E1 dX0_bars_158 ki_0 ?_
      exact ax_zret E rfl (Or.inl rfl) ⟨_, rfl, h⟩ dX0_bars_159
    · have h := h.2 c_122
      refine ag_aload_n E1 dX0_bars_125 rfl 0 rfl ?_
      refine ax_geta E 14 (i := 11) (by decide) rfl rfl q680 dX0_bars_126 ?_
      refine ag_iload_n E1 dX0_bars_129 rfl 2 rfl ?_
      obtain ⟨hin, h⟩ := h
      refine ax_iald E 14 rfl rfl rfl (by decide) hin dX0_bars_130 ?_
      refine ag_if_eq E1 (tgt := 158) dX0_bars_131 (by decide) (fun c_131 => ?_) (fun c_131 => ?_)
      · have h := h.1 c_131
        refine ag_iconst E1 dX0_bars_158 ki_0 ?_
        exact ax_zret E rfl (Or.inl rfl) ⟨_, rfl, h⟩ dX0_bars_159
      · have h := h.2 c_131
        refine ag_aload_n E1 dX0_bars_134 rfl 0 rfl ?_
        refine ax_geta E 14 (i := 11) (by decide) rfl rfl q680 dX0_bars_135 ?_
        refine ag_iload_n E1 dX0_bars_138 rfl 2 rfl ?_
        obtain ⟨hin, h⟩ := h
        refine ax_iald E 14 rfl rfl rfl (by decide) hin dX0_bars_139 ?_
        refine ag_aload_n E1 dX0_bars_140 rfl 0 rfl ?_
        refine ag_aload_n E1 dX0_bars_141 rfl 0 rfl ?_
        refine ax_geta E 14 (i := 11) (by decide) rfl rfl q680 dX0_bars_142 ?_
        refine ag_iload_n E1 dX0_bars_145 rfl 1 rfl ?_
        obtain ⟨hin, h⟩ := h
        refine ax_iald E 14 rfl rfl rfl (by decide) hin dX0_bars_146 ?_
        refine ax_callVi E [.int (f.1 14 (Int32.toNatClampNeg x1))] (kX0_nextDay _ _ _ _ _ _ _ _ _ _ _ h) (lw_V q1117 q1119 qs27 q83 q1120) hdX0_nextDay (Nat.le_of_ble_eq_true rfl) (Nat.le_of_ble_eq_true rfl) rfl (Nat.le_of_ble_eq_true rfl) dX0_bars_147 rfl (fun r_2 f_1 h => ?_)
        refine ag_iand E1 dX0_bars_150 ?_
        refine ag_if_ne E1 (tgt := 158) dX0_bars_151 (by decide) (fun c_151 => ?_) (fun c_151 => ?_)
        · have h := h.1 c_151
          refine ag_iconst E1 dX0_bars_158 ki_0 ?_
          exact ax_zret E rfl (Or.inl rfl) ⟨_, rfl, h⟩ dX0_bars_159
        · have h := h.2 c_151
          refine ag_iconst E1 dX0_bars_154 ki_1 ?_
          refine ag_goto E1 (tgt := 159) dX0_bars_155 (by decide) ?_
          exact ax_zret E rfl (Or.inr rfl) ⟨_, rfl, h⟩ dX0_bars_159
theorem tbX0_bars_56 (E : EX p R s m args meth c cX0_bars 3 RX0 (some .boolean) D cs b H0 (XKd b H0 ad vs) [] 202 8062 z u) {Q : Int32 → XS → Prop}  {x1 : Int32} {x2 : Int32} {f : XS} (h : wbX0_bars_56 b cs ad vs o  Q x1 x2 f) : AX p l e R s m args below meth c D cs b 3 o z u (xI Q) 56 [(0, .ref o), (1, .int x1), (2, .int x2)] [] f := by
  have E1 := E.1
  refine ag_aload_n E1 dX0_bars_56 rfl 0 rfl ?_
  refine ax_geta E 3 (i := 4) (by decide) rfl rfl q669 dX0_bars_57 ?_
  refine ag_iload_n E1 dX0_bars_60 rfl 1 rfl ?_
  obtain ⟨hin, h⟩ := h
  refine ax_iald E 3 rfl rfl rfl (by decide) hin dX0_bars_61 ?_
  refine ag_iload_n E1 dX0_bars_62 rfl 2 rfl ?_
  refine ag_icmp_ne E1 (tgt := 106) dX0_bars_63 (by decide) (fun c_63 => ?_) (fun c_63 => ?_)
  · have h := h.1 c_63
    exact tbX0_bars_106 E  h
  · have h := h.2 c_63
    refine ag_aload_n E1 dX0_bars_66 rfl 0 rfl ?_
    refine ax_geta E 14 (i := 11) (by decide) rfl rfl q680 dX0_bars_67 ?_
    refine ag_iload_n E1 dX0_bars_70 rfl 1 rfl ?_
    obtain ⟨hin, h⟩ := h
    refine ax_iald E 14 rfl rfl rfl (by decide) hin dX0_bars_71 ?_
    refine ag_if_eq E1 (tgt := 106) dX0_bars_72 (by decide) (fun c_72 => ?_) (fun c_72 => ?_)
    · have h := h.1 c_72
      exact tbX0_bars_106 E  h
    · have h := h.2 c_72
      refine ag_aload_n E1 dX0_bars_75 rfl 0 rfl ?_
      refine ax_geta E 14 (i := 11) (by decide) rfl rfl q680 dX0_bars_76 ?_
      refine ag_iload_n E1 dX0_bars_79 rfl 2 rfl ?_
      obtain ⟨hin, h⟩ := h
      refine ax_iald E 14 rfl rfl rfl (by decide) hin dX0_bars_80 ?_
      refine ag_if_eq E1 (tgt := 106) dX0_bars_81 (by decide) (fun c_81 => ?_) (fun c_81 => ?_)
      · have h := h.1 c_81
        exact tbX0_bars_106 E  h
      · have h := h.2 c_81
        refine ag_aload_n E1 dX0_bars_84 rfl 0 rfl ?_
        refine ax_geta E 14 (i := 11) (by decide) rfl rfl q680 dX0_bars_85 ?_
        refine ag_iload_n E1 dX0_bars_88 rfl 1 rfl ?_
        obtain ⟨hin, h⟩ := h
        refine ax_iald E 14 rfl rfl rfl (by decide) hin dX0_bars_89 ?_
        refine ag_aload_n E1 dX0_bars_90 rfl 0 rfl ?_
        refine ag_aload_n E1 dX0_bars_91 rfl 0 rfl ?_
        refine ax_geta E 14 (i := 11) (by decide) rfl rfl q680 dX0_bars_92 ?_
        refine ag_iload_n E1 dX0_bars_95 rfl 2 rfl ?_
        obtain ⟨hin, h⟩ := h
        refine ax_iald E 14 rfl rfl rfl (by decide) hin dX0_bars_96 ?_
        refine ax_callVi E [.int (f.1 14 (Int32.toNatClampNeg x2))] (kX0_nextDay _ _ _ _ _ _ _ _ _ _ _ h) (lw_V q1117 q1119 qs27 q83 q1120) hdX0_nextDay (Nat.le_of_ble_eq_true rfl) (Nat.le_of_ble_eq_true rfl) rfl (Nat.le_of_ble_eq_true rfl) dX0_bars_97 rfl (fun r_4 f_3 h => ?_)
        refine ag_iand E1 dX0_bars_100 ?_
        refine ag_if_ne E1 (tgt := 106) dX0_bars_101 (by decide) (fun c_101 => ?_) (fun c_101 => ?_)
        · have h := h.1 c_101
          exact tbX0_bars_106 E  h
        · have h := h.2 c_101
          refine ag_iconst E1 dX0_bars_104 ki_1 ?_
          exact ax_zret E rfl (Or.inr rfl) ⟨_, rfl, h⟩ dX0_bars_105
theorem kX0_bars (l : Launch) (D : va_G) (cs : Nat → ClassId) (b : Nat) (H0 : Heap) (ad : Nat → Nat) (vs : Nat → Option Nat) (o : Nat) (f : XS) (x1 : Int32) (x2 : Int32) (Q : Int32 → XS → Prop) (h : wX0_bars b cs ad vs o f x1 x2 Q) : CX l D cs b H0 (XKd b H0 ad vs) o yX0_bars cX0_bars 3 (some .boolean) 202 8062 [.ref o, .int x1, .int x2] f (xI Q) := by
  refine cx_of (by decide) (Nat.le_of_ble_eq_true rfl) (fun p e R s m below meth c E => ?_)
  have E1 := E.1
  refine ag_sub (lv' := [(0, .ref o), (1, .int x1), (2, .int x2)]) [0, 1, 2] rfl ?_
  refine ag_iload_n E1 dX0_bars_0 rfl 1 rfl ?_
  refine ag_iload_n E1 dX0_bars_1 rfl 2 rfl ?_
  refine ag_icmp_ne E1 (tgt := 29) dX0_bars_2 (by decide) (fun c_2 => ?_) (fun c_2 => ?_)
  · have h := h.1 c_2
    refine ag_aload_n E1 dX0_bars_29 rfl 0 rfl ?_
    refine ax_geta E 14 (i := 11) (by decide) rfl rfl q680 dX0_bars_30 ?_
    refine ag_iload_n E1 dX0_bars_33 rfl 1 rfl ?_
    obtain ⟨hin, h⟩ := h
    refine ax_iald E 14 rfl rfl rfl (by decide) hin dX0_bars_34 ?_
    refine ag_aload_n E1 dX0_bars_35 rfl 0 rfl ?_
    refine ax_geta E 14 (i := 11) (by decide) rfl rfl q680 dX0_bars_36 ?_
    refine ag_iload_n E1 dX0_bars_39 rfl 2 rfl ?_
    obtain ⟨hin, h⟩ := h
    refine ax_iald E 14 rfl rfl rfl (by decide) hin dX0_bars_40 ?_
    refine ag_iand E1 dX0_bars_41 ?_
    refine ag_if_eq E1 (tgt := 56) dX0_bars_42 (by decide) (fun c_42 => ?_) (fun c_42 => ?_)
    · have h := h.1 c_42
      exact tbX0_bars_56 E  h
    · have h := h.2 c_42
      refine ag_aload_n E1 dX0_bars_45 rfl 0 rfl ?_
      refine ag_iload_n E1 dX0_bars_46 rfl 1 rfl ?_
      refine ag_iload_n E1 dX0_bars_47 rfl 2 rfl ?_
      refine ax_callVi E [.int x1, .int x2] (kX0_near _ _ _ _ _ _ _ _ _ _ _ _ h) (lw_V q849 q851 qs16 q83 q852) hdX0_near (Nat.le_of_ble_eq_true rfl) (Nat.le_of_ble_eq_true rfl) rfl (Nat.le_of_ble_eq_true rfl) dX0_bars_48 rfl (fun r_6 f_5 h => ?_)
      refine ag_if_eq E1 (tgt := 56) dX0_bars_51 (by decide) (fun c_51 => ?_) (fun c_51 => ?_)
      · have h := h.1 c_51
        exact tbX0_bars_56 E  h
      · have h := h.2 c_51
        refine ag_iconst E1 dX0_bars_54 ki_1 ?_
        exact ax_zret E rfl (Or.inr rfl) ⟨_, rfl, h⟩ dX0_bars_55
  · have h := h.2 c_2
    refine ag_aload_n E1 dX0_bars_5 rfl 0 rfl ?_
    refine ax_geta E 14 (i := 11) (by decide) rfl rfl q680 dX0_bars_6 ?_
    refine ag_iload_n E1 dX0_bars_9 rfl 1 rfl ?_
    obtain ⟨hin, h⟩ := h
    refine ax_iald E 14 rfl rfl rfl (by decide) hin dX0_bars_10 ?_
    refine ag_aload_n E1 dX0_bars_11 rfl 0 rfl ?_
    refine ax_geta E 1 (i := 2) (by decide) rfl rfl q667 dX0_bars_12 ?_
    refine ag_iload_n E1 dX0_bars_15 rfl 1 rfl ?_
    obtain ⟨hin, h⟩ := h
    refine ax_iald E 1 rfl rfl rfl (by decide) hin dX0_bars_16 ?_
    refine ag_iconst E1 dX0_bars_17 ki_m1 ?_
    refine ag_ixor E1 dX0_bars_18 ?_
    refine ag_iand E1 dX0_bars_19 ?_
    refine ag_if_eq E1 (tgt := 27) dX0_bars_20 (by decide) (fun c_20 => ?_) (fun c_20 => ?_)
    · have h := h.1 c_20
      refine ag_iconst E1 dX0_bars_27 ki_0 ?_
      exact ax_zret E rfl (Or.inl rfl) ⟨_, rfl, h⟩ dX0_bars_28
    · have h := h.2 c_20
      refine ag_iconst E1 dX0_bars_23 ki_1 ?_
      refine ag_goto E1 (tgt := 28) dX0_bars_24 (by decide) ?_
      exact ax_zret E rfl (Or.inr rfl) ⟨_, rfl, h⟩ dX0_bars_28
theorem hdX0_bars : yX0_bars.cls = RX0 ∧ yX0_bars.cls ≠ "java/lang/invoke/MethodHandle" ∧ yX0_bars.cls ≠ "java/lang/invoke/VarHandle" ∧ (parseMethodDescriptor yX0_bars.desc).map (fun d => d.parameters.length) = some 2 := by decide +kernel
theorem tbX0_firstBar_12 (E : EX p R s m args meth c cX0_firstBar 3 RX0 (some .int) D cs b H0 (XKd b H0 ad vs) [] 203 8084 z u) {Q : Int32 → XS → Prop} {K12 : Int32 → Int32 → XS → Prop} (hK12 : ∀ (x1 : Int32) (x2 : Int32) (f : XS), K12 x1 x2 f → AX p l e R s m args below meth c D cs b 3 o z u (xI Q) 12 [(0, .ref o), (1, .int x1), (2, .int x2)] [] f) {K42 : Int32 → XS → Prop} (hK42 : ∀ (x1 : Int32) (f : XS), K42 x1 f → AX p l e R s m args below meth c D cs b 3 o z u (xI Q) 42 [(0, .ref o), (1, .int x1)] [] f) {x1 : Int32} {x2 : Int32} {f : XS} (h : wbX0_firstBar_12 b cs ad vs o K12 K42 Q x1 x2 f) : AX p l e R s m args below meth c D cs b 3 o z u (xI Q) 12 [(0, .ref o), (1, .int x1), (2, .int x2)] [] f := by
  have E1 := E.1
  refine ag_iload_n E1 dX0_firstBar_12 rfl 2 rfl ?_
  refine ag_aload_n E1 dX0_firstBar_13 rfl 0 rfl ?_
  refine ax_geti E 6 (by decide) rfl q672 dX0_firstBar_14 ?_
  refine ag_icmp_ge E1 (tgt := 42) dX0_firstBar_17 (by decide) (fun c_17 => ?_) (fun c_17 => ?_)
  · have h := h.1 c_17
    refine ag_sub (lv' := [(0, .ref o), (1, .int x1)]) [0, 1] rfl ?_
    exact hK42 _ _ h
  · have h := h.2 c_17
    refine ag_aload_n E1 dX0_firstBar_20 rfl 0 rfl ?_
    refine ag_iload_n E1 dX0_firstBar_21 rfl 1 rfl ?_
    refine ag_iload_n E1 dX0_firstBar_22 rfl 2 rfl ?_
    refine ax_callVi E [.int x1, .int x2] (kX0_bars _ _ _ _ _ _ _ _ _ _ _ _ h) (lw_V q1113 q1115 qs26 q83 q1116) hdX0_bars (Nat.le_of_ble_eq_true rfl) (Nat.le_of_ble_eq_true rfl) rfl (Nat.le_of_ble_eq_true rfl) dX0_firstBar_23 rfl (fun r_2 f_1 h => ?_)
    refine ag_if_eq E1 (tgt := 36) dX0_firstBar_26 (by decide) (fun c_26 => ?_) (fun c_26 => ?_)
    · have h := h.1 c_26
      refine ag_iincN E1 (lv' := fun x2_3 => [(2, .int x2_3), (0, .ref o), (1, .int x1)]) dX0_firstBar_36 2 rfl ki_1 (Nat.lt_of_lt_of_le (Nat.le_refl _) (Nat.le_of_ble_eq_true rfl)) (fun _ => rfl) (fun x2_3 e_x2_3 => ?_)
      have h := h x2_3 e_x2_3
      refine ag_goto E1 (tgt := 12) dX0_firstBar_39 (by decide) ?_
      refine ag_sub (lv' := [(0, .ref o), (1, .int x1), (2, .int x2_3)]) [1, 2, 0] rfl ?_
      exact hK12 _ _ _ h
    · have h := h.2 c_26
      refine ag_bipush E1 dX0_firstBar_29 kb_10 ?_
      refine ag_iload_n E1 dX0_firstBar_31 rfl 1 rfl ?_
      refine ag_imul E1 dX0_firstBar_32 ?_
      refine ag_iload_n E1 dX0_firstBar_33 rfl 2 rfl ?_
      refine ag_iadd E1 dX0_firstBar_34 ?_
      exact ax_iret E rfl ⟨_, rfl, h⟩ dX0_firstBar_35
theorem tlX0_firstBar_12 (E : EX p R s m args meth c cX0_firstBar 3 RX0 (some .int) D cs b H0 (XKd b H0 ad vs) [] 203 8084 z u) {Q : Int32 → XS → Prop} {K42 : Int32 → XS → Prop} (hK42 : ∀ (x1 : Int32) (f : XS), K42 x1 f → AX p l e R s m args below meth c D cs b 3 o z u (xI Q) 42 [(0, .ref o), (1, .int x1)] [] f) : ∀ (n : Nat) (x1 : Int32) (x2 : Int32) (f : XS), wlX0_firstBar_12 b cs ad vs o K42 Q n x1 x2 f → AX p l e R s m args below meth c D cs b 3 o z u (xI Q) 12 [(0, .ref o), (1, .int x1), (2, .int x2)] [] f := by
  intro n
  induction n with
  | zero => intro _ _ _ h; exact h.elim
  | succ n ih => intro x1 x2 f h; exact tbX0_firstBar_12 E ih hK42 h
theorem tbX0_firstBar_2 (E : EX p R s m args meth c cX0_firstBar 3 RX0 (some .int) D cs b H0 (XKd b H0 ad vs) [] 203 8084 z u) {Q : Int32 → XS → Prop} {K2 : Int32 → XS → Prop} (hK2 : ∀ (x1 : Int32) (f : XS), K2 x1 f → AX p l e R s m args below meth c D cs b 3 o z u (xI Q) 2 [(0, .ref o), (1, .int x1)] [] f) {x1 : Int32} {f : XS} (h : wbX0_firstBar_2 b cs ad vs o K2 Q x1 f) : AX p l e R s m args below meth c D cs b 3 o z u (xI Q) 2 [(0, .ref o), (1, .int x1)] [] f := by
  have E1 := E.1
  refine ag_iload_n E1 dX0_firstBar_2 rfl 1 rfl ?_
  refine ag_aload_n E1 dX0_firstBar_3 rfl 0 rfl ?_
  refine ax_geti E 6 (by decide) rfl q672 dX0_firstBar_4 ?_
  refine ag_icmp_ge E1 (tgt := 48) dX0_firstBar_7 (by decide) (fun c_7 => ?_) (fun c_7 => ?_)
  · have h := h.1 c_7
    refine ag_iconst E1 dX0_firstBar_48 ki_m1 ?_
    exact ax_iret E rfl ⟨_, rfl, h⟩ dX0_firstBar_49
  · have h := h.2 c_7
    refine ag_iload_n E1 dX0_firstBar_10 rfl 1 rfl ?_
    refine ag_istore_n E1 (lv' := [(2, .int x1), (0, .ref o), (1, .int x1)]) dX0_firstBar_11 rfl (Nat.lt_of_lt_of_le (Nat.le_refl _) (Nat.le_of_ble_eq_true rfl)) rfl ?_
    refine ag_sub (lv' := [(0, .ref o), (1, .int x1), (2, .int x1)]) [1, 2, 0] rfl ?_
    obtain ⟨n, h⟩ := h
    refine tlX0_firstBar_12 E ?_ n _ _ _ h
    · intro x1 f h
      refine ag_iincN E1 (lv' := fun x1_4 => [(1, .int x1_4), (0, .ref o)]) dX0_firstBar_42 1 rfl ki_1 (Nat.lt_of_lt_of_le (Nat.le_refl _) (Nat.le_of_ble_eq_true rfl)) (fun _ => rfl) (fun x1_4 e_x1_4 => ?_)
      have h := h x1_4 e_x1_4
      refine ag_goto E1 (tgt := 2) dX0_firstBar_45 (by decide) ?_
      refine ag_sub (lv' := [(0, .ref o), (1, .int x1_4)]) [1, 0] rfl ?_
      exact hK2 _ _ h
theorem tlX0_firstBar_2 (E : EX p R s m args meth c cX0_firstBar 3 RX0 (some .int) D cs b H0 (XKd b H0 ad vs) [] 203 8084 z u) {Q : Int32 → XS → Prop}  : ∀ (n : Nat) (x1 : Int32) (f : XS), wlX0_firstBar_2 b cs ad vs o  Q n x1 f → AX p l e R s m args below meth c D cs b 3 o z u (xI Q) 2 [(0, .ref o), (1, .int x1)] [] f := by
  intro n
  induction n with
  | zero => intro _ _ h; exact h.elim
  | succ n ih => intro x1 f h; exact tbX0_firstBar_2 E ih h
theorem kX0_firstBar (l : Launch) (D : va_G) (cs : Nat → ClassId) (b : Nat) (H0 : Heap) (ad : Nat → Nat) (vs : Nat → Option Nat) (o : Nat) (f : XS)  (Q : Int32 → XS → Prop) (h : wX0_firstBar b cs ad vs o f  Q) : CX l D cs b H0 (XKd b H0 ad vs) o yX0_firstBar cX0_firstBar 3 (some .int) 203 8084 [.ref o] f (xI Q) := by
  refine cx_of (by decide) (Nat.le_of_ble_eq_true rfl) (fun p e R s m below meth c E => ?_)
  have E1 := E.1
  refine ag_sub (lv' := [(0, .ref o)]) [0] rfl ?_
  refine ag_iconst E1 dX0_firstBar_0 ki_0 ?_
  refine ag_istore_n E1 (lv' := [(1, .int (0 : Int32)), (0, .ref o)]) dX0_firstBar_1 rfl (Nat.lt_of_lt_of_le (Nat.le_refl _) (Nat.le_of_ble_eq_true rfl)) rfl ?_
  refine ag_sub (lv' := [(0, .ref o), (1, .int (0 : Int32))]) [1, 0] rfl ?_
  obtain ⟨n, h⟩ := h
  exact tlX0_firstBar_2 E  n _ _ h
theorem hdX0_firstBar : yX0_firstBar.cls = RX0 ∧ yX0_firstBar.cls ≠ "java/lang/invoke/MethodHandle" ∧ yX0_firstBar.cls ≠ "java/lang/invoke/VarHandle" ∧ (parseMethodDescriptor yX0_firstBar.desc).map (fun d => d.parameters.length) = some 0 := by decide +kernel
theorem kX0_bar (l : Launch) (D : va_G) (cs : Nat → ClassId) (b : Nat) (H0 : Heap) (ad : Nat → Nat) (vs : Nat → Option Nat) (o : Nat) (f : XS) (x1 : Int32) (x2 : Int32) (Q : Int32 → XS → Prop) (h : wX0_bar b cs ad vs o f x1 x2 Q) : CX l D cs b H0 (XKd b H0 ad vs) o yX0_bar cX0_bar 3 (some .int) 204 8106 [.ref o, .int x1, .int x2] f (xI Q) := by
  refine cx_of (by decide) (Nat.le_of_ble_eq_true rfl) (fun p e R s m below meth c E => ?_)
  have E1 := E.1
  refine ag_sub (lv' := [(0, .ref o), (1, .int x1), (2, .int x2)]) [0, 1, 2] rfl ?_
  refine ag_aload_n E1 dX0_bar_0 rfl 0 rfl ?_
  refine ag_iload_n E1 dX0_bar_1 rfl 1 rfl ?_
  refine ax_callVi E [.int x1] (kX0_isGiving _ _ _ _ _ _ _ _ _ _ _ h) (lw_V q1050 q1052 qs22 q83 q1053) hdX0_isGiving (Nat.le_of_ble_eq_true rfl) (Nat.le_of_ble_eq_true rfl) rfl (Nat.le_of_ble_eq_true rfl) dX0_bar_2 rfl (fun r_2 f_1 h => ?_)
  refine ag_if_eq E1 (tgt := 16) dX0_bar_5 (by decide) (fun c_5 => ?_) (fun c_5 => ?_)
  · have h := h.1 c_5
    refine ag_bipush E1 dX0_bar_16 kb_m5 ?_
    exact ax_iret E rfl ⟨_, rfl, h⟩ dX0_bar_18
  · have h := h.2 c_5
    refine ag_aload_n E1 dX0_bar_8 rfl 0 rfl ?_
    refine ag_iload_n E1 dX0_bar_9 rfl 2 rfl ?_
    refine ax_callVi E [.int x2] (kX0_isWeek _ _ _ _ _ _ _ _ _ _ _ h) (lw_V q841 q843 qs15 q83 q844) hdX0_isWeek (Nat.le_of_ble_eq_true rfl) (Nat.le_of_ble_eq_true rfl) rfl (Nat.le_of_ble_eq_true rfl) dX0_bar_10 rfl (fun r_4 f_3 h => ?_)
    refine ag_if_ne E1 (tgt := 19) dX0_bar_13 (by decide) (fun c_13 => ?_) (fun c_13 => ?_)
    · have h := h.1 c_13
      refine ag_aload_n E1 dX0_bar_19 rfl 0 rfl ?_
      refine ag_aload_n E1 dX0_bar_20 rfl 0 rfl ?_
      refine ax_geto E 11 (i := 9) (by decide) rfl (fun _ => rfl) q677 dX0_bar_21 ?_
      refine ag_iload_n E1 dX0_bar_24 rfl 1 rfl ?_
      obtain ⟨hF_6, h⟩ := h
      obtain ⟨y_7, v_8, y_9, hP_10_z, h⟩ := h
      have hP_10 := (wX_at (cs := cs) hF_6).trans hP_10_z
      refine ag_callV E1 (ci := 16) (C := RJ2) (T0 := TJ2) (n2 := 3) hP_10 rfl (kJ2_get _ _ _ _ _ _ _ _ _ _ _ h) (lw_V q1054 q1055 q1056 q86 q1057) ⟨rfl, hdJ2_get⟩ (Nat.le_of_ble_eq_true rfl) (Nat.le_of_ble_eq_true rfl) (As := [.int x1]) rfl (Nat.le_of_ble_eq_true rfl) dX0_bar_25 (fun v_ f_5_w hv => ?_) rfl
      obtain ⟨r_11, rfl, f_5, rfl, h⟩ := hv
      obtain ⟨ci_12, cV_13, hv_14, ho_15, h⟩ := h
      refine ag_castO E1 hv_14 (gOk_ok ho_15) q909 dX0_bar_28 ?_
      refine ag_iload_n E1 dX0_bar_31 rfl 2 rfl ?_
      refine ax_callVv E [.ref r_11, .int x2] (kX0_looks _ _ _ _ _ _ _ _ _ _ _ _ h) (lw_V q1105 q1107 qs24 q83 q1108) hdX0_looks (Nat.le_of_ble_eq_true rfl) (Nat.le_of_ble_eq_true rfl) rfl (Nat.le_of_ble_eq_true rfl) dX0_bar_32 rfl (fun f_16 h => ?_)
      refine ag_aload_n E1 dX0_bar_35 rfl 0 rfl ?_
      refine ax_callVi E [] (kX0_firstBar _ _ _ _ _ _ _ _ _  _ h) (lw_V q1109 q1111 qs25 q83 q1112) hdX0_firstBar (Nat.le_of_ble_eq_true rfl) (Nat.le_of_ble_eq_true rfl) rfl (Nat.le_of_ble_eq_true rfl) dX0_bar_36 rfl (fun r_18 f_17 h => ?_)
      exact ax_iret E rfl ⟨_, rfl, h⟩ dX0_bar_39
    · have h := h.2 c_13
      refine ag_bipush E1 dX0_bar_16 kb_m5 ?_
      exact ax_iret E rfl ⟨_, rfl, h⟩ dX0_bar_18
theorem hdX0_bar : yX0_bar.cls = RX0 ∧ yX0_bar.cls ≠ "java/lang/invoke/MethodHandle" ∧ yX0_bar.cls ≠ "java/lang/invoke/VarHandle" ∧ (parseMethodDescriptor yX0_bar.desc).map (fun d => d.parameters.length) = some 2 := by decide +kernel
theorem tbX0_lawful_58 (E : EX p R s m args meth c cX0_lawful 5 RX0 (some .int) D cs b H0 (XKd b H0 ad vs) [] 204 8106 z u) {Q : Int32 → XS → Prop} {K24 : Int32 → Int32 → Int32 → Int32 → XS → Prop} (hK24 : ∀ (x1 : Int32) (x2 : Int32) (x3 : Int32) (x4 : Int32) (f : XS), K24 x1 x2 x3 x4 f → AX p l e R s m args below meth c D cs b 5 o z u (xI Q) 24 [(0, .ref o), (1, .int x1), (2, .int x2), (3, .int x3), (4, .int x4)] [] f) {x1 : Int32} {x2 : Int32} {x3 : Int32} {x4 : Int32} {f : XS} (h : wbX0_lawful_58 b cs ad vs o K24 Q x1 x2 x3 x4 f) : AX p l e R s m args below meth c D cs b 5 o z u (xI Q) 58 [(0, .ref o), (1, .int x1), (2, .int x2), (3, .int x3), (4, .int x4)] [] f := by
  have E1 := E.1
  refine ag_iincN E1 (lv' := fun x4_19 => [(4, .int x4_19), (0, .ref o), (1, .int x1), (2, .int x2), (3, .int x3)]) dX0_lawful_58 4 rfl ki_1 (Nat.lt_of_lt_of_le (Nat.le_refl _) (Nat.le_of_ble_eq_true rfl)) (fun _ => rfl) (fun x4_19 e_x4_19 => ?_)
  have h := h x4_19 e_x4_19
  refine ag_goto E1 (tgt := 24) dX0_lawful_61 (by decide) ?_
  refine ag_sub (lv' := [(0, .ref o), (1, .int x1), (2, .int x2), (3, .int x3), (4, .int x4_19)]) [1, 2, 3, 4, 0] rfl ?_
  exact hK24 _ _ _ _ _ h
theorem tbX0_lawful_24 (E : EX p R s m args meth c cX0_lawful 5 RX0 (some .int) D cs b H0 (XKd b H0 ad vs) [] 204 8106 z u) {Q : Int32 → XS → Prop} {K24 : Int32 → Int32 → Int32 → Int32 → XS → Prop} (hK24 : ∀ (x1 : Int32) (x2 : Int32) (x3 : Int32) (x4 : Int32) (f : XS), K24 x1 x2 x3 x4 f → AX p l e R s m args below meth c D cs b 5 o z u (xI Q) 24 [(0, .ref o), (1, .int x1), (2, .int x2), (3, .int x3), (4, .int x4)] [] f) {x1 : Int32} {x2 : Int32} {x3 : Int32} {x4 : Int32} {f : XS} (h : wbX0_lawful_24 b cs ad vs o K24 Q x1 x2 x3 x4 f) : AX p l e R s m args below meth c D cs b 5 o z u (xI Q) 24 [(0, .ref o), (1, .int x1), (2, .int x2), (3, .int x3), (4, .int x4)] [] f := by
  have E1 := E.1
  refine ag_iload E1 dX0_lawful_24 4 rfl ?_
  refine ag_iload_n E1 dX0_lawful_26 rfl 2 rfl ?_
  refine ag_icmp_gt E1 (tgt := 64) dX0_lawful_27 (by decide) (fun c_27 => ?_) (fun c_27 => ?_)
  · have h := h.1 c_27
    refine ag_iload_n E1 dX0_lawful_64 rfl 3 rfl ?_
    exact ax_iret E rfl ⟨_, rfl, h⟩ dX0_lawful_65
  · have h := h.2 c_27
    refine ag_aload_n E1 dX0_lawful_30 rfl 0 rfl ?_
    refine ag_aload_n E1 dX0_lawful_31 rfl 0 rfl ?_
    refine ax_geto E 11 (i := 9) (by decide) rfl (fun _ => rfl) q677 dX0_lawful_32 ?_
    refine ag_iload_n E1 dX0_lawful_35 rfl 1 rfl ?_
    obtain ⟨hF_6, h⟩ := h
    obtain ⟨y_7, v_8, y_9, hP_10_z, h⟩ := h
    have hP_10 := (wX_at (cs := cs) hF_6).trans hP_10_z
    refine ag_callV E1 (ci := 16) (C := RJ2) (T0 := TJ2) (n2 := 3) hP_10 rfl (kJ2_get _ _ _ _ _ _ _ _ _ _ _ h) (lw_V q1054 q1055 q1056 q86 q1057) ⟨rfl, hdJ2_get⟩ (Nat.le_of_ble_eq_true rfl) (Nat.le_of_ble_eq_true rfl) (As := [.int x1]) rfl (Nat.le_of_ble_eq_true rfl) dX0_lawful_36 (fun v_ f_5_w hv => ?_) rfl
    obtain ⟨r_11, rfl, f_5, rfl, h⟩ := hv
    obtain ⟨ci_12, cV_13, hv_14, ho_15, h⟩ := h
    refine ag_castO E1 hv_14 (gOk_ok ho_15) q909 dX0_lawful_39 ?_
    refine ag_iload E1 dX0_lawful_42 4 rfl ?_
    refine ax_callVv E [.ref r_11, .int x4] (kX0_looks _ _ _ _ _ _ _ _ _ _ _ _ h) (lw_V q1105 q1107 qs24 q83 q1108) hdX0_looks (Nat.le_of_ble_eq_true rfl) (Nat.le_of_ble_eq_true rfl) rfl (Nat.le_of_ble_eq_true rfl) dX0_lawful_44 rfl (fun f_16 h => ?_)
    refine ag_aload_n E1 dX0_lawful_47 rfl 0 rfl ?_
    refine ax_callVi E [] (kX0_firstBar _ _ _ _ _ _ _ _ _  _ h) (lw_V q1109 q1111 qs25 q83 q1112) hdX0_firstBar (Nat.le_of_ble_eq_true rfl) (Nat.le_of_ble_eq_true rfl) rfl (Nat.le_of_ble_eq_true rfl) dX0_lawful_48 rfl (fun r_18 f_17 h => ?_)
    refine ag_iconst E1 dX0_lawful_51 ki_m1 ?_
    refine ag_icmp_ne E1 (tgt := 58) dX0_lawful_52 (by decide) (fun c_52 => ?_) (fun c_52 => ?_)
    · have h := h.1 c_52
      exact tbX0_lawful_58 E hK24 h
    · have h := h.2 c_52
      refine ag_iincN E1 (lv' := fun x3_20 => [(3, .int x3_20), (0, .ref o), (1, .int x1), (2, .int x2), (4, .int x4)]) dX0_lawful_55 3 rfl ki_1 (Nat.lt_of_lt_of_le (Nat.le_refl _) (Nat.le_of_ble_eq_true rfl)) (fun _ => rfl) (fun x3_20 e_x3_20 => ?_)
      have h := h x3_20 e_x3_20
      refine ag_sub (lv' := [(0, .ref o), (1, .int x1), (2, .int x2), (3, .int x3_20), (4, .int x4)]) [1, 2, 3, 0, 4] rfl ?_
      exact tbX0_lawful_58 E hK24 h
theorem tlX0_lawful_24 (E : EX p R s m args meth c cX0_lawful 5 RX0 (some .int) D cs b H0 (XKd b H0 ad vs) [] 204 8106 z u) {Q : Int32 → XS → Prop}  : ∀ (n : Nat) (x1 : Int32) (x2 : Int32) (x3 : Int32) (x4 : Int32) (f : XS), wlX0_lawful_24 b cs ad vs o  Q n x1 x2 x3 x4 f → AX p l e R s m args below meth c D cs b 5 o z u (xI Q) 24 [(0, .ref o), (1, .int x1), (2, .int x2), (3, .int x3), (4, .int x4)] [] f := by
  intro n
  induction n with
  | zero => intro _ _ _ _ _ h; exact h.elim
  | succ n ih => intro x1 x2 x3 x4 f h; exact tbX0_lawful_24 E ih h
theorem kX0_lawful (l : Launch) (D : va_G) (cs : Nat → ClassId) (b : Nat) (H0 : Heap) (ad : Nat → Nat) (vs : Nat → Option Nat) (o : Nat) (f : XS) (x1 : Int32) (x2 : Int32) (Q : Int32 → XS → Prop) (h : wX0_lawful b cs ad vs o f x1 x2 Q) : CX l D cs b H0 (XKd b H0 ad vs) o yX0_lawful cX0_lawful 5 (some .int) 204 8106 [.ref o, .int x1, .int x2] f (xI Q) := by
  refine cx_of (by decide) (Nat.le_of_ble_eq_true rfl) (fun p e R s m below meth c E => ?_)
  have E1 := E.1
  refine ag_sub (lv' := [(0, .ref o), (1, .int x1), (2, .int x2)]) [0, 1, 2] rfl ?_
  refine ag_aload_n E1 dX0_lawful_0 rfl 0 rfl ?_
  refine ag_iload_n E1 dX0_lawful_1 rfl 1 rfl ?_
  refine ax_callVi E [.int x1] (kX0_isGiving _ _ _ _ _ _ _ _ _ _ _ h) (lw_V q1050 q1052 qs22 q83 q1053) hdX0_isGiving (Nat.le_of_ble_eq_true rfl) (Nat.le_of_ble_eq_true rfl) rfl (Nat.le_of_ble_eq_true rfl) dX0_lawful_2 rfl (fun r_2 f_1 h => ?_)
  refine ag_if_eq E1 (tgt := 16) dX0_lawful_5 (by decide) (fun c_5 => ?_) (fun c_5 => ?_)
  · have h := h.1 c_5
    refine ag_bipush E1 dX0_lawful_16 kb_m5 ?_
    exact ax_iret E rfl ⟨_, rfl, h⟩ dX0_lawful_18
  · have h := h.2 c_5
    refine ag_aload_n E1 dX0_lawful_8 rfl 0 rfl ?_
    refine ag_iload_n E1 dX0_lawful_9 rfl 2 rfl ?_
    refine ax_callVi E [.int x2] (kX0_isWeek _ _ _ _ _ _ _ _ _ _ _ h) (lw_V q841 q843 qs15 q83 q844) hdX0_isWeek (Nat.le_of_ble_eq_true rfl) (Nat.le_of_ble_eq_true rfl) rfl (Nat.le_of_ble_eq_true rfl) dX0_lawful_10 rfl (fun r_4 f_3 h => ?_)
    refine ag_if_ne E1 (tgt := 19) dX0_lawful_13 (by decide) (fun c_13 => ?_) (fun c_13 => ?_)
    · have h := h.1 c_13
      refine ag_iconst E1 dX0_lawful_19 ki_0 ?_
      refine ag_istore_n E1 (lv' := [(3, .int (0 : Int32)), (0, .ref o), (1, .int x1), (2, .int x2)]) dX0_lawful_20 rfl (Nat.lt_of_lt_of_le (Nat.le_refl _) (Nat.le_of_ble_eq_true rfl)) rfl ?_
      refine ag_iconst E1 dX0_lawful_21 ki_0 ?_
      refine ag_istore E1 (lv' := [(4, .int (0 : Int32)), (3, .int (0 : Int32)), (0, .ref o), (1, .int x1), (2, .int x2)]) dX0_lawful_22 (Nat.lt_of_lt_of_le (Nat.le_refl _) (Nat.le_of_ble_eq_true rfl)) rfl ?_
      refine ag_sub (lv' := [(0, .ref o), (1, .int x1), (2, .int x2), (3, .int (0 : Int32)), (4, .int (0 : Int32))]) [2, 3, 4, 1, 0] rfl ?_
      obtain ⟨n, h⟩ := h
      exact tlX0_lawful_24 E  n _ _ _ _ _ h
    · have h := h.2 c_13
      refine ag_bipush E1 dX0_lawful_16 kb_m5 ?_
      exact ax_iret E rfl ⟨_, rfl, h⟩ dX0_lawful_18
theorem hdX0_lawful : yX0_lawful.cls = RX0 ∧ yX0_lawful.cls ≠ "java/lang/invoke/MethodHandle" ∧ yX0_lawful.cls ≠ "java/lang/invoke/VarHandle" ∧ (parseMethodDescriptor yX0_lawful.desc).map (fun d => d.parameters.length) = some 2 := by decide +kernel
theorem tbX0_hoursAhead_69 (E : EX p R s m args meth c cX0_hoursAhead 6 RX0 (some .int) D cs b H0 (XKd b H0 ad vs) [] 1 21 z u) {Q : Int32 → XS → Prop} {K23 : Int32 → Int32 → Int32 → Int32 → XS → Prop} (hK23 : ∀ (x1 : Int32) (x3 : Int32) (x4 : Int32) (x5 : Int32) (f : XS), K23 x1 x3 x4 x5 f → AX p l e R s m args below meth c D cs b 6 o z u (xI Q) 23 [(0, .ref o), (1, .int x1), (3, .int x3), (4, .int x4), (5, .int x5)] [] f) {x1 : Int32} {x3 : Int32} {x4 : Int32} {x5 : Int32} {f : XS} (h : wbX0_hoursAhead_69 b cs ad vs o K23 Q x1 x3 x4 x5 f) : AX p l e R s m args below meth c D cs b 6 o z u (xI Q) 69 [(0, .ref o), (1, .int x1), (3, .int x3), (4, .int x4), (5, .int x5)] [] f := by
  have E1 := E.1
  refine ag_iincN E1 (lv' := fun x5_2 => [(5, .int x5_2), (0, .ref o), (1, .int x1), (3, .int x3), (4, .int x4)]) dX0_hoursAhead_69 4 rfl ki_1 (Nat.lt_of_lt_of_le (Nat.le_refl _) (Nat.le_of_ble_eq_true rfl)) (fun _ => rfl) (fun x5_2 e_x5_2 => ?_)
  have h := h x5_2 e_x5_2
  refine ag_goto E1 (tgt := 23) dX0_hoursAhead_72 (by decide) ?_
  refine ag_sub (lv' := [(0, .ref o), (1, .int x1), (3, .int x3), (4, .int x4), (5, .int x5_2)]) [1, 2, 3, 4, 0] rfl ?_
  exact hK23 _ _ _ _ _ h
theorem tbX0_hoursAhead_23 (E : EX p R s m args meth c cX0_hoursAhead 6 RX0 (some .int) D cs b H0 (XKd b H0 ad vs) [] 1 21 z u) {Q : Int32 → XS → Prop} {K23 : Int32 → Int32 → Int32 → Int32 → XS → Prop} (hK23 : ∀ (x1 : Int32) (x3 : Int32) (x4 : Int32) (x5 : Int32) (f : XS), K23 x1 x3 x4 x5 f → AX p l e R s m args below meth c D cs b 6 o z u (xI Q) 23 [(0, .ref o), (1, .int x1), (3, .int x3), (4, .int x4), (5, .int x5)] [] f) {x1 : Int32} {x3 : Int32} {x4 : Int32} {x5 : Int32} {f : XS} (h : wbX0_hoursAhead_23 b cs ad vs o K23 Q x1 x3 x4 x5 f) : AX p l e R s m args below meth c D cs b 6 o z u (xI Q) 23 [(0, .ref o), (1, .int x1), (3, .int x3), (4, .int x4), (5, .int x5)] [] f := by
  have E1 := E.1
  refine ag_iload E1 dX0_hoursAhead_23 4 rfl ?_
  refine ag_aload_n E1 dX0_hoursAhead_25 rfl 0 rfl ?_
  refine ax_geti E 6 (by decide) rfl q672 dX0_hoursAhead_26 ?_
  refine ag_icmp_ge E1 (tgt := 75) dX0_hoursAhead_29 (by decide) (fun c_29 => ?_) (fun c_29 => ?_)
  · have h := h.1 c_29
    refine ag_iload E1 dX0_hoursAhead_75 3 rfl ?_
    exact ax_iret E rfl ⟨_, rfl, h⟩ dX0_hoursAhead_77
  · have h := h.2 c_29
    refine ag_iload E1 dX0_hoursAhead_32 4 rfl ?_
    refine ag_iload_n E1 dX0_hoursAhead_34 rfl 1 rfl ?_
    refine ag_icmp_eq E1 (tgt := 69) dX0_hoursAhead_35 (by decide) (fun c_35 => ?_) (fun c_35 => ?_)
    · have h := h.1 c_35
      exact tbX0_hoursAhead_69 E hK23 h
    · have h := h.2 c_35
      refine ag_aload_n E1 dX0_hoursAhead_38 rfl 0 rfl ?_
      refine ax_geta E 14 (i := 11) (by decide) rfl rfl q680 dX0_hoursAhead_39 ?_
      refine ag_iload E1 dX0_hoursAhead_42 4 rfl ?_
      obtain ⟨hin, h⟩ := h
      refine ax_iald E 14 rfl rfl rfl (by decide) hin dX0_hoursAhead_44 ?_
      refine ag_iload_n E1 dX0_hoursAhead_45 rfl 2 rfl ?_
      refine ag_iand E1 dX0_hoursAhead_46 ?_
      refine ag_if_eq E1 (tgt := 69) dX0_hoursAhead_47 (by decide) (fun c_47 => ?_) (fun c_47 => ?_)
      · have h := h.1 c_47
        exact tbX0_hoursAhead_69 E hK23 h
      · have h := h.2 c_47
        refine ag_iload E1 dX0_hoursAhead_50 3 rfl ?_
        refine ag_aload_n E1 dX0_hoursAhead_52 rfl 0 rfl ?_
        refine ax_geta E 5 (i := 6) (by decide) rfl rfl q671 dX0_hoursAhead_53 ?_
        refine ag_bipush E1 dX0_hoursAhead_56 kb_6 ?_
        refine ag_iload_n E1 dX0_hoursAhead_58 rfl 1 rfl ?_
        refine ag_imul E1 dX0_hoursAhead_59 ?_
        refine ag_iload E1 dX0_hoursAhead_60 4 rfl ?_
        refine ag_iadd E1 dX0_hoursAhead_62 ?_
        obtain ⟨hin, h⟩ := h
        refine ax_iald E 5 rfl rfl rfl (by decide) hin dX0_hoursAhead_63 ?_
        refine ag_mmin E1 q806 q356 q96 q357 (Nat.le_of_ble_eq_true rfl) (Nat.le_of_ble_eq_true rfl) (Nat.le_of_ble_eq_true rfl) dX0_hoursAhead_64 ?_
        refine ag_topi (fun x4_3 e_x4_3 => ?_)
        have h := h x4_3 e_x4_3
        refine ag_istore E1 (lv' := [(4, .int x4_3), (0, .ref o), (1, .int x1), (3, .int x3), (5, .int x5)]) dX0_hoursAhead_67 (Nat.lt_of_lt_of_le (Nat.le_refl _) (Nat.le_of_ble_eq_true rfl)) rfl ?_
        refine ag_sub (lv' := [(0, .ref o), (1, .int x1), (3, .int x3), (4, .int x4_3), (5, .int x5)]) [1, 2, 3, 0, 4] rfl ?_
        exact tbX0_hoursAhead_69 E hK23 h
theorem tlX0_hoursAhead_23 (E : EX p R s m args meth c cX0_hoursAhead 6 RX0 (some .int) D cs b H0 (XKd b H0 ad vs) [] 1 21 z u) {Q : Int32 → XS → Prop}  : ∀ (n : Nat) (x1 : Int32) (x3 : Int32) (x4 : Int32) (x5 : Int32) (f : XS), wlX0_hoursAhead_23 b cs ad vs o  Q n x1 x3 x4 x5 f → AX p l e R s m args below meth c D cs b 6 o z u (xI Q) 23 [(0, .ref o), (1, .int x1), (3, .int x3), (4, .int x4), (5, .int x5)] [] f := by
  intro n
  induction n with
  | zero => intro _ _ _ _ _ h; exact h.elim
  | succ n ih => intro x1 x3 x4 x5 f h; exact tbX0_hoursAhead_23 E ih h
theorem kX0_hoursAhead (l : Launch) (D : va_G) (cs : Nat → ClassId) (b : Nat) (H0 : Heap) (ad : Nat → Nat) (vs : Nat → Option Nat) (o : Nat) (f : XS) (x1 : Int32) (x2 : Int32) (Q : Int32 → XS → Prop) (h : wX0_hoursAhead b cs ad vs o f x1 x2 Q) : CX l D cs b H0 (XKd b H0 ad vs) o yX0_hoursAhead cX0_hoursAhead 6 (some .int) 1 21 [.ref o, .int x1, .int x2] f (xI Q) := by
  refine cx_of (by decide) (Nat.le_of_ble_eq_true rfl) (fun p e R s m below meth c E => ?_)
  have E1 := E.1
  refine ag_sub (lv' := [(0, .ref o), (1, .int x1), (2, .int x2)]) [0, 1, 2] rfl ?_
  refine ag_iconst E1 dX0_hoursAhead_0 ki_1 ?_
  refine ag_iload_n E1 dX0_hoursAhead_1 rfl 2 rfl ?_
  refine ag_aload_n E1 dX0_hoursAhead_2 rfl 0 rfl ?_
  refine ax_geti E 7 (by decide) rfl q673 dX0_hoursAhead_3 ?_
  refine ag_iadd E1 dX0_hoursAhead_6 ?_
  refine ag_iconst E1 dX0_hoursAhead_7 ki_1 ?_
  refine ag_isub E1 dX0_hoursAhead_8 ?_
  refine ag_aload_n E1 dX0_hoursAhead_9 rfl 0 rfl ?_
  refine ax_geti E 7 (by decide) rfl q673 dX0_hoursAhead_10 ?_
  obtain ⟨hne, h⟩ := h
  refine ag_irem E1 dX0_hoursAhead_13 hne ?_
  refine ag_ishl E1 dX0_hoursAhead_14 ?_
  refine ag_topi (fun x3_1 e_x3_1 => ?_)
  have h := h x3_1 e_x3_1
  refine ag_istore_n E1 (lv' := [(3, .int x3_1), (0, .ref o), (1, .int x1), (2, .int x2)]) dX0_hoursAhead_15 rfl (Nat.lt_of_lt_of_le (Nat.le_refl _) (Nat.le_of_ble_eq_true rfl)) rfl ?_
  refine ag_bipush E1 dX0_hoursAhead_16 kb_99 ?_
  refine ag_istore E1 (lv' := [(4, .int (99 : Int32)), (3, .int x3_1), (0, .ref o), (1, .int x1), (2, .int x2)]) dX0_hoursAhead_18 (Nat.lt_of_lt_of_le (Nat.le_refl _) (Nat.le_of_ble_eq_true rfl)) rfl ?_
  refine ag_iconst E1 dX0_hoursAhead_20 ki_0 ?_
  refine ag_istore E1 (lv' := [(5, .int (0 : Int32)), (4, .int (99 : Int32)), (3, .int x3_1), (0, .ref o), (1, .int x1), (2, .int x2)]) dX0_hoursAhead_21 (Nat.lt_of_lt_of_le (Nat.le_refl _) (Nat.le_of_ble_eq_true rfl)) rfl ?_
  refine ag_sub (lv' := [(0, .ref o), (1, .int x1), (3, .int x3_1), (4, .int (99 : Int32)), (5, .int (0 : Int32))]) [3, 4, 2, 1, 0] rfl ?_
  obtain ⟨n, h⟩ := h
  exact tlX0_hoursAhead_23 E  n _ _ _ _ _ h
theorem hdX0_hoursAhead : yX0_hoursAhead.cls = RX0 ∧ yX0_hoursAhead.cls ≠ "java/lang/invoke/MethodHandle" ∧ yX0_hoursAhead.cls ≠ "java/lang/invoke/VarHandle" ∧ (parseMethodDescriptor yX0_hoursAhead.desc).map (fun d => d.parameters.length) = some 2 := by decide +kernel
theorem tbX0_others_38 (E : EX p R s m args meth c cX0_others 5 RX0 (some .int) D cs b H0 (XKd b H0 ad vs) [] 0 0 z u) {Q : Int32 → XS → Prop} {K5 : Int32 → Int32 → Int32 → Int32 → XS → Prop} (hK5 : ∀ (x1 : Int32) (x2 : Int32) (x3 : Int32) (x4 : Int32) (f : XS), K5 x1 x2 x3 x4 f → AX p l e R s m args below meth c D cs b 5 o z u (xI Q) 5 [(0, .ref o), (1, .int x1), (2, .int x2), (3, .int x3), (4, .int x4)] [] f) {x1 : Int32} {x2 : Int32} {x3 : Int32} {x4 : Int32} {f : XS} (h : wbX0_others_38 b cs ad vs o K5 Q x1 x2 x3 x4 f) : AX p l e R s m args below meth c D cs b 5 o z u (xI Q) 38 [(0, .ref o), (1, .int x1), (2, .int x2), (3, .int x3), (4, .int x4)] [] f := by
  have E1 := E.1
  refine ag_iincN E1 (lv' := fun x4_1 => [(4, .int x4_1), (0, .ref o), (1, .int x1), (2, .int x2), (3, .int x3)]) dX0_others_38 4 rfl ki_1 (Nat.lt_of_lt_of_le (Nat.le_refl _) (Nat.le_of_ble_eq_true rfl)) (fun _ => rfl) (fun x4_1 e_x4_1 => ?_)
  have h := h x4_1 e_x4_1
  refine ag_goto E1 (tgt := 5) dX0_others_41 (by decide) ?_
  refine ag_sub (lv' := [(0, .ref o), (1, .int x1), (2, .int x2), (3, .int x3), (4, .int x4_1)]) [1, 2, 3, 4, 0] rfl ?_
  exact hK5 _ _ _ _ _ h
theorem tbX0_others_5 (E : EX p R s m args meth c cX0_others 5 RX0 (some .int) D cs b H0 (XKd b H0 ad vs) [] 0 0 z u) {Q : Int32 → XS → Prop} {K5 : Int32 → Int32 → Int32 → Int32 → XS → Prop} (hK5 : ∀ (x1 : Int32) (x2 : Int32) (x3 : Int32) (x4 : Int32) (f : XS), K5 x1 x2 x3 x4 f → AX p l e R s m args below meth c D cs b 5 o z u (xI Q) 5 [(0, .ref o), (1, .int x1), (2, .int x2), (3, .int x3), (4, .int x4)] [] f) {x1 : Int32} {x2 : Int32} {x3 : Int32} {x4 : Int32} {f : XS} (h : wbX0_others_5 b cs ad vs o K5 Q x1 x2 x3 x4 f) : AX p l e R s m args below meth c D cs b 5 o z u (xI Q) 5 [(0, .ref o), (1, .int x1), (2, .int x2), (3, .int x3), (4, .int x4)] [] f := by
  have E1 := E.1
  refine ag_iload E1 dX0_others_5 4 rfl ?_
  refine ag_aload_n E1 dX0_others_7 rfl 0 rfl ?_
  refine ax_geti E 6 (by decide) rfl q672 dX0_others_8 ?_
  refine ag_icmp_ge E1 (tgt := 44) dX0_others_11 (by decide) (fun c_11 => ?_) (fun c_11 => ?_)
  · have h := h.1 c_11
    refine ag_iload_n E1 dX0_others_44 rfl 3 rfl ?_
    exact ax_iret E rfl ⟨_, rfl, h⟩ dX0_others_45
  · have h := h.2 c_11
    refine ag_iload E1 dX0_others_14 4 rfl ?_
    refine ag_iload_n E1 dX0_others_16 rfl 1 rfl ?_
    refine ag_icmp_eq E1 (tgt := 38) dX0_others_17 (by decide) (fun c_17 => ?_) (fun c_17 => ?_)
    · have h := h.1 c_17
      exact tbX0_others_38 E hK5 h
    · have h := h.2 c_17
      refine ag_aload_n E1 dX0_others_20 rfl 0 rfl ?_
      refine ax_geta E 14 (i := 11) (by decide) rfl rfl q680 dX0_others_21 ?_
      refine ag_iload E1 dX0_others_24 4 rfl ?_
      obtain ⟨hin, h⟩ := h
      refine ax_iald E 14 rfl rfl rfl (by decide) hin dX0_others_26 ?_
      refine ag_iload_n E1 dX0_others_27 rfl 2 rfl ?_
      refine ag_ishr E1 dX0_others_28 ?_
      refine ag_iconst E1 dX0_others_29 ki_1 ?_
      refine ag_iand E1 dX0_others_30 ?_
      refine ag_iconst E1 dX0_others_31 ki_1 ?_
      refine ag_icmp_ne E1 (tgt := 38) dX0_others_32 (by decide) (fun c_32 => ?_) (fun c_32 => ?_)
      · have h := h.1 c_32
        exact tbX0_others_38 E hK5 h
      · have h := h.2 c_32
        refine ag_iincN E1 (lv' := fun x3_2 => [(3, .int x3_2), (0, .ref o), (1, .int x1), (2, .int x2), (4, .int x4)]) dX0_others_35 3 rfl ki_1 (Nat.lt_of_lt_of_le (Nat.le_refl _) (Nat.le_of_ble_eq_true rfl)) (fun _ => rfl) (fun x3_2 e_x3_2 => ?_)
        have h := h x3_2 e_x3_2
        refine ag_sub (lv' := [(0, .ref o), (1, .int x1), (2, .int x2), (3, .int x3_2), (4, .int x4)]) [1, 2, 3, 0, 4] rfl ?_
        exact tbX0_others_38 E hK5 h
theorem tlX0_others_5 (E : EX p R s m args meth c cX0_others 5 RX0 (some .int) D cs b H0 (XKd b H0 ad vs) [] 0 0 z u) {Q : Int32 → XS → Prop}  : ∀ (n : Nat) (x1 : Int32) (x2 : Int32) (x3 : Int32) (x4 : Int32) (f : XS), wlX0_others_5 b cs ad vs o  Q n x1 x2 x3 x4 f → AX p l e R s m args below meth c D cs b 5 o z u (xI Q) 5 [(0, .ref o), (1, .int x1), (2, .int x2), (3, .int x3), (4, .int x4)] [] f := by
  intro n
  induction n with
  | zero => intro _ _ _ _ _ h; exact h.elim
  | succ n ih => intro x1 x2 x3 x4 f h; exact tbX0_others_5 E ih h
theorem kX0_others (l : Launch) (D : va_G) (cs : Nat → ClassId) (b : Nat) (H0 : Heap) (ad : Nat → Nat) (vs : Nat → Option Nat) (o : Nat) (f : XS) (x1 : Int32) (x2 : Int32) (Q : Int32 → XS → Prop) (h : wX0_others b cs ad vs o f x1 x2 Q) : CX l D cs b H0 (XKd b H0 ad vs) o yX0_others cX0_others 5 (some .int) 0 0 [.ref o, .int x1, .int x2] f (xI Q) := by
  refine cx_of (by decide) (Nat.le_of_ble_eq_true rfl) (fun p e R s m below meth c E => ?_)
  have E1 := E.1
  refine ag_sub (lv' := [(0, .ref o), (1, .int x1), (2, .int x2)]) [0, 1, 2] rfl ?_
  refine ag_iconst E1 dX0_others_0 ki_0 ?_
  refine ag_istore_n E1 (lv' := [(3, .int (0 : Int32)), (0, .ref o), (1, .int x1), (2, .int x2)]) dX0_others_1 rfl (Nat.lt_of_lt_of_le (Nat.le_refl _) (Nat.le_of_ble_eq_true rfl)) rfl ?_
  refine ag_iconst E1 dX0_others_2 ki_0 ?_
  refine ag_istore E1 (lv' := [(4, .int (0 : Int32)), (3, .int (0 : Int32)), (0, .ref o), (1, .int x1), (2, .int x2)]) dX0_others_3 (Nat.lt_of_lt_of_le (Nat.le_refl _) (Nat.le_of_ble_eq_true rfl)) rfl ?_
  refine ag_sub (lv' := [(0, .ref o), (1, .int x1), (2, .int x2), (3, .int (0 : Int32)), (4, .int (0 : Int32))]) [2, 3, 4, 1, 0] rfl ?_
  obtain ⟨n, h⟩ := h
  exact tlX0_others_5 E  n _ _ _ _ _ h
theorem hdX0_others : yX0_others.cls = RX0 ∧ yX0_others.cls ≠ "java/lang/invoke/MethodHandle" ∧ yX0_others.cls ≠ "java/lang/invoke/VarHandle" ∧ (parseMethodDescriptor yX0_others.desc).map (fun d => d.parameters.length) = some 2 := by decide +kernel
theorem tbX0_worthAt_61 (E : EX p R s m args meth c cX0_worthAt 6 RX0 (some .int) D cs b H0 (XKd b H0 ad vs) [] 202 8065 z u) {Q : Int32 → XS → Prop} {K8 : Nat → Int32 → Int32 → Int32 → Int32 → XS → Prop} (hK8 : ∀ (x1 : Nat) (x2 : Int32) (x3 : Int32) (x4 : Int32) (x5 : Int32) (f : XS), K8 x1 x2 x3 x4 x5 f → AX p l e R s m args below meth c D cs b 6 o z u (xI Q) 8 [(0, .ref o), (1, .ref x1), (2, .int x2), (3, .int x3), (4, .int x4), (5, .int x5)] [] f) {K67 : Nat → Int32 → Int32 → XS → Prop} (hK67 : ∀ (x1 : Nat) (x3 : Int32) (x4 : Int32) (f : XS), K67 x1 x3 x4 f → AX p l e R s m args below meth c D cs b 6 o z u (xI Q) 67 [(1, .ref x1), (3, .int x3), (4, .int x4)] [] f) {x1 : Nat} {x2 : Int32} {x3 : Int32} {x4 : Int32} {x5 : Int32} {f : XS} (h : wbX0_worthAt_61 b cs ad vs o K8 K67 Q x1 x2 x3 x4 x5 f) : AX p l e R s m args below meth c D cs b 6 o z u (xI Q) 61 [(0, .ref o), (1, .ref x1), (2, .int x2), (3, .int x3), (4, .int x4), (5, .int x5)] [] f := by
  have E1 := E.1
  refine ag_iincN E1 (lv' := fun x5_9 => [(5, .int x5_9), (0, .ref o), (1, .ref x1), (2, .int x2), (3, .int x3), (4, .int x4)]) dX0_worthAt_61 5 rfl ki_1 (Nat.lt_of_lt_of_le (Nat.le_refl _) (Nat.le_of_ble_eq_true rfl)) (fun _ => rfl) (fun x5_9 e_x5_9 => ?_)
  have h := h x5_9 e_x5_9
  refine ag_goto E1 (tgt := 8) dX0_worthAt_64 (by decide) ?_
  refine ag_sub (lv' := [(0, .ref o), (1, .ref x1), (2, .int x2), (3, .int x3), (4, .int x4), (5, .int x5_9)]) [1, 2, 3, 4, 5, 0] rfl ?_
  exact hK8 _ _ _ _ _ _ h
theorem tbX0_worthAt_8 (E : EX p R s m args meth c cX0_worthAt 6 RX0 (some .int) D cs b H0 (XKd b H0 ad vs) [] 202 8065 z u) {Q : Int32 → XS → Prop} {K8 : Nat → Int32 → Int32 → Int32 → Int32 → XS → Prop} (hK8 : ∀ (x1 : Nat) (x2 : Int32) (x3 : Int32) (x4 : Int32) (x5 : Int32) (f : XS), K8 x1 x2 x3 x4 x5 f → AX p l e R s m args below meth c D cs b 6 o z u (xI Q) 8 [(0, .ref o), (1, .ref x1), (2, .int x2), (3, .int x3), (4, .int x4), (5, .int x5)] [] f) {K67 : Nat → Int32 → Int32 → XS → Prop} (hK67 : ∀ (x1 : Nat) (x3 : Int32) (x4 : Int32) (f : XS), K67 x1 x3 x4 f → AX p l e R s m args below meth c D cs b 6 o z u (xI Q) 67 [(1, .ref x1), (3, .int x3), (4, .int x4)] [] f) {x1 : Nat} {x2 : Int32} {x3 : Int32} {x4 : Int32} {x5 : Int32} {f : XS} (h : wbX0_worthAt_8 b cs ad vs o K8 K67 Q x1 x2 x3 x4 x5 f) : AX p l e R s m args below meth c D cs b 6 o z u (xI Q) 8 [(0, .ref o), (1, .ref x1), (2, .int x2), (3, .int x3), (4, .int x4), (5, .int x5)] [] f := by
  have E1 := E.1
  refine ag_iload E1 dX0_worthAt_8 5 rfl ?_
  refine ag_aload_n E1 dX0_worthAt_10 rfl 0 rfl ?_
  refine ax_geti E 7 (by decide) rfl q673 dX0_worthAt_11 ?_
  refine ag_icmp_ge E1 (tgt := 67) dX0_worthAt_14 (by decide) (fun c_14 => ?_) (fun c_14 => ?_)
  · have h := h.1 c_14
    refine ag_sub (lv' := [(1, .ref x1), (3, .int x3), (4, .int x4)]) [1, 3, 4] rfl ?_
    exact hK67 _ _ _ _ h
  · have h := h.2 c_14
    refine ag_aload_n E1 dX0_worthAt_17 rfl 0 rfl ?_
    refine ax_geta E 14 (i := 11) (by decide) rfl rfl q680 dX0_worthAt_18 ?_
    refine ag_iload_n E1 dX0_worthAt_21 rfl 2 rfl ?_
    obtain ⟨hin, h⟩ := h
    refine ax_iald E 14 rfl rfl rfl (by decide) hin dX0_worthAt_22 ?_
    refine ag_iload E1 dX0_worthAt_23 5 rfl ?_
    refine ag_ishr E1 dX0_worthAt_25 ?_
    refine ag_iconst E1 dX0_worthAt_26 ki_1 ?_
    refine ag_iand E1 dX0_worthAt_27 ?_
    refine ag_if_ne E1 (tgt := 34) dX0_worthAt_28 (by decide) (fun c_28 => ?_) (fun c_28 => ?_)
    · have h := h.1 c_28
      refine ag_iload_n E1 dX0_worthAt_34 rfl 3 rfl ?_
      refine ag_aload_n E1 dX0_worthAt_35 rfl 0 rfl ?_
      refine ag_iload_n E1 dX0_worthAt_36 rfl 2 rfl ?_
      refine ag_iload E1 dX0_worthAt_37 5 rfl ?_
      refine ag_aload_n E1 dX0_worthAt_39 rfl 0 rfl ?_
      refine ag_iload_n E1 dX0_worthAt_40 rfl 2 rfl ?_
      refine ag_iload E1 dX0_worthAt_41 5 rfl ?_
      refine ax_callVi E [.int x2, .int x5] (kX0_hoursAhead _ _ _ _ _ _ _ _ _ _ _ _ h) (lw_V q1133 q1135 qs29 q83 q1136) hdX0_hoursAhead (Nat.le_of_ble_eq_true rfl) (Nat.le_of_ble_eq_true rfl) rfl (Nat.le_of_ble_eq_true rfl) dX0_worthAt_43 rfl (fun r_2 f_1 h => ?_)
      refine ag_aload_n E1 dX0_worthAt_46 rfl 0 rfl ?_
      refine ag_iload_n E1 dX0_worthAt_47 rfl 2 rfl ?_
      refine ag_iload E1 dX0_worthAt_48 5 rfl ?_
      refine ax_callVi E [.int x2, .int x5] (kX0_others _ _ _ _ _ _ _ _ _ _ _ _ h) (lw_V q1137 q1139 qs30 q83 q1140) hdX0_others (Nat.le_of_ble_eq_true rfl) (Nat.le_of_ble_eq_true rfl) rfl (Nat.le_of_ble_eq_true rfl) dX0_worthAt_50 rfl (fun r_4 f_3 h => ?_)
      refine ax_callVi E [.int x2, .int x5, .int r_2, .int r_4] (kX0_saysWorth _ _ _ _ _ _ _ _ _ _ _ _ _ _ h) (lw_V q888 q890 qs18 q83 q891) hdX0_saysWorth (Nat.le_of_ble_eq_true rfl) (Nat.le_of_ble_eq_true rfl) rfl (Nat.le_of_ble_eq_true rfl) dX0_worthAt_53 rfl (fun r_6 f_5 h => ?_)
      refine ag_iadd E1 dX0_worthAt_56 ?_
      refine ag_topi (fun x3_7 e_x3_7 => ?_)
      have h := h x3_7 e_x3_7
      refine ag_istore_n E1 (lv' := [(3, .int x3_7), (0, .ref o), (1, .ref x1), (2, .int x2), (4, .int x4), (5, .int x5)]) dX0_worthAt_57 rfl (Nat.lt_of_lt_of_le (Nat.le_refl _) (Nat.le_of_ble_eq_true rfl)) rfl ?_
      refine ag_iincN E1 (lv' := fun x4_8 => [(4, .int x4_8), (3, .int x3_7), (0, .ref o), (1, .ref x1), (2, .int x2), (5, .int x5)]) dX0_worthAt_58 4 rfl ki_1 (Nat.lt_of_lt_of_le (Nat.le_refl _) (Nat.le_of_ble_eq_true rfl)) (fun _ => rfl) (fun x4_8 e_x4_8 => ?_)
      have h := h x4_8 e_x4_8
      refine ag_sub (lv' := [(0, .ref o), (1, .ref x1), (2, .int x2), (3, .int x3_7), (4, .int x4_8), (5, .int x5)]) [2, 3, 4, 1, 0, 5] rfl ?_
      exact tbX0_worthAt_61 E hK8 hK67 h
    · have h := h.2 c_28
      refine ag_goto E1 (tgt := 61) dX0_worthAt_31 (by decide) ?_
      exact tbX0_worthAt_61 E hK8 hK67 h
theorem tlX0_worthAt_8 (E : EX p R s m args meth c cX0_worthAt 6 RX0 (some .int) D cs b H0 (XKd b H0 ad vs) [] 202 8065 z u) {Q : Int32 → XS → Prop} {K67 : Nat → Int32 → Int32 → XS → Prop} (hK67 : ∀ (x1 : Nat) (x3 : Int32) (x4 : Int32) (f : XS), K67 x1 x3 x4 f → AX p l e R s m args below meth c D cs b 6 o z u (xI Q) 67 [(1, .ref x1), (3, .int x3), (4, .int x4)] [] f) : ∀ (n : Nat) (x1 : Nat) (x2 : Int32) (x3 : Int32) (x4 : Int32) (x5 : Int32) (f : XS), wlX0_worthAt_8 b cs ad vs o K67 Q n x1 x2 x3 x4 x5 f → AX p l e R s m args below meth c D cs b 6 o z u (xI Q) 8 [(0, .ref o), (1, .ref x1), (2, .int x2), (3, .int x3), (4, .int x4), (5, .int x5)] [] f := by
  intro n
  induction n with
  | zero => intro _ _ _ _ _ _ h; exact h.elim
  | succ n ih => intro x1 x2 x3 x4 x5 f h; exact tbX0_worthAt_8 E ih hK67 h
theorem kX0_worthAt (l : Launch) (D : va_G) (cs : Nat → ClassId) (b : Nat) (H0 : Heap) (ad : Nat → Nat) (vs : Nat → Option Nat) (o : Nat) (f : XS) (x1 : Nat) (x2 : Int32) (Q : Int32 → XS → Prop) (h : wX0_worthAt b cs ad vs o f x1 x2 Q) : CX l D cs b H0 (XKd b H0 ad vs) o yX0_worthAt cX0_worthAt 6 (some .int) 202 8065 [.ref o, .ref x1, .int x2] f (xI Q) := by
  refine cx_of (by decide) (Nat.le_of_ble_eq_true rfl) (fun p e R s m below meth c E => ?_)
  have E1 := E.1
  refine ag_sub (lv' := [(0, .ref o), (1, .ref x1), (2, .int x2)]) [0, 1, 2] rfl ?_
  refine ag_iconst E1 dX0_worthAt_0 ki_0 ?_
  refine ag_istore_n E1 (lv' := [(3, .int (0 : Int32)), (0, .ref o), (1, .ref x1), (2, .int x2)]) dX0_worthAt_1 rfl (Nat.lt_of_lt_of_le (Nat.le_refl _) (Nat.le_of_ble_eq_true rfl)) rfl ?_
  refine ag_iconst E1 dX0_worthAt_2 ki_0 ?_
  refine ag_istore E1 (lv' := [(4, .int (0 : Int32)), (3, .int (0 : Int32)), (0, .ref o), (1, .ref x1), (2, .int x2)]) dX0_worthAt_3 (Nat.lt_of_lt_of_le (Nat.le_refl _) (Nat.le_of_ble_eq_true rfl)) rfl ?_
  refine ag_iconst E1 dX0_worthAt_5 ki_0 ?_
  refine ag_istore E1 (lv' := [(5, .int (0 : Int32)), (4, .int (0 : Int32)), (3, .int (0 : Int32)), (0, .ref o), (1, .ref x1), (2, .int x2)]) dX0_worthAt_6 (Nat.lt_of_lt_of_le (Nat.le_refl _) (Nat.le_of_ble_eq_true rfl)) rfl ?_
  refine ag_sub (lv' := [(0, .ref o), (1, .ref x1), (2, .int x2), (3, .int (0 : Int32)), (4, .int (0 : Int32)), (5, .int (0 : Int32))]) [3, 4, 5, 2, 1, 0] rfl ?_
  obtain ⟨n, h⟩ := h
  refine tlX0_worthAt_8 E ?_ n _ _ _ _ _ _ h
  · intro x1 x3 x4 f h
    refine ag_aload_n E1 dX0_worthAt_67 rfl 0 rfl ?_
    refine ag_iload_n E1 dX0_worthAt_68 rfl 1 rfl ?_
    refine ag_iload E1 dX0_worthAt_69 2 rfl ?_
    refine av_worth E1 h q1141 (Nat.le_of_ble_eq_true rfl) (Nat.le_of_ble_eq_true rfl) (Nat.le_of_ble_eq_true rfl) dX0_worthAt_71 (fun r_10 f_11_w h => ?_)
    obtain ⟨f_11, rfl, h⟩ := h
    exact ax_iret E rfl ⟨_, rfl, h⟩ dX0_worthAt_74
theorem hdX0_worthAt : yX0_worthAt.cls = RX0 ∧ yX0_worthAt.cls ≠ "java/lang/invoke/MethodHandle" ∧ yX0_worthAt.cls ≠ "java/lang/invoke/VarHandle" ∧ (parseMethodDescriptor yX0_worthAt.desc).map (fun d => d.parameters.length) = some 2 := by decide +kernel
theorem tbX0_judge_83 (E : EX p R s m args meth c cX0_judge 7 RX0 (some .long) D cs b H0 (XKd b H0 ad vs) [] 203 8090 z u) {Q : Int64 → XS → Prop} {K83 : Int32 → Int64 → Int32 → XS → Prop} (hK83 : ∀ (x1 : Int32) (x4 : Int64) (x6 : Int32) (f : XS), K83 x1 x4 x6 f → AX p l e R s m args below meth c D cs b 7 o z u (xJ Q) 83 [(0, .ref o), (1, .int x1), (4, .long x4), (6, .int x6)] [] f) {x1 : Int32} {x4 : Int64} {x6 : Int32} {f : XS} (h : wbX0_judge_83 b cs ad vs o K83 Q x1 x4 x6 f) : AX p l e R s m args below meth c D cs b 7 o z u (xJ Q) 83 [(0, .ref o), (1, .int x1), (4, .long x4), (6, .int x6)] [] f := by
  have E1 := E.1
  refine ag_iload E1 dX0_judge_83 3 rfl ?_
  refine ag_aload_n E1 dX0_judge_85 rfl 0 rfl ?_
  refine ax_geti E 6 (by decide) rfl q672 dX0_judge_86 ?_
  refine ag_icmp_ge E1 (tgt := 121) dX0_judge_89 (by decide) (fun c_89 => ?_) (fun c_89 => ?_)
  · have h := h.1 c_89
    refine ag_lload E1 dX0_judge_121 2 rfl ?_
    exact ax_lret E rfl ⟨_, rfl, h⟩ dX0_judge_123
  · have h := h.2 c_89
    refine ag_lload E1 dX0_judge_92 2 rfl ?_
    refine ag_aload_n E1 dX0_judge_94 rfl 0 rfl ?_
    refine ag_aload_n E1 dX0_judge_95 rfl 0 rfl ?_
    refine ax_geto E 11 (i := 9) (by decide) rfl (fun _ => rfl) q677 dX0_judge_96 ?_
    refine ag_iload_n E1 dX0_judge_99 rfl 1 rfl ?_
    obtain ⟨hF_19, h⟩ := h
    obtain ⟨y_20, v_21, y_22, hP_23_z, h⟩ := h
    have hP_23 := (wX_at (cs := cs) hF_19).trans hP_23_z
    refine ag_callV E1 (ci := 16) (C := RJ2) (T0 := TJ2) (n2 := 3) hP_23 rfl (kJ2_get _ _ _ _ _ _ _ _ _ _ _ h) (lw_V q1054 q1055 q1056 q86 q1057) ⟨rfl, hdJ2_get⟩ (Nat.le_of_ble_eq_true rfl) (Nat.le_of_ble_eq_true rfl) (As := [.int x1]) rfl (Nat.le_of_ble_eq_true rfl) dX0_judge_100 (fun v_ f_18_w hv => ?_) rfl
    obtain ⟨r_24, rfl, f_18, rfl, h⟩ := hv
    obtain ⟨ci_25, cV_26, hv_27, ho_28, h⟩ := h
    refine ag_castO E1 hv_27 (gOk_ok ho_28) q909 dX0_judge_103 ?_
    refine ag_iload E1 dX0_judge_106 3 rfl ?_
    refine ax_callVi E [.ref r_24, .int x6] (kX0_worthAt _ _ _ _ _ _ _ _ _ _ _ _ h) (lw_V q1129 q1131 qs28 q83 q1132) hdX0_worthAt (Nat.le_of_ble_eq_true rfl) (Nat.le_of_ble_eq_true rfl) rfl (Nat.le_of_ble_eq_true rfl) dX0_judge_108 rfl (fun r_30 f_29 h => ?_)
    refine ag_i2l E1 dX0_judge_111 ?_
    refine ag_ladd E1 dX0_judge_112 ?_
    refine ag_topl (fun x4_31 e_x4_31 => ?_)
    have h := h x4_31 e_x4_31
    refine ag_lstore E1 (lv' := [(4, .long x4_31), (0, .ref o), (1, .int x1), (6, .int x6)]) dX0_judge_113 (Nat.lt_of_lt_of_le (Nat.le_refl _) (Nat.le_of_ble_eq_true rfl)) rfl ?_
    refine ag_iincN E1 (lv' := fun x6_32 => [(6, .int x6_32), (4, .long x4_31), (0, .ref o), (1, .int x1)]) dX0_judge_115 3 rfl ki_1 (Nat.lt_of_lt_of_le (Nat.le_refl _) (Nat.le_of_ble_eq_true rfl)) (fun _ => rfl) (fun x6_32 e_x6_32 => ?_)
    have h := h x6_32 e_x6_32
    refine ag_goto E1 (tgt := 83) dX0_judge_118 (by decide) ?_
    refine ag_sub (lv' := [(0, .ref o), (1, .int x1), (4, .long x4_31), (6, .int x6_32)]) [2, 3, 1, 0] rfl ?_
    exact hK83 _ _ _ _ h
theorem tlX0_judge_83 (E : EX p R s m args meth c cX0_judge 7 RX0 (some .long) D cs b H0 (XKd b H0 ad vs) [] 203 8090 z u) {Q : Int64 → XS → Prop}  : ∀ (n : Nat) (x1 : Int32) (x4 : Int64) (x6 : Int32) (f : XS), wlX0_judge_83 b cs ad vs o  Q n x1 x4 x6 f → AX p l e R s m args below meth c D cs b 7 o z u (xJ Q) 83 [(0, .ref o), (1, .int x1), (4, .long x4), (6, .int x6)] [] f := by
  intro n
  induction n with
  | zero => intro _ _ _ _ h; exact h.elim
  | succ n ih => intro x1 x4 x6 f h; exact tbX0_judge_83 E ih h
theorem kX0_judge (l : Launch) (D : va_G) (cs : Nat → ClassId) (b : Nat) (H0 : Heap) (ad : Nat → Nat) (vs : Nat → Option Nat) (o : Nat) (f : XS) (x1 : Int32) (x2 : Int32) (x3 : Int32) (Q : Int64 → XS → Prop) (h : wX0_judge b cs ad vs o f x1 x2 x3 Q) : CX l D cs b H0 (XKd b H0 ad vs) o yX0_judge cX0_judge 7 (some .long) 203 8090 [.ref o, .int x1, .int x2, .int x3] f (xJ Q) := by
  refine cx_of (by decide) (Nat.le_of_ble_eq_true rfl) (fun p e R s m below meth c E => ?_)
  have E1 := E.1
  refine ag_sub (lv' := [(0, .ref o), (1, .int x1), (2, .int x2), (3, .int x3)]) [0, 1, 2, 3] rfl ?_
  refine ag_aload_n E1 dX0_judge_0 rfl 0 rfl ?_
  refine ag_iload_n E1 dX0_judge_1 rfl 1 rfl ?_
  refine ax_callVi E [.int x1] (kX0_isGiving _ _ _ _ _ _ _ _ _ _ _ h) (lw_V q1050 q1052 qs22 q83 q1053) hdX0_isGiving (Nat.le_of_ble_eq_true rfl) (Nat.le_of_ble_eq_true rfl) rfl (Nat.le_of_ble_eq_true rfl) dX0_judge_2 rfl (fun r_2 f_1 h => ?_)
  refine ag_if_eq E1 (tgt := 34) dX0_judge_5 (by decide) (fun c_5 => ?_) (fun c_5 => ?_)
  · have h := h.1 c_5
    refine ag_ldc2 E1 q879 dX0_judge_34 ?_
    exact ax_lret E rfl ⟨_, rfl, h⟩ dX0_judge_37
  · have h := h.2 c_5
    refine ag_aload_n E1 dX0_judge_8 rfl 0 rfl ?_
    refine ag_iload_n E1 dX0_judge_9 rfl 2 rfl ?_
    refine ax_callVi E [.int x2] (kX0_isWeek _ _ _ _ _ _ _ _ _ _ _ h) (lw_V q841 q843 qs15 q83 q844) hdX0_isWeek (Nat.le_of_ble_eq_true rfl) (Nat.le_of_ble_eq_true rfl) rfl (Nat.le_of_ble_eq_true rfl) dX0_judge_10 rfl (fun r_4 f_3 h => ?_)
    refine ag_if_eq E1 (tgt := 34) dX0_judge_13 (by decide) (fun c_13 => ?_) (fun c_13 => ?_)
    · have h := h.1 c_13
      refine ag_ldc2 E1 q879 dX0_judge_34 ?_
      exact ax_lret E rfl ⟨_, rfl, h⟩ dX0_judge_37
    · have h := h.2 c_13
      refine ag_iload_n E1 dX0_judge_16 rfl 3 rfl ?_
      refine ag_i2l E1 dX0_judge_17 ?_
      refine ag_ldc2 E1 q830 dX0_judge_18 ?_
      refine ag_aload_n E1 dX0_judge_21 rfl 0 rfl ?_
      refine ax_geti E 6 (by decide) rfl q672 dX0_judge_22 ?_
      refine ag_i2l E1 dX0_judge_25 ?_
      refine ag_lconst E1 (v := 1) dX0_judge_26 rfl ?_
      refine ag_lsub E1 dX0_judge_27 ?_
      refine ag_callPi E1 (As := [.long (Int32.toInt64 x3), .long (-1 : Int64), .long ((Int32.toInt64 (f_3.1 99 6)) - (1 : Int64))]) (kX0_in _ _ _ _ _ _ _ _ _ _ _ _ h) (lw_S q801 q280 q83 q281) hdX0_in (Nat.le_of_ble_eq_true rfl) (Nat.le_of_ble_eq_true rfl) rfl (Nat.le_of_ble_eq_true rfl) dX0_judge_28 rfl (fun r_5 h => ?_)
      refine ag_if_ne E1 (tgt := 38) dX0_judge_31 (by decide) (fun c_31 => ?_) (fun c_31 => ?_)
      · have h := h.1 c_31
        refine ag_aload_n E1 dX0_judge_38 rfl 0 rfl ?_
        refine ag_aload_n E1 dX0_judge_39 rfl 0 rfl ?_
        refine ax_geto E 11 (i := 9) (by decide) rfl (fun _ => rfl) q677 dX0_judge_40 ?_
        refine ag_iload_n E1 dX0_judge_43 rfl 1 rfl ?_
        obtain ⟨hF_7, h⟩ := h
        obtain ⟨y_8, v_9, y_10, hP_11_z, h⟩ := h
        have hP_11 := (wX_at (cs := cs) hF_7).trans hP_11_z
        refine ag_callV E1 (ci := 16) (C := RJ2) (T0 := TJ2) (n2 := 3) hP_11 rfl (kJ2_get _ _ _ _ _ _ _ _ _ _ _ h) (lw_V q1054 q1055 q1056 q86 q1057) ⟨rfl, hdJ2_get⟩ (Nat.le_of_ble_eq_true rfl) (Nat.le_of_ble_eq_true rfl) (As := [.int x1]) rfl (Nat.le_of_ble_eq_true rfl) dX0_judge_44 (fun v_ f_6_w hv => ?_) rfl
        obtain ⟨r_12, rfl, f_6, rfl, h⟩ := hv
        obtain ⟨ci_13, cV_14, hv_15, ho_16, h⟩ := h
        refine ag_castO E1 hv_15 (gOk_ok ho_16) q909 dX0_judge_47 ?_
        refine ag_iload_n E1 dX0_judge_50 rfl 2 rfl ?_
        refine ax_callVv E [.ref r_12, .int x2] (kX0_looks _ _ _ _ _ _ _ _ _ _ _ _ h) (lw_V q1105 q1107 qs24 q83 q1108) hdX0_looks (Nat.le_of_ble_eq_true rfl) (Nat.le_of_ble_eq_true rfl) rfl (Nat.le_of_ble_eq_true rfl) dX0_judge_51 rfl (fun f_17 h => ?_)
        refine ag_iload_n E1 dX0_judge_54 rfl 3 rfl ?_
        refine ag_iconst E1 dX0_judge_55 ki_m1 ?_
        refine ag_icmp_eq E1 (tgt := 77) dX0_judge_56 (by decide) (fun c_56 => ?_) (fun c_56 => ?_)
        · have h := h.1 c_56
          refine ag_lconst E1 (v := 0) dX0_judge_77 rfl ?_
          refine ag_lstore E1 (lv' := [(4, .long (0 : Int64)), (0, .ref o), (1, .int x1), (2, .int x2), (3, .int x3)]) dX0_judge_78 (Nat.lt_of_lt_of_le (Nat.le_refl _) (Nat.le_of_ble_eq_true rfl)) rfl ?_
          refine ag_iconst E1 dX0_judge_80 ki_0 ?_
          refine ag_istore E1 (lv' := [(6, .int (0 : Int32)), (4, .long (0 : Int64)), (0, .ref o), (1, .int x1), (2, .int x2), (3, .int x3)]) dX0_judge_81 (Nat.lt_of_lt_of_le (Nat.le_refl _) (Nat.le_of_ble_eq_true rfl)) rfl ?_
          refine ag_sub (lv' := [(0, .ref o), (1, .int x1), (4, .long (0 : Int64)), (6, .int (0 : Int32))]) [2, 3, 1, 0] rfl ?_
          obtain ⟨n, h⟩ := h
          exact tlX0_judge_83 E  n _ _ _ _ h
        · have h := h.2 c_56
          refine ag_aload_n E1 dX0_judge_59 rfl 0 rfl ?_
          refine ag_aload_n E1 dX0_judge_60 rfl 0 rfl ?_
          refine ax_geto E 11 (i := 9) (by decide) rfl (fun _ => rfl) q677 dX0_judge_61 ?_
          refine ag_iload_n E1 dX0_judge_64 rfl 1 rfl ?_
          obtain ⟨y_34, v_35, y_36, hP_37_z, h⟩ := h
          have hP_37 := (wX_at (cs := cs) hF_7).trans hP_37_z
          refine ag_callV E1 (ci := 16) (C := RJ2) (T0 := TJ2) (n2 := 3) hP_37 rfl (kJ2_get _ _ _ _ _ _ _ _ _ _ _ h) (lw_V q1054 q1055 q1056 q86 q1057) ⟨rfl, hdJ2_get⟩ (Nat.le_of_ble_eq_true rfl) (Nat.le_of_ble_eq_true rfl) (As := [.int x1]) rfl (Nat.le_of_ble_eq_true rfl) dX0_judge_65 (fun v_ f_33_w hv => ?_) rfl
          obtain ⟨r_38, rfl, f_33, rfl, h⟩ := hv
          obtain ⟨ci_39, cV_40, hv_41, ho_42, h⟩ := h
          refine ag_castO E1 hv_41 (gOk_ok ho_42) q909 dX0_judge_68 ?_
          refine ag_iload_n E1 dX0_judge_71 rfl 3 rfl ?_
          refine ax_callVi E [.ref r_38, .int x3] (kX0_worthAt _ _ _ _ _ _ _ _ _ _ _ _ h) (lw_V q1129 q1131 qs28 q83 q1132) hdX0_worthAt (Nat.le_of_ble_eq_true rfl) (Nat.le_of_ble_eq_true rfl) rfl (Nat.le_of_ble_eq_true rfl) dX0_judge_72 rfl (fun r_44 f_43 h => ?_)
          refine ag_i2l E1 dX0_judge_75 ?_
          exact ax_lret E rfl ⟨_, rfl, h⟩ dX0_judge_76
      · have h := h.2 c_31
        refine ag_ldc2 E1 q879 dX0_judge_34 ?_
        exact ax_lret E rfl ⟨_, rfl, h⟩ dX0_judge_37
theorem hdX0_judge : yX0_judge.cls = RX0 ∧ yX0_judge.cls ≠ "java/lang/invoke/MethodHandle" ∧ yX0_judge.cls ≠ "java/lang/invoke/VarHandle" ∧ (parseMethodDescriptor yX0_judge.desc).map (fun d => d.parameters.length) = some 3 := by decide +kernel
theorem kX0_all (l : Launch) (D : va_G) (cs : Nat → ClassId) (b : Nat) (H0 : Heap) (ad : Nat → Nat) (vs : Nat → Option Nat) (o : Nat) (f : XS)  (Q : Int32 → XS → Prop) (h : wX0_all b cs ad vs o f  Q) : CX l D cs b H0 (XKd b H0 ad vs) o yX0_all cX0_all 1 (some .int) 0 0 [.ref o] f (xI Q) := by
  refine cx_of (by decide) (Nat.le_of_ble_eq_true rfl) (fun p e R s m below meth c E => ?_)
  have E1 := E.1
  refine ag_sub (lv' := [(0, .ref o)]) [0] rfl ?_
  refine ag_iconst E1 dX0_all_0 ki_1 ?_
  refine ag_aload_n E1 dX0_all_1 rfl 0 rfl ?_
  refine ax_geti E 6 (by decide) rfl q672 dX0_all_2 ?_
  refine ag_ishl E1 dX0_all_5 ?_
  refine ag_iconst E1 dX0_all_6 ki_1 ?_
  refine ag_isub E1 dX0_all_7 ?_
  exact ax_iret E rfl ⟨_, rfl, h⟩ dX0_all_8
theorem hdX0_all : yX0_all.cls = RX0 ∧ yX0_all.cls ≠ "java/lang/invoke/MethodHandle" ∧ yX0_all.cls ≠ "java/lang/invoke/VarHandle" ∧ (parseMethodDescriptor yX0_all.desc).map (fun d => d.parameters.length) = some 0 := by decide +kernel
theorem tbX0_wholeWorth_168 (E : EX p R s m args meth c cX0_wholeWorth 8 RX0 (some .long) D cs b H0 (XKd b H0 ad vs) [] 0 0 z u) {Q : Int64 → XS → Prop} {K58 : Int64 → Int32 → Int32 → Int32 → Int32 → Int32 → XS → Prop} (hK58 : ∀ (x1 : Int64) (x3 : Int32) (x4 : Int32) (x5 : Int32) (x6 : Int32) (x7 : Int32) (f : XS), K58 x1 x3 x4 x5 x6 x7 f → AX p l e R s m args below meth c D cs b 8 o z u (xJ Q) 58 [(0, .ref o), (1, .long x1), (3, .int x3), (4, .int x4), (5, .int x5), (6, .int x6), (7, .int x7)] [] f) {K174 : Int64 → Int32 → Int32 → Int32 → XS → Prop} (hK174 : ∀ (x1 : Int64) (x3 : Int32) (x5 : Int32) (x6 : Int32) (f : XS), K174 x1 x3 x5 x6 f → AX p l e R s m args below meth c D cs b 8 o z u (xJ Q) 174 [(0, .ref o), (1, .long x1), (3, .int x3), (5, .int x5), (6, .int x6)] [] f) {x1 : Int64} {x3 : Int32} {x4 : Int32} {x5 : Int32} {x6 : Int32} {x7 : Int32} {f : XS} (h : wbX0_wholeWorth_168 b cs ad vs o K58 K174 Q x1 x3 x4 x5 x6 x7 f) : AX p l e R s m args below meth c D cs b 8 o z u (xJ Q) 168 [(0, .ref o), (1, .long x1), (3, .int x3), (4, .int x4), (5, .int x5), (6, .int x6), (7, .int x7)] [] f := by
  have E1 := E.1
  refine ag_iincN E1 (lv' := fun x7_3 => [(7, .int x7_3), (0, .ref o), (1, .long x1), (3, .int x3), (4, .int x4), (5, .int x5), (6, .int x6)]) dX0_wholeWorth_168 6 rfl ki_1 (Nat.lt_of_lt_of_le (Nat.le_refl _) (Nat.le_of_ble_eq_true rfl)) (fun _ => rfl) (fun x7_3 e_x7_3 => ?_)
  have h := h x7_3 e_x7_3
  refine ag_goto E1 (tgt := 58) dX0_wholeWorth_171 (by decide) ?_
  refine ag_sub (lv' := [(0, .ref o), (1, .long x1), (3, .int x3), (4, .int x4), (5, .int x5), (6, .int x6), (7, .int x7_3)]) [1, 2, 3, 4, 5, 6, 0] rfl ?_
  exact hK58 _ _ _ _ _ _ _ h
theorem tbX0_wholeWorth_149 (E : EX p R s m args meth c cX0_wholeWorth 8 RX0 (some .long) D cs b H0 (XKd b H0 ad vs) [] 0 0 z u) {Q : Int64 → XS → Prop} {K58 : Int64 → Int32 → Int32 → Int32 → Int32 → Int32 → XS → Prop} (hK58 : ∀ (x1 : Int64) (x3 : Int32) (x4 : Int32) (x5 : Int32) (x6 : Int32) (x7 : Int32) (f : XS), K58 x1 x3 x4 x5 x6 x7 f → AX p l e R s m args below meth c D cs b 8 o z u (xJ Q) 58 [(0, .ref o), (1, .long x1), (3, .int x3), (4, .int x4), (5, .int x5), (6, .int x6), (7, .int x7)] [] f) {K174 : Int64 → Int32 → Int32 → Int32 → XS → Prop} (hK174 : ∀ (x1 : Int64) (x3 : Int32) (x5 : Int32) (x6 : Int32) (f : XS), K174 x1 x3 x5 x6 f → AX p l e R s m args below meth c D cs b 8 o z u (xJ Q) 174 [(0, .ref o), (1, .long x1), (3, .int x3), (5, .int x5), (6, .int x6)] [] f) {x1 : Int64} {x3 : Int32} {x4 : Int32} {x5 : Int32} {x6 : Int32} {x7 : Int32} {f : XS} (h : wbX0_wholeWorth_149 b cs ad vs o K58 K174 Q x1 x3 x4 x5 x6 x7 f) : AX p l e R s m args below meth c D cs b 8 o z u (xJ Q) 149 [(0, .ref o), (1, .long x1), (3, .int x3), (4, .int x4), (5, .int x5), (6, .int x6), (7, .int x7)] [] f := by
  have E1 := E.1
  refine ag_aload_n E1 dX0_wholeWorth_149 rfl 0 rfl ?_
  refine ax_geta E 14 (i := 11) (by decide) rfl rfl q680 dX0_wholeWorth_150 ?_
  refine ag_iload E1 dX0_wholeWorth_153 6 rfl ?_
  obtain ⟨hin, h⟩ := h
  refine ax_iald E 14 rfl rfl rfl (by decide) hin dX0_wholeWorth_155 ?_
  refine ag_aload_n E1 dX0_wholeWorth_156 rfl 0 rfl ?_
  refine ax_geta E 14 (i := 11) (by decide) rfl rfl q680 dX0_wholeWorth_157 ?_
  refine ag_iload_n E1 dX0_wholeWorth_160 rfl 2 rfl ?_
  obtain ⟨hin, h⟩ := h
  refine ax_iald E 14 rfl rfl rfl (by decide) hin dX0_wholeWorth_161 ?_
  refine ag_icmp_ne E1 (tgt := 168) dX0_wholeWorth_162 (by decide) (fun c_162 => ?_) (fun c_162 => ?_)
  · have h := h.1 c_162
    exact tbX0_wholeWorth_168 E hK58 hK174 h
  · have h := h.2 c_162
    refine ag_iincN E1 (lv' := fun x6_4 => [(6, .int x6_4), (0, .ref o), (1, .long x1), (3, .int x3), (4, .int x4), (5, .int x5), (7, .int x7)]) dX0_wholeWorth_165 5 rfl ki_1 (Nat.lt_of_lt_of_le (Nat.le_refl _) (Nat.le_of_ble_eq_true rfl)) (fun _ => rfl) (fun x6_4 e_x6_4 => ?_)
    have h := h x6_4 e_x6_4
    refine ag_sub (lv' := [(0, .ref o), (1, .long x1), (3, .int x3), (4, .int x4), (5, .int x5), (6, .int x6_4), (7, .int x7)]) [1, 2, 3, 4, 5, 0, 6] rfl ?_
    exact tbX0_wholeWorth_168 E hK58 hK174 h
theorem tbX0_wholeWorth_145 (E : EX p R s m args meth c cX0_wholeWorth 8 RX0 (some .long) D cs b H0 (XKd b H0 ad vs) [] 0 0 z u) {Q : Int64 → XS → Prop} {K58 : Int64 → Int32 → Int32 → Int32 → Int32 → Int32 → XS → Prop} (hK58 : ∀ (x1 : Int64) (x3 : Int32) (x4 : Int32) (x5 : Int32) (x6 : Int32) (x7 : Int32) (f : XS), K58 x1 x3 x4 x5 x6 x7 f → AX p l e R s m args below meth c D cs b 8 o z u (xJ Q) 58 [(0, .ref o), (1, .long x1), (3, .int x3), (4, .int x4), (5, .int x5), (6, .int x6), (7, .int x7)] [] f) {K174 : Int64 → Int32 → Int32 → Int32 → XS → Prop} (hK174 : ∀ (x1 : Int64) (x3 : Int32) (x5 : Int32) (x6 : Int32) (f : XS), K174 x1 x3 x5 x6 f → AX p l e R s m args below meth c D cs b 8 o z u (xJ Q) 174 [(0, .ref o), (1, .long x1), (3, .int x3), (5, .int x5), (6, .int x6)] [] f) {x1 : Int64} {x3 : Int32} {x4 : Int32} {x6 : Int32} {x7 : Int32} {f : XS} (h : wbX0_wholeWorth_145 b cs ad vs o K58 K174 Q x1 x3 x4 x6 x7 f) : AX p l e R s m args below meth c D cs b 8 o z u (xJ Q) 145 [(0, .ref o), (1, .long x1), (3, .int x3), (4, .int x4), (6, .int x6), (7, .int x7)] [] f := by
  have E1 := E.1
  refine ag_iload E1 dX0_wholeWorth_145 5 rfl ?_
  refine ag_istore E1 (lv' := [(5, .int x7), (0, .ref o), (1, .long x1), (3, .int x3), (4, .int x4), (6, .int x6), (7, .int x7)]) dX0_wholeWorth_147 (Nat.lt_of_lt_of_le (Nat.le_refl _) (Nat.le_of_ble_eq_true rfl)) rfl ?_
  refine ag_sub (lv' := [(0, .ref o), (1, .long x1), (3, .int x3), (4, .int x4), (5, .int x7), (6, .int x6), (7, .int x7)]) [1, 2, 3, 4, 0, 5, 6] rfl ?_
  exact tbX0_wholeWorth_149 E hK58 hK174 h
theorem tbX0_wholeWorth_58 (E : EX p R s m args meth c cX0_wholeWorth 8 RX0 (some .long) D cs b H0 (XKd b H0 ad vs) [] 0 0 z u) {Q : Int64 → XS → Prop} {K58 : Int64 → Int32 → Int32 → Int32 → Int32 → Int32 → XS → Prop} (hK58 : ∀ (x1 : Int64) (x3 : Int32) (x4 : Int32) (x5 : Int32) (x6 : Int32) (x7 : Int32) (f : XS), K58 x1 x3 x4 x5 x6 x7 f → AX p l e R s m args below meth c D cs b 8 o z u (xJ Q) 58 [(0, .ref o), (1, .long x1), (3, .int x3), (4, .int x4), (5, .int x5), (6, .int x6), (7, .int x7)] [] f) {K174 : Int64 → Int32 → Int32 → Int32 → XS → Prop} (hK174 : ∀ (x1 : Int64) (x3 : Int32) (x5 : Int32) (x6 : Int32) (f : XS), K174 x1 x3 x5 x6 f → AX p l e R s m args below meth c D cs b 8 o z u (xJ Q) 174 [(0, .ref o), (1, .long x1), (3, .int x3), (5, .int x5), (6, .int x6)] [] f) {x1 : Int64} {x3 : Int32} {x4 : Int32} {x5 : Int32} {x6 : Int32} {x7 : Int32} {f : XS} (h : wbX0_wholeWorth_58 b cs ad vs o K58 K174 Q x1 x3 x4 x5 x6 x7 f) : AX p l e R s m args below meth c D cs b 8 o z u (xJ Q) 58 [(0, .ref o), (1, .long x1), (3, .int x3), (4, .int x4), (5, .int x5), (6, .int x6), (7, .int x7)] [] f := by
  have E1 := E.1
  refine ag_iload E1 dX0_wholeWorth_58 6 rfl ?_
  refine ag_aload_n E1 dX0_wholeWorth_60 rfl 0 rfl ?_
  refine ax_geti E 6 (by decide) rfl q672 dX0_wholeWorth_61 ?_
  refine ag_icmp_ge E1 (tgt := 174) dX0_wholeWorth_64 (by decide) (fun c_64 => ?_) (fun c_64 => ?_)
  · have h := h.1 c_64
    refine ag_sub (lv' := [(0, .ref o), (1, .long x1), (3, .int x3), (5, .int x5), (6, .int x6)]) [0, 1, 2, 4, 5] rfl ?_
    exact hK174 _ _ _ _ _ h
  · have h := h.2 c_64
    refine ag_iload E1 dX0_wholeWorth_67 6 rfl ?_
    refine ag_iload_n E1 dX0_wholeWorth_69 rfl 2 rfl ?_
    refine ag_icmp_ne E1 (tgt := 76) dX0_wholeWorth_70 (by decide) (fun c_70 => ?_) (fun c_70 => ?_)
    · have h := h.1 c_70
      refine ag_aload_n E1 dX0_wholeWorth_76 rfl 0 rfl ?_
      refine ax_geta E 14 (i := 11) (by decide) rfl rfl q680 dX0_wholeWorth_77 ?_
      refine ag_iload E1 dX0_wholeWorth_80 6 rfl ?_
      obtain ⟨hin, h⟩ := h
      refine ax_iald E 14 rfl rfl rfl (by decide) hin dX0_wholeWorth_82 ?_
      refine ag_iload E1 dX0_wholeWorth_83 3 rfl ?_
      refine ag_iand E1 dX0_wholeWorth_85 ?_
      refine ag_if_eq E1 (tgt := 149) dX0_wholeWorth_86 (by decide) (fun c_86 => ?_) (fun c_86 => ?_)
      · have h := h.1 c_86
        exact tbX0_wholeWorth_149 E hK58 hK174 h
      · have h := h.2 c_86
        refine ag_iload E1 dX0_wholeWorth_89 4 rfl ?_
        refine ag_aload_n E1 dX0_wholeWorth_91 rfl 0 rfl ?_
        refine ax_geti E 6 (by decide) rfl q672 dX0_wholeWorth_92 ?_
        refine ag_icmp_ne E1 (tgt := 118) dX0_wholeWorth_95 (by decide) (fun c_95 => ?_) (fun c_95 => ?_)
        · have h := h.1 c_95
          refine ag_aload_n E1 dX0_wholeWorth_118 rfl 0 rfl ?_
          refine ax_geta E 5 (i := 6) (by decide) rfl rfl q671 dX0_wholeWorth_119 ?_
          refine ag_bipush E1 dX0_wholeWorth_122 kb_6 ?_
          refine ag_iload_n E1 dX0_wholeWorth_124 rfl 2 rfl ?_
          refine ag_imul E1 dX0_wholeWorth_125 ?_
          refine ag_iload E1 dX0_wholeWorth_126 6 rfl ?_
          refine ag_iadd E1 dX0_wholeWorth_128 ?_
          obtain ⟨hin, h⟩ := h
          refine ax_iald E 5 rfl rfl rfl (by decide) hin dX0_wholeWorth_129 ?_
          refine ag_aload_n E1 dX0_wholeWorth_130 rfl 0 rfl ?_
          refine ax_geta E 5 (i := 6) (by decide) rfl rfl q671 dX0_wholeWorth_131 ?_
          refine ag_bipush E1 dX0_wholeWorth_134 kb_6 ?_
          refine ag_iload_n E1 dX0_wholeWorth_136 rfl 2 rfl ?_
          refine ag_imul E1 dX0_wholeWorth_137 ?_
          refine ag_iload E1 dX0_wholeWorth_138 4 rfl ?_
          refine ag_iadd E1 dX0_wholeWorth_140 ?_
          obtain ⟨hin, h⟩ := h
          refine ax_iald E 5 rfl rfl rfl (by decide) hin dX0_wholeWorth_141 ?_
          refine ag_icmp_ge E1 (tgt := 149) dX0_wholeWorth_142 (by decide) (fun c_142 => ?_) (fun c_142 => ?_)
          · have h := h.1 c_142
            exact tbX0_wholeWorth_149 E hK58 hK174 h
          · have h := h.2 c_142
            refine ag_sub (lv' := [(0, .ref o), (1, .long x1), (3, .int x3), (4, .int x4), (6, .int x6), (7, .int x7)]) [0, 1, 2, 3, 5, 6] rfl ?_
            exact tbX0_wholeWorth_145 E hK58 hK174 h
        · have h := h.2 c_95
          refine ag_aload_n E1 dX0_wholeWorth_98 rfl 0 rfl ?_
          refine ax_geta E 5 (i := 6) (by decide) rfl rfl q671 dX0_wholeWorth_99 ?_
          refine ag_bipush E1 dX0_wholeWorth_102 kb_6 ?_
          refine ag_iload_n E1 dX0_wholeWorth_104 rfl 2 rfl ?_
          refine ag_imul E1 dX0_wholeWorth_105 ?_
          refine ag_iload E1 dX0_wholeWorth_106 6 rfl ?_
          refine ag_iadd E1 dX0_wholeWorth_108 ?_
          obtain ⟨hin, h⟩ := h
          refine ax_iald E 5 rfl rfl rfl (by decide) hin dX0_wholeWorth_109 ?_
          refine ag_bipush E1 dX0_wholeWorth_110 kb_99 ?_
          refine ag_icmp_ge E1 (tgt := 149) dX0_wholeWorth_112 (by decide) (fun c_112 => ?_) (fun c_112 => ?_)
          · have h := h.1 c_112
            exact tbX0_wholeWorth_149 E hK58 hK174 h
          · have h := h.2 c_112
            refine ag_goto E1 (tgt := 145) dX0_wholeWorth_115 (by decide) ?_
            refine ag_sub (lv' := [(0, .ref o), (1, .long x1), (3, .int x3), (4, .int x4), (6, .int x6), (7, .int x7)]) [0, 1, 2, 3, 5, 6] rfl ?_
            exact tbX0_wholeWorth_145 E hK58 hK174 h
    · have h := h.2 c_70
      refine ag_goto E1 (tgt := 168) dX0_wholeWorth_73 (by decide) ?_
      exact tbX0_wholeWorth_168 E hK58 hK174 h
theorem tlX0_wholeWorth_58 (E : EX p R s m args meth c cX0_wholeWorth 8 RX0 (some .long) D cs b H0 (XKd b H0 ad vs) [] 0 0 z u) {Q : Int64 → XS → Prop} {K174 : Int64 → Int32 → Int32 → Int32 → XS → Prop} (hK174 : ∀ (x1 : Int64) (x3 : Int32) (x5 : Int32) (x6 : Int32) (f : XS), K174 x1 x3 x5 x6 f → AX p l e R s m args below meth c D cs b 8 o z u (xJ Q) 174 [(0, .ref o), (1, .long x1), (3, .int x3), (5, .int x5), (6, .int x6)] [] f) : ∀ (n : Nat) (x1 : Int64) (x3 : Int32) (x4 : Int32) (x5 : Int32) (x6 : Int32) (x7 : Int32) (f : XS), wlX0_wholeWorth_58 b cs ad vs o K174 Q n x1 x3 x4 x5 x6 x7 f → AX p l e R s m args below meth c D cs b 8 o z u (xJ Q) 58 [(0, .ref o), (1, .long x1), (3, .int x3), (4, .int x4), (5, .int x5), (6, .int x6), (7, .int x7)] [] f := by
  intro n
  induction n with
  | zero => intro _ _ _ _ _ _ _ h; exact h.elim
  | succ n ih => intro x1 x3 x4 x5 x6 x7 f h; exact tbX0_wholeWorth_58 E ih hK174 h
theorem tbX0_wholeWorth_206 (E : EX p R s m args meth c cX0_wholeWorth 8 RX0 (some .long) D cs b H0 (XKd b H0 ad vs) [] 0 0 z u) {Q : Int64 → XS → Prop} {K4 : Int64 → Int32 → XS → Prop} (hK4 : ∀ (x1 : Int64) (x3 : Int32) (f : XS), K4 x1 x3 f → AX p l e R s m args below meth c D cs b 8 o z u (xJ Q) 4 [(0, .ref o), (1, .long x1), (3, .int x3)] [] f) {x1 : Int64} {x3 : Int32} {f : XS} (h : wbX0_wholeWorth_206 b cs ad vs o K4 Q x1 x3 f) : AX p l e R s m args below meth c D cs b 8 o z u (xJ Q) 206 [(0, .ref o), (1, .long x1), (3, .int x3)] [] f := by
  have E1 := E.1
  refine ag_iincN E1 (lv' := fun x3_6 => [(3, .int x3_6), (0, .ref o), (1, .long x1)]) dX0_wholeWorth_206 2 rfl ki_1 (Nat.lt_of_lt_of_le (Nat.le_refl _) (Nat.le_of_ble_eq_true rfl)) (fun _ => rfl) (fun x3_6 e_x3_6 => ?_)
  have h := h x3_6 e_x3_6
  refine ag_goto E1 (tgt := 4) dX0_wholeWorth_209 (by decide) ?_
  refine ag_sub (lv' := [(0, .ref o), (1, .long x1), (3, .int x3_6)]) [1, 2, 0] rfl ?_
  exact hK4 _ _ _ h
theorem tbX0_wholeWorth_4 (E : EX p R s m args meth c cX0_wholeWorth 8 RX0 (some .long) D cs b H0 (XKd b H0 ad vs) [] 0 0 z u) {Q : Int64 → XS → Prop} {K4 : Int64 → Int32 → XS → Prop} (hK4 : ∀ (x1 : Int64) (x3 : Int32) (f : XS), K4 x1 x3 f → AX p l e R s m args below meth c D cs b 8 o z u (xJ Q) 4 [(0, .ref o), (1, .long x1), (3, .int x3)] [] f) {x1 : Int64} {x3 : Int32} {f : XS} (h : wbX0_wholeWorth_4 b cs ad vs o K4 Q x1 x3 f) : AX p l e R s m args below meth c D cs b 8 o z u (xJ Q) 4 [(0, .ref o), (1, .long x1), (3, .int x3)] [] f := by
  have E1 := E.1
  refine ag_iload_n E1 dX0_wholeWorth_4 rfl 2 rfl ?_
  refine ag_aload_n E1 dX0_wholeWorth_5 rfl 0 rfl ?_
  refine ax_geti E 6 (by decide) rfl q672 dX0_wholeWorth_6 ?_
  refine ag_icmp_ge E1 (tgt := 212) dX0_wholeWorth_9 (by decide) (fun c_9 => ?_) (fun c_9 => ?_)
  · have h := h.1 c_9
    refine ag_lload_n E1 dX0_wholeWorth_212 rfl 1 rfl ?_
    exact ax_lret E rfl ⟨_, rfl, h⟩ dX0_wholeWorth_213
  · have h := h.2 c_9
    refine ag_aload_n E1 dX0_wholeWorth_12 rfl 0 rfl ?_
    refine ax_geta E 14 (i := 11) (by decide) rfl rfl q680 dX0_wholeWorth_13 ?_
    refine ag_iload_n E1 dX0_wholeWorth_16 rfl 2 rfl ?_
    obtain ⟨hin, h⟩ := h
    refine ax_iald E 14 rfl rfl rfl (by decide) hin dX0_wholeWorth_17 ?_
    refine ag_if_ne E1 (tgt := 24) dX0_wholeWorth_18 (by decide) (fun c_18 => ?_) (fun c_18 => ?_)
    · have h := h.1 c_18
      refine ag_iconst E1 dX0_wholeWorth_24 ki_1 ?_
      refine ag_aload_n E1 dX0_wholeWorth_25 rfl 0 rfl ?_
      refine ax_geta E 19 (i := 12) (by decide) rfl rfl q685 dX0_wholeWorth_26 ?_
      refine ag_iload_n E1 dX0_wholeWorth_29 rfl 2 rfl ?_
      obtain ⟨hin, h⟩ := h
      refine ax_bald E 19 rfl rfl rfl (by decide) hin dX0_wholeWorth_30 ?_
      refine ag_aload_n E1 dX0_wholeWorth_31 rfl 0 rfl ?_
      refine ax_geti E 7 (by decide) rfl q673 dX0_wholeWorth_32 ?_
      refine ag_iadd E1 dX0_wholeWorth_35 ?_
      refine ag_iconst E1 dX0_wholeWorth_36 ki_1 ?_
      refine ag_isub E1 dX0_wholeWorth_37 ?_
      refine ag_aload_n E1 dX0_wholeWorth_38 rfl 0 rfl ?_
      refine ax_geti E 7 (by decide) rfl q673 dX0_wholeWorth_39 ?_
      obtain ⟨hne, h⟩ := h
      refine ag_irem E1 dX0_wholeWorth_42 hne ?_
      refine ag_ishl E1 dX0_wholeWorth_43 ?_
      refine ag_topi (fun x4_1 e_x4_1 => ?_)
      have h := h x4_1 e_x4_1
      refine ag_istore E1 (lv' := [(4, .int x4_1), (0, .ref o), (1, .long x1), (3, .int x3)]) dX0_wholeWorth_44 (Nat.lt_of_lt_of_le (Nat.le_refl _) (Nat.le_of_ble_eq_true rfl)) rfl ?_
      refine ag_aload_n E1 dX0_wholeWorth_46 rfl 1 rfl ?_
      refine ax_geti E 6 (by decide) rfl q672 dX0_wholeWorth_47 ?_
      refine ag_topi (fun x5_2 e_x5_2 => ?_)
      have h := h x5_2 e_x5_2
      refine ag_istore E1 (lv' := [(5, .int x5_2), (4, .int x4_1), (0, .ref o), (1, .long x1), (3, .int x3)]) dX0_wholeWorth_50 (Nat.lt_of_lt_of_le (Nat.le_refl _) (Nat.le_of_ble_eq_true rfl)) rfl ?_
      refine ag_iconst E1 dX0_wholeWorth_52 ki_0 ?_
      refine ag_istore E1 (lv' := [(6, .int (0 : Int32)), (5, .int x5_2), (4, .int x4_1), (0, .ref o), (1, .long x1), (3, .int x3)]) dX0_wholeWorth_53 (Nat.lt_of_lt_of_le (Nat.le_refl _) (Nat.le_of_ble_eq_true rfl)) rfl ?_
      refine ag_iconst E1 dX0_wholeWorth_55 ki_0 ?_
      refine ag_istore E1 (lv' := [(7, .int (0 : Int32)), (6, .int (0 : Int32)), (5, .int x5_2), (4, .int x4_1), (0, .ref o), (1, .long x1), (3, .int x3)]) dX0_wholeWorth_56 (Nat.lt_of_lt_of_le (Nat.le_refl _) (Nat.le_of_ble_eq_true rfl)) rfl ?_
      refine ag_sub (lv' := [(0, .ref o), (1, .long x1), (3, .int x3), (4, .int x4_1), (5, .int x5_2), (6, .int (0 : Int32)), (7, .int (0 : Int32))]) [4, 5, 6, 3, 2, 1, 0] rfl ?_
      obtain ⟨n, h⟩ := h
      refine tlX0_wholeWorth_58 E ?_ n _ _ _ _ _ _ _ h
      · intro x1 x3 x5 x6 f h
        refine ag_lload_n E1 dX0_wholeWorth_174 rfl 1 rfl ?_
        refine ag_aload_n E1 dX0_wholeWorth_175 rfl 0 rfl ?_
        refine ax_geta E 23 (i := 14) (by decide) rfl rfl q689 dX0_wholeWorth_176 ?_
        refine ag_iload_n E1 dX0_wholeWorth_179 rfl 2 rfl ?_
        refine ag_bipush E1 dX0_wholeWorth_180 kb_7 ?_
        refine ag_imul E1 dX0_wholeWorth_182 ?_
        refine ag_aload_n E1 dX0_wholeWorth_183 rfl 0 rfl ?_
        refine ax_geta E 19 (i := 12) (by decide) rfl rfl q685 dX0_wholeWorth_184 ?_
        refine ag_iload_n E1 dX0_wholeWorth_187 rfl 2 rfl ?_
        obtain ⟨hin, h⟩ := h
        refine ax_bald E 19 rfl rfl rfl (by decide) hin dX0_wholeWorth_188 ?_
        refine ag_iadd E1 dX0_wholeWorth_189 ?_
        refine ag_bipush E1 dX0_wholeWorth_190 kb_7 ?_
        refine ag_imul E1 dX0_wholeWorth_192 ?_
        refine ag_iload E1 dX0_wholeWorth_193 3 rfl ?_
        refine ag_iadd E1 dX0_wholeWorth_195 ?_
        refine ag_bipush E1 dX0_wholeWorth_196 kb_6 ?_
        refine ag_imul E1 dX0_wholeWorth_198 ?_
        refine ag_iload E1 dX0_wholeWorth_199 4 rfl ?_
        refine ag_iadd E1 dX0_wholeWorth_201 ?_
        obtain ⟨hin, h⟩ := h
        refine ax_iald E 23 rfl rfl rfl (by decide) hin dX0_wholeWorth_202 ?_
        refine ag_i2l E1 dX0_wholeWorth_203 ?_
        refine ag_ladd E1 dX0_wholeWorth_204 ?_
        refine ag_topl (fun x1_5 e_x1_5 => ?_)
        have h := h x1_5 e_x1_5
        refine ag_lstore_n E1 (lv' := [(1, .long x1_5), (0, .ref o), (3, .int x3), (5, .int x5), (6, .int x6)]) dX0_wholeWorth_205 rfl (Nat.lt_of_lt_of_le (Nat.le_refl _) (Nat.le_of_ble_eq_true rfl)) rfl ?_
        refine ag_sub (lv' := [(0, .ref o), (1, .long x1_5), (3, .int x3)]) [1, 0, 2] rfl ?_
        exact tbX0_wholeWorth_206 E hK4 h
    · have h := h.2 c_18
      refine ag_goto E1 (tgt := 206) dX0_wholeWorth_21 (by decide) ?_
      exact tbX0_wholeWorth_206 E hK4 h
theorem tlX0_wholeWorth_4 (E : EX p R s m args meth c cX0_wholeWorth 8 RX0 (some .long) D cs b H0 (XKd b H0 ad vs) [] 0 0 z u) {Q : Int64 → XS → Prop}  : ∀ (n : Nat) (x1 : Int64) (x3 : Int32) (f : XS), wlX0_wholeWorth_4 b cs ad vs o  Q n x1 x3 f → AX p l e R s m args below meth c D cs b 8 o z u (xJ Q) 4 [(0, .ref o), (1, .long x1), (3, .int x3)] [] f := by
  intro n
  induction n with
  | zero => intro _ _ _ h; exact h.elim
  | succ n ih => intro x1 x3 f h; exact tbX0_wholeWorth_4 E ih h
theorem kX0_wholeWorth (l : Launch) (D : va_G) (cs : Nat → ClassId) (b : Nat) (H0 : Heap) (ad : Nat → Nat) (vs : Nat → Option Nat) (o : Nat) (f : XS)  (Q : Int64 → XS → Prop) (h : wX0_wholeWorth b cs ad vs o f  Q) : CX l D cs b H0 (XKd b H0 ad vs) o yX0_wholeWorth cX0_wholeWorth 8 (some .long) 0 0 [.ref o] f (xJ Q) := by
  refine cx_of (by decide) (Nat.le_of_ble_eq_true rfl) (fun p e R s m below meth c E => ?_)
  have E1 := E.1
  refine ag_sub (lv' := [(0, .ref o)]) [0] rfl ?_
  refine ag_lconst E1 (v := 0) dX0_wholeWorth_0 rfl ?_
  refine ag_lstore_n E1 (lv' := [(1, .long (0 : Int64)), (0, .ref o)]) dX0_wholeWorth_1 rfl (Nat.lt_of_lt_of_le (Nat.le_refl _) (Nat.le_of_ble_eq_true rfl)) rfl ?_
  refine ag_iconst E1 dX0_wholeWorth_2 ki_0 ?_
  refine ag_istore_n E1 (lv' := [(3, .int (0 : Int32)), (1, .long (0 : Int64)), (0, .ref o)]) dX0_wholeWorth_3 rfl (Nat.lt_of_lt_of_le (Nat.le_refl _) (Nat.le_of_ble_eq_true rfl)) rfl ?_
  refine ag_sub (lv' := [(0, .ref o), (1, .long (0 : Int64)), (3, .int (0 : Int32))]) [2, 1, 0] rfl ?_
  obtain ⟨n, h⟩ := h
  exact tlX0_wholeWorth_4 E  n _ _ _ h
theorem hdX0_wholeWorth : yX0_wholeWorth.cls = RX0 ∧ yX0_wholeWorth.cls ≠ "java/lang/invoke/MethodHandle" ∧ yX0_wholeWorth.cls ≠ "java/lang/invoke/VarHandle" ∧ (parseMethodDescriptor yX0_wholeWorth.desc).map (fun d => d.parameters.length) = some 0 := by decide +kernel
theorem tbX0_moved_44 (E : EX p R s m args meth c cX0_moved 3 RX0 (some .int) D cs b H0 (XKd b H0 ad vs) [] 0 0 z u) {Q : Int32 → XS → Prop} {K4 : Int32 → Int32 → XS → Prop} (hK4 : ∀ (x1 : Int32) (x2 : Int32) (f : XS), K4 x1 x2 f → AX p l e R s m args below meth c D cs b 3 o z u (xI Q) 4 [(0, .ref o), (1, .int x1), (2, .int x2)] [] f) {x1 : Int32} {x2 : Int32} {f : XS} (h : wbX0_moved_44 b cs ad vs o K4 Q x1 x2 f) : AX p l e R s m args below meth c D cs b 3 o z u (xI Q) 44 [(0, .ref o), (1, .int x1), (2, .int x2)] [] f := by
  have E1 := E.1
  refine ag_iincN E1 (lv' := fun x2_11 => [(2, .int x2_11), (0, .ref o), (1, .int x1)]) dX0_moved_44 2 rfl ki_1 (Nat.lt_of_lt_of_le (Nat.le_refl _) (Nat.le_of_ble_eq_true rfl)) (fun _ => rfl) (fun x2_11 e_x2_11 => ?_)
  have h := h x2_11 e_x2_11
  refine ag_goto E1 (tgt := 4) dX0_moved_47 (by decide) ?_
  refine ag_sub (lv' := [(0, .ref o), (1, .int x1), (2, .int x2_11)]) [1, 2, 0] rfl ?_
  exact hK4 _ _ _ h
theorem tbX0_moved_41 (E : EX p R s m args meth c cX0_moved 3 RX0 (some .int) D cs b H0 (XKd b H0 ad vs) [] 0 0 z u) {Q : Int32 → XS → Prop} {K4 : Int32 → Int32 → XS → Prop} (hK4 : ∀ (x1 : Int32) (x2 : Int32) (f : XS), K4 x1 x2 f → AX p l e R s m args below meth c D cs b 3 o z u (xI Q) 4 [(0, .ref o), (1, .int x1), (2, .int x2)] [] f) {x1 : Int32} {x2 : Int32} {f : XS} (h : wbX0_moved_41 b cs ad vs o K4 Q x1 x2 f) : AX p l e R s m args below meth c D cs b 3 o z u (xI Q) 41 [(0, .ref o), (1, .int x1), (2, .int x2)] [] f := by
  have E1 := E.1
  refine ag_iincN E1 (lv' := fun x1_10 => [(1, .int x1_10), (0, .ref o), (2, .int x2)]) dX0_moved_41 1 rfl ki_1 (Nat.lt_of_lt_of_le (Nat.le_refl _) (Nat.le_of_ble_eq_true rfl)) (fun _ => rfl) (fun x1_10 e_x1_10 => ?_)
  have h := h x1_10 e_x1_10
  refine ag_sub (lv' := [(0, .ref o), (1, .int x1_10), (2, .int x2)]) [1, 0, 2] rfl ?_
  exact tbX0_moved_44 E hK4 h
theorem tbX0_moved_4 (E : EX p R s m args meth c cX0_moved 3 RX0 (some .int) D cs b H0 (XKd b H0 ad vs) [] 0 0 z u) {Q : Int32 → XS → Prop} {K4 : Int32 → Int32 → XS → Prop} (hK4 : ∀ (x1 : Int32) (x2 : Int32) (f : XS), K4 x1 x2 f → AX p l e R s m args below meth c D cs b 3 o z u (xI Q) 4 [(0, .ref o), (1, .int x1), (2, .int x2)] [] f) {x1 : Int32} {x2 : Int32} {f : XS} (h : wbX0_moved_4 b cs ad vs o K4 Q x1 x2 f) : AX p l e R s m args below meth c D cs b 3 o z u (xI Q) 4 [(0, .ref o), (1, .int x1), (2, .int x2)] [] f := by
  have E1 := E.1
  refine ag_iload_n E1 dX0_moved_4 rfl 2 rfl ?_
  refine ag_aload_n E1 dX0_moved_5 rfl 0 rfl ?_
  refine ax_geti E 6 (by decide) rfl q672 dX0_moved_6 ?_
  refine ag_icmp_ge E1 (tgt := 50) dX0_moved_9 (by decide) (fun c_9 => ?_) (fun c_9 => ?_)
  · have h := h.1 c_9
    refine ag_iload_n E1 dX0_moved_50 rfl 1 rfl ?_
    exact ax_iret E rfl ⟨_, rfl, h⟩ dX0_moved_51
  · have h := h.2 c_9
    refine ag_iload_n E1 dX0_moved_12 rfl 2 rfl ?_
    refine ag_aload_n E1 dX0_moved_13 rfl 0 rfl ?_
    obtain ⟨a_1, e_2, h⟩ := h
    refine ax_getfrom E e_2 q688 dX0_moved_14 ?_
    obtain ⟨hF_3, h⟩ := h
    obtain ⟨ci_4, y_5, y_6, v_7, hz_8, ho_9, h⟩ := h
    refine ag_givf E1 1 (by decide) ho_9 q918 dX0_moved_17 ((wX_at hF_3).trans hz_8) rfl ?_
    refine ag_icmp_ge E1 (tgt := 41) dX0_moved_20 (by decide) (fun c_20 => ?_) (fun c_20 => ?_)
    · have h := h.1 c_20
      exact tbX0_moved_41 E hK4 h
    · have h := h.2 c_20
      refine ag_aload_n E1 dX0_moved_23 rfl 0 rfl ?_
      obtain ⟨a_12, e_13, h⟩ := h
      refine ax_getfrom E e_13 q688 dX0_moved_24 ?_
      obtain ⟨hF_14, h⟩ := h
      obtain ⟨ci_15, y_16, y_17, v_18, hz_19, ho_20, h⟩ := h
      refine ag_givf E1 2 (by decide) ho_20 q924 dX0_moved_27 ((wX_at hF_14).trans hz_19) rfl ?_
      refine ag_iload_n E1 dX0_moved_30 rfl 2 rfl ?_
      obtain ⟨a_21, e_22, h⟩ := h
      rw [e_22]
      obtain ⟨hF_23, h⟩ := h
      obtain ⟨n_24, c_25, hP_26_z, h⟩ := h
      have hP_26 := (wX_at (cs := cs) hF_23).trans hP_26_z
      obtain ⟨hin_27, h⟩ := h
      refine ag_bald E1 (t0 := 1) hP_26 rfl hin_27 dX0_moved_31 ?_
      refine ag_aload_n E1 dX0_moved_32 rfl 0 rfl ?_
      refine ax_geta E 19 (i := 12) (by decide) rfl rfl q685 dX0_moved_33 ?_
      refine ag_iload_n E1 dX0_moved_36 rfl 2 rfl ?_
      obtain ⟨hin, h⟩ := h
      refine ax_bald E 19 rfl rfl rfl (by decide) hin dX0_moved_37 ?_
      refine ag_icmp_eq E1 (tgt := 44) dX0_moved_38 (by decide) (fun c_38 => ?_) (fun c_38 => ?_)
      · have h := h.1 c_38
        exact tbX0_moved_44 E hK4 h
      · have h := h.2 c_38
        exact tbX0_moved_41 E hK4 h
theorem tlX0_moved_4 (E : EX p R s m args meth c cX0_moved 3 RX0 (some .int) D cs b H0 (XKd b H0 ad vs) [] 0 0 z u) {Q : Int32 → XS → Prop}  : ∀ (n : Nat) (x1 : Int32) (x2 : Int32) (f : XS), wlX0_moved_4 b cs ad vs o  Q n x1 x2 f → AX p l e R s m args below meth c D cs b 3 o z u (xI Q) 4 [(0, .ref o), (1, .int x1), (2, .int x2)] [] f := by
  intro n
  induction n with
  | zero => intro _ _ _ h; exact h.elim
  | succ n ih => intro x1 x2 f h; exact tbX0_moved_4 E ih h
theorem kX0_moved (l : Launch) (D : va_G) (cs : Nat → ClassId) (b : Nat) (H0 : Heap) (ad : Nat → Nat) (vs : Nat → Option Nat) (o : Nat) (f : XS)  (Q : Int32 → XS → Prop) (h : wX0_moved b cs ad vs o f  Q) : CX l D cs b H0 (XKd b H0 ad vs) o yX0_moved cX0_moved 3 (some .int) 0 0 [.ref o] f (xI Q) := by
  refine cx_of (by decide) (Nat.le_of_ble_eq_true rfl) (fun p e R s m below meth c E => ?_)
  have E1 := E.1
  refine ag_sub (lv' := [(0, .ref o)]) [0] rfl ?_
  refine ag_iconst E1 dX0_moved_0 ki_0 ?_
  refine ag_istore_n E1 (lv' := [(1, .int (0 : Int32)), (0, .ref o)]) dX0_moved_1 rfl (Nat.lt_of_lt_of_le (Nat.le_refl _) (Nat.le_of_ble_eq_true rfl)) rfl ?_
  refine ag_iconst E1 dX0_moved_2 ki_0 ?_
  refine ag_istore_n E1 (lv' := [(2, .int (0 : Int32)), (1, .int (0 : Int32)), (0, .ref o)]) dX0_moved_3 rfl (Nat.lt_of_lt_of_le (Nat.le_refl _) (Nat.le_of_ble_eq_true rfl)) rfl ?_
  refine ag_sub (lv' := [(0, .ref o), (1, .int (0 : Int32)), (2, .int (0 : Int32))]) [2, 1, 0] rfl ?_
  obtain ⟨n, h⟩ := h
  exact tlX0_moved_4 E  n _ _ _ h
theorem hdX0_moved : yX0_moved.cls = RX0 ∧ yX0_moved.cls ≠ "java/lang/invoke/MethodHandle" ∧ yX0_moved.cls ≠ "java/lang/invoke/VarHandle" ∧ (parseMethodDescriptor yX0_moved.desc).map (fun d => d.parameters.length) = some 0 := by decide +kernel
theorem tbX0_meets_117 (E : EX p R s m args meth c cX0_meets 3 RX0 (some .boolean) D cs b H0 (XKd b H0 ad vs) [] 1 40 z u) {Q : Int32 → XS → Prop}   {f : XS} (h : wbX0_meets_117 b cs ad vs o  Q  f) : AX p l e R s m args below meth c D cs b 3 o z u (xI Q) 117 [(0, .ref o)] [] f := by
  have E1 := E.1
  refine ag_aload_n E1 dX0_meets_117 rfl 0 rfl ?_
  refine ax_geti E 21 (by decide) rfl q687 dX0_meets_118 ?_
  refine ag_iconst E1 dX0_meets_121 ki_1 ?_
  refine ag_icmp_ne E1 (tgt := 129) dX0_meets_122 (by decide) (fun c_122 => ?_) (fun c_122 => ?_)
  · have h := h.1 c_122
    refine ag_iconst E1 dX0_meets_129 ki_0 ?_
    exact ax_zret E rfl (Or.inl rfl) ⟨_, rfl, h⟩ dX0_meets_130
  · have h := h.2 c_122
    refine ag_iconst E1 dX0_meets_125 ki_1 ?_
    refine ag_goto E1 (tgt := 130) dX0_meets_126 (by decide) ?_
    exact ax_zret E rfl (Or.inr rfl) ⟨_, rfl, h⟩ dX0_meets_130
theorem tbX0_meets_92 (E : EX p R s m args meth c cX0_meets 3 RX0 (some .boolean) D cs b H0 (XKd b H0 ad vs) [] 1 40 z u) {Q : Int32 → XS → Prop}  {x1 : Int64} {f : XS} (h : wbX0_meets_92 b cs ad vs o  Q x1 f) : AX p l e R s m args below meth c D cs b 3 o z u (xI Q) 92 [(0, .ref o), (1, .long x1)] [] f := by
  have E1 := E.1
  refine ag_aload_n E1 dX0_meets_92 rfl 0 rfl ?_
  refine ag_iconst E1 dX0_meets_93 ki_1 ?_
  refine ax_puti E 17 (by decide) rfl q683 rfl (ty := .int) (by decide +kernel) rfl rfl dX0_meets_94 (fun f_2 e_f_2 => ?_)
  have h := h f_2 e_f_2
  refine ag_aload_n E1 dX0_meets_97 rfl 0 rfl ?_
  refine ag_lload_n E1 dX0_meets_98 rfl 1 rfl ?_
  refine ax_putl E q684 dX0_meets_99 (fun f_3 e_f_3 => ?_)
  have h := h f_3 e_f_3
  refine ag_aload_n E1 dX0_meets_102 rfl 0 rfl ?_
  refine ax_geta E 19 (i := 12) (by decide) rfl rfl q685 dX0_meets_103 ?_
  refine ag_iconst E1 dX0_meets_106 ki_0 ?_
  refine ag_aload_n E1 dX0_meets_107 rfl 0 rfl ?_
  refine ax_geta E 20 (i := 13) (by decide) rfl rfl q686 dX0_meets_108 ?_
  refine ag_iconst E1 dX0_meets_111 ki_0 ?_
  refine ag_bipush E1 dX0_meets_112 kb_6 ?_
  obtain ⟨hc_4, hc_5, hc_6, hc_7, hc_8, hx_9, h⟩ := h
  refine ag_copyi E1 (t0 := 1) q1198 q360 q359 q98 (wX_arr (k := 19) rfl rfl rfl rfl (by decide)) (wX_arr (k := 20) rfl rfl rfl rfl (by decide)) rfl rfl hc_4 hc_5 hc_6 hc_7 hc_8 hx_9 (Nat.le_of_ble_eq_true rfl) (Nat.le_of_ble_eq_true rfl) (Nat.le_of_ble_eq_true rfl) dX0_meets_114 (fun f_10_w e_11_w => ?_)
  refine ag_eqX (e_11_w.trans (wX_row (k := 20) rfl rfl rfl rfl (by decide))) (fun f_10 e_11 => ?_)
  have h := h f_10 e_11
  refine ag_sub (lv' := [(0, .ref o)]) [0] rfl ?_
  exact tbX0_meets_117 E  h
theorem tbX0_meets_76 (E : EX p R s m args meth c cX0_meets 3 RX0 (some .boolean) D cs b H0 (XKd b H0 ad vs) [] 1 40 z u) {Q : Int32 → XS → Prop}  {x1 : Int64} {f : XS} (h : wbX0_meets_76 b cs ad vs o  Q x1 f) : AX p l e R s m args below meth c D cs b 3 o z u (xI Q) 76 [(0, .ref o), (1, .long x1)] [] f := by
  have E1 := E.1
  refine ag_aload_n E1 dX0_meets_76 rfl 0 rfl ?_
  refine ax_geti E 17 (by decide) rfl q683 dX0_meets_77 ?_
  refine ag_if_eq E1 (tgt := 92) dX0_meets_80 (by decide) (fun c_80 => ?_) (fun c_80 => ?_)
  · have h := h.1 c_80
    exact tbX0_meets_92 E  h
  · have h := h.2 c_80
    refine ag_lload_n E1 dX0_meets_83 rfl 1 rfl ?_
    refine ag_aload_n E1 dX0_meets_84 rfl 0 rfl ?_
    refine ax_getl E q684 dX0_meets_85 ?_
    refine ag_lcmp E1 dX0_meets_88 ?_
    refine ag_if_le E1 (tgt := 117) dX0_meets_89 (by decide) (fun c_89 => ?_) (fun c_89 => ?_)
    · have h := h.1 c_89
      refine ag_sub (lv' := [(0, .ref o)]) [0] rfl ?_
      exact tbX0_meets_117 E  h
    · have h := h.2 c_89
      exact tbX0_meets_92 E  h
theorem kX0_meets (l : Launch) (D : va_G) (cs : Nat → ClassId) (b : Nat) (H0 : Heap) (ad : Nat → Nat) (vs : Nat → Option Nat) (o : Nat) (f : XS)  (Q : Int32 → XS → Prop) (h : wX0_meets b cs ad vs o f  Q) : CX l D cs b H0 (XKd b H0 ad vs) o yX0_meets cX0_meets 3 (some .boolean) 1 40 [.ref o] f (xI Q) := by
  refine cx_of (by decide) (Nat.le_of_ble_eq_true rfl) (fun p e R s m below meth c E => ?_)
  have E1 := E.1
  refine ag_sub (lv' := [(0, .ref o)]) [0] rfl ?_
  refine ag_aload_n E1 dX0_meets_0 rfl 0 rfl ?_
  refine ag_dup E1 dX0_meets_1 rfl ?_
  refine ax_geti E 16 (by decide) rfl q682 dX0_meets_2 ?_
  refine ag_iconst E1 dX0_meets_5 ki_1 ?_
  refine ag_iadd E1 dX0_meets_6 ?_
  refine ax_puti E 16 (by decide) rfl q682 rfl (ty := .int) (by decide +kernel) rfl rfl dX0_meets_7 (fun f_1 e_f_1 => ?_)
  have h := h f_1 e_f_1
  refine ag_aload_n E1 dX0_meets_10 rfl 0 rfl ?_
  refine ax_geti E 21 (by decide) rfl q687 dX0_meets_11 ?_
  rcases Classical.em ((f_1.1 99 21) = (0 : Int32)) with c_14_0 | c_14_0
  · have h := h.1 c_14_0
    refine ag_tableIn E1 (tgt := 40) (off := 26) dX0_meets_14 (by rw [c_14_0]; decide) (by rw [c_14_0]; decide) (by rw [c_14_0]; decide) (by decide) ?_
    refine ag_aload_n E1 dX0_meets_40 rfl 0 rfl ?_
    refine ax_geti E 16 (by decide) rfl q682 dX0_meets_41 ?_
    refine ag_ldcw E1 q1189 dX0_meets_44 ?_
    refine ag_icmp_ne E1 (tgt := 54) dX0_meets_47 (by decide) (fun c_47 => ?_) (fun c_47 => ?_)
    · have h := h.1 c_47
      refine ag_iconst E1 dX0_meets_54 ki_0 ?_
      exact ax_zret E rfl (Or.inl rfl) ⟨_, rfl, h⟩ dX0_meets_55
    · have h := h.2 c_47
      refine ag_iconst E1 dX0_meets_50 ki_1 ?_
      refine ag_goto E1 (tgt := 55) dX0_meets_51 (by decide) ?_
      exact ax_zret E rfl (Or.inr rfl) ⟨_, rfl, h⟩ dX0_meets_55
  · have h := h.2 c_14_0
    have n_0 := lv_neT c_14_0 (show (0 : Int32).toInt = 0 by decide)
    rcases Classical.em ((f_1.1 99 21) = (1 : Int32)) with c_14_1 | c_14_1
    · have h := h.1 c_14_1
      refine ag_tableIn E1 (tgt := 56) (off := 42) dX0_meets_14 (by rw [c_14_1]; decide) (by rw [c_14_1]; decide) (by rw [c_14_1]; decide) (by decide) ?_
      refine ag_lconst E1 (v := 1) dX0_meets_56 rfl ?_
      refine ag_lstore_n E1 (lv' := [(1, .long (1 : Int64)), (0, .ref o)]) dX0_meets_57 rfl (Nat.lt_of_lt_of_le (Nat.le_refl _) (Nat.le_of_ble_eq_true rfl)) rfl ?_
      refine ag_goto E1 (tgt := 76) dX0_meets_58 (by decide) ?_
      refine ag_sub (lv' := [(0, .ref o), (1, .long (1 : Int64))]) [1, 0] rfl ?_
      exact tbX0_meets_76 E  h
    · have h := h.2 c_14_1
      have n_1 := lv_neT c_14_1 (show (1 : Int32).toInt = 1 by decide)
      rcases Classical.em ((f_1.1 99 21) = (2 : Int32)) with c_14_2 | c_14_2
      · have h := h.1 c_14_2
        refine ag_tableIn E1 (tgt := 61) (off := 47) dX0_meets_14 (by rw [c_14_2]; decide) (by rw [c_14_2]; decide) (by rw [c_14_2]; decide) (by decide) ?_
        refine ag_aload_n E1 dX0_meets_61 rfl 0 rfl ?_
        refine ax_callVl E [] (kX0_wholeWorth _ _ _ _ _ _ _ _ _  _ h) (lw_V q1190 q1192 qs35 q83 q1193) hdX0_wholeWorth (Nat.le_of_ble_eq_true rfl) (Nat.le_of_ble_eq_true rfl) rfl (Nat.le_of_ble_eq_true rfl) dX0_meets_62 rfl (fun r_13 f_12 h => ?_)
        refine ag_lstore_n E1 (lv' := [(1, .long r_13), (0, .ref o)]) dX0_meets_65 rfl (Nat.lt_of_lt_of_le (Nat.le_refl _) (Nat.le_of_ble_eq_true rfl)) rfl ?_
        refine ag_goto E1 (tgt := 76) dX0_meets_66 (by decide) ?_
        refine ag_sub (lv' := [(0, .ref o), (1, .long r_13)]) [1, 0] rfl ?_
        exact tbX0_meets_76 E  h
      · have h := h.2 c_14_2
        have n_2 := lv_neT c_14_2 (show (2 : Int32).toInt = 2 by decide)
        refine ag_tableOut E1 (tgt := 69) dX0_meets_14 (by omega) (by decide) ?_
        refine ag_aload_n E1 dX0_meets_69 rfl 0 rfl ?_
        refine ax_callVi E [] (kX0_moved _ _ _ _ _ _ _ _ _  _ h) (lw_V q1194 q1196 qs36 q83 q1197) hdX0_moved (Nat.le_of_ble_eq_true rfl) (Nat.le_of_ble_eq_true rfl) rfl (Nat.le_of_ble_eq_true rfl) dX0_meets_70 rfl (fun r_15 f_14 h => ?_)
        refine ag_ineg E1 dX0_meets_73 ?_
        refine ag_i2l E1 dX0_meets_74 ?_
        refine ag_topl (fun x1_16 e_x1_16 => ?_)
        have h := h x1_16 e_x1_16
        refine ag_lstore_n E1 (lv' := [(1, .long x1_16), (0, .ref o)]) dX0_meets_75 rfl (Nat.lt_of_lt_of_le (Nat.le_refl _) (Nat.le_of_ble_eq_true rfl)) rfl ?_
        refine ag_sub (lv' := [(0, .ref o), (1, .long x1_16)]) [1, 0] rfl ?_
        exact tbX0_meets_76 E  h
theorem hdX0_meets : yX0_meets.cls = RX0 ∧ yX0_meets.cls ≠ "java/lang/invoke/MethodHandle" ∧ yX0_meets.cls ≠ "java/lang/invoke/VarHandle" ∧ (parseMethodDescriptor yX0_meets.desc).map (fun d => d.parameters.length) = some 0 := by decide +kernel
theorem tbX0_barsAhead_30 (E : EX p R s m args meth c cX0_barsAhead 3 RX0 (some .boolean) D cs b H0 (XKd b H0 ad vs) [] 203 8084 z u) {Q : Int32 → XS → Prop} {K2 : Int32 → Int32 → XS → Prop} (hK2 : ∀ (x1 : Int32) (x2 : Int32) (f : XS), K2 x1 x2 f → AX p l e R s m args below meth c D cs b 3 o z u (xI Q) 2 [(0, .ref o), (1, .int x1), (2, .int x2)] [] f) {x1 : Int32} {x2 : Int32} {f : XS} (h : wbX0_barsAhead_30 b cs ad vs o K2 Q x1 x2 f) : AX p l e R s m args below meth c D cs b 3 o z u (xI Q) 30 [(0, .ref o), (1, .int x1), (2, .int x2)] [] f := by
  have E1 := E.1
  refine ag_iincN E1 (lv' := fun x2_1 => [(2, .int x2_1), (0, .ref o), (1, .int x1)]) dX0_barsAhead_30 2 rfl ki_1 (Nat.lt_of_lt_of_le (Nat.le_refl _) (Nat.le_of_ble_eq_true rfl)) (fun _ => rfl) (fun x2_1 e_x2_1 => ?_)
  have h := h x2_1 e_x2_1
  refine ag_goto E1 (tgt := 2) dX0_barsAhead_33 (by decide) ?_
  refine ag_sub (lv' := [(0, .ref o), (1, .int x1), (2, .int x2_1)]) [1, 2, 0] rfl ?_
  exact hK2 _ _ _ h
theorem tbX0_barsAhead_2 (E : EX p R s m args meth c cX0_barsAhead 3 RX0 (some .boolean) D cs b H0 (XKd b H0 ad vs) [] 203 8084 z u) {Q : Int32 → XS → Prop} {K2 : Int32 → Int32 → XS → Prop} (hK2 : ∀ (x1 : Int32) (x2 : Int32) (f : XS), K2 x1 x2 f → AX p l e R s m args below meth c D cs b 3 o z u (xI Q) 2 [(0, .ref o), (1, .int x1), (2, .int x2)] [] f) {x1 : Int32} {x2 : Int32} {f : XS} (h : wbX0_barsAhead_2 b cs ad vs o K2 Q x1 x2 f) : AX p l e R s m args below meth c D cs b 3 o z u (xI Q) 2 [(0, .ref o), (1, .int x1), (2, .int x2)] [] f := by
  have E1 := E.1
  refine ag_iload_n E1 dX0_barsAhead_2 rfl 2 rfl ?_
  refine ag_iload_n E1 dX0_barsAhead_3 rfl 1 rfl ?_
  refine ag_icmp_gt E1 (tgt := 36) dX0_barsAhead_4 (by decide) (fun c_4 => ?_) (fun c_4 => ?_)
  · have h := h.1 c_4
    refine ag_iconst E1 dX0_barsAhead_36 ki_0 ?_
    exact ax_zret E rfl (Or.inl rfl) ⟨_, rfl, h⟩ dX0_barsAhead_37
  · have h := h.2 c_4
    refine ag_aload_n E1 dX0_barsAhead_7 rfl 0 rfl ?_
    refine ax_geti E 15 (by decide) rfl q681 dX0_barsAhead_8 ?_
    refine ag_iload_n E1 dX0_barsAhead_11 rfl 2 rfl ?_
    refine ag_ishr E1 dX0_barsAhead_12 ?_
    refine ag_iconst E1 dX0_barsAhead_13 ki_1 ?_
    refine ag_iand E1 dX0_barsAhead_14 ?_
    refine ag_iconst E1 dX0_barsAhead_15 ki_1 ?_
    refine ag_icmp_ne E1 (tgt := 30) dX0_barsAhead_16 (by decide) (fun c_16 => ?_) (fun c_16 => ?_)
    · have h := h.1 c_16
      exact tbX0_barsAhead_30 E hK2 h
    · have h := h.2 c_16
      refine ag_aload_n E1 dX0_barsAhead_19 rfl 0 rfl ?_
      refine ag_iload_n E1 dX0_barsAhead_20 rfl 2 rfl ?_
      refine ag_iload_n E1 dX0_barsAhead_21 rfl 1 rfl ?_
      refine ax_callVi E [.int x2, .int x1] (kX0_bars _ _ _ _ _ _ _ _ _ _ _ _ h) (lw_V q1113 q1115 qs26 q83 q1116) hdX0_bars (Nat.le_of_ble_eq_true rfl) (Nat.le_of_ble_eq_true rfl) rfl (Nat.le_of_ble_eq_true rfl) dX0_barsAhead_22 rfl (fun r_3 f_2 h => ?_)
      refine ag_if_eq E1 (tgt := 30) dX0_barsAhead_25 (by decide) (fun c_25 => ?_) (fun c_25 => ?_)
      · have h := h.1 c_25
        exact tbX0_barsAhead_30 E hK2 h
      · have h := h.2 c_25
        refine ag_iconst E1 dX0_barsAhead_28 ki_1 ?_
        exact ax_zret E rfl (Or.inr rfl) ⟨_, rfl, h⟩ dX0_barsAhead_29
theorem tlX0_barsAhead_2 (E : EX p R s m args meth c cX0_barsAhead 3 RX0 (some .boolean) D cs b H0 (XKd b H0 ad vs) [] 203 8084 z u) {Q : Int32 → XS → Prop}  : ∀ (n : Nat) (x1 : Int32) (x2 : Int32) (f : XS), wlX0_barsAhead_2 b cs ad vs o  Q n x1 x2 f → AX p l e R s m args below meth c D cs b 3 o z u (xI Q) 2 [(0, .ref o), (1, .int x1), (2, .int x2)] [] f := by
  intro n
  induction n with
  | zero => intro _ _ _ h; exact h.elim
  | succ n ih => intro x1 x2 f h; exact tbX0_barsAhead_2 E ih h
theorem kX0_barsAhead (l : Launch) (D : va_G) (cs : Nat → ClassId) (b : Nat) (H0 : Heap) (ad : Nat → Nat) (vs : Nat → Option Nat) (o : Nat) (f : XS) (x1 : Int32) (Q : Int32 → XS → Prop) (h : wX0_barsAhead b cs ad vs o f x1 Q) : CX l D cs b H0 (XKd b H0 ad vs) o yX0_barsAhead cX0_barsAhead 3 (some .boolean) 203 8084 [.ref o, .int x1] f (xI Q) := by
  refine cx_of (by decide) (Nat.le_of_ble_eq_true rfl) (fun p e R s m below meth c E => ?_)
  have E1 := E.1
  refine ag_sub (lv' := [(0, .ref o), (1, .int x1)]) [0, 1] rfl ?_
  refine ag_iconst E1 dX0_barsAhead_0 ki_0 ?_
  refine ag_istore_n E1 (lv' := [(2, .int (0 : Int32)), (0, .ref o), (1, .int x1)]) dX0_barsAhead_1 rfl (Nat.lt_of_lt_of_le (Nat.le_refl _) (Nat.le_of_ble_eq_true rfl)) rfl ?_
  refine ag_sub (lv' := [(0, .ref o), (1, .int x1), (2, .int (0 : Int32))]) [1, 2, 0] rfl ?_
  obtain ⟨n, h⟩ := h
  exact tlX0_barsAhead_2 E  n _ _ _ h
theorem hdX0_barsAhead : yX0_barsAhead.cls = RX0 ∧ yX0_barsAhead.cls ≠ "java/lang/invoke/MethodHandle" ∧ yX0_barsAhead.cls ≠ "java/lang/invoke/VarHandle" ∧ (parseMethodDescriptor yX0_barsAhead.desc).map (fun d => d.parameters.length) = some 1 := by decide +kernel
theorem hdX0_walks : yX0_walks.cls = RX0 ∧ yX0_walks.cls ≠ "java/lang/invoke/MethodHandle" ∧ yX0_walks.cls ≠ "java/lang/invoke/VarHandle" ∧ (parseMethodDescriptor yX0_walks.desc).map (fun d => d.parameters.length) = some 1 := by decide +kernel
theorem tbX0_walks_79 (E : EX p R s m args meth c cX0_walks 3 RX0 (some .boolean) D cs b H0 (XKd b H0 ad vs) [] (204 + (n + 1)) (8106 + 40 * (n + 1)) z u) {NW : XS → Int32 → (Int32 → XS → Prop) → Prop} (hN : ∀ (f : XS) (x1 : Int32) (Q : Int32 → XS → Prop), NW f x1 Q → CX l D cs b H0 (XKd b H0 ad vs) o yX0_walks cX0_walks 3 (some .boolean) (204 + n) (8106 + 40 * n) [.ref o, .int x1] f (xI Q)) {Q : Int32 → XS → Prop} {K34 : Int32 → Int32 → XS → Prop} (hK34 : ∀ (x1 : Int32) (x2 : Int32) (f : XS), K34 x1 x2 f → AX p l e R s m args below meth c D cs b 3 o z u (xI Q) 34 [(0, .ref o), (1, .int x1), (2, .int x2)] [] f) {K85 : Int32 → XS → Prop} (hK85 : ∀ (x1 : Int32) (f : XS), K85 x1 f → AX p l e R s m args below meth c D cs b 3 o z u (xI Q) 85 [(0, .ref o), (1, .int x1)] [] f) {x1 : Int32} {x2 : Int32} {f : XS} (h : wbX0_walks_79 b cs ad vs o NW K34 K85 Q x1 x2 f) : AX p l e R s m args below meth c D cs b 3 o z u (xI Q) 79 [(0, .ref o), (1, .int x1), (2, .int x2)] [] f := by
  have E1 := E.1
  refine ag_iincN E1 (lv' := fun x2_5 => [(2, .int x2_5), (0, .ref o), (1, .int x1)]) dX0_walks_79 2 rfl ki_1 (Nat.lt_of_lt_of_le (Nat.le_refl _) (Nat.le_of_ble_eq_true rfl)) (fun _ => rfl) (fun x2_5 e_x2_5 => ?_)
  have h := h x2_5 e_x2_5
  refine ag_goto E1 (tgt := 34) dX0_walks_82 (by decide) ?_
  refine ag_sub (lv' := [(0, .ref o), (1, .int x1), (2, .int x2_5)]) [1, 2, 0] rfl ?_
  exact hK34 _ _ _ h
theorem tbX0_walks_34 (E : EX p R s m args meth c cX0_walks 3 RX0 (some .boolean) D cs b H0 (XKd b H0 ad vs) [] (204 + (n + 1)) (8106 + 40 * (n + 1)) z u) {NW : XS → Int32 → (Int32 → XS → Prop) → Prop} (hN : ∀ (f : XS) (x1 : Int32) (Q : Int32 → XS → Prop), NW f x1 Q → CX l D cs b H0 (XKd b H0 ad vs) o yX0_walks cX0_walks 3 (some .boolean) (204 + n) (8106 + 40 * n) [.ref o, .int x1] f (xI Q)) {Q : Int32 → XS → Prop} {K34 : Int32 → Int32 → XS → Prop} (hK34 : ∀ (x1 : Int32) (x2 : Int32) (f : XS), K34 x1 x2 f → AX p l e R s m args below meth c D cs b 3 o z u (xI Q) 34 [(0, .ref o), (1, .int x1), (2, .int x2)] [] f) {K85 : Int32 → XS → Prop} (hK85 : ∀ (x1 : Int32) (f : XS), K85 x1 f → AX p l e R s m args below meth c D cs b 3 o z u (xI Q) 85 [(0, .ref o), (1, .int x1)] [] f) {x1 : Int32} {x2 : Int32} {f : XS} (h : wbX0_walks_34 b cs ad vs o NW K34 K85 Q x1 x2 f) : AX p l e R s m args below meth c D cs b 3 o z u (xI Q) 34 [(0, .ref o), (1, .int x1), (2, .int x2)] [] f := by
  have E1 := E.1
  refine ag_iload_n E1 dX0_walks_34 rfl 2 rfl ?_
  refine ag_aload_n E1 dX0_walks_35 rfl 0 rfl ?_
  refine ax_geti E 7 (by decide) rfl q673 dX0_walks_36 ?_
  refine ag_icmp_ge E1 (tgt := 85) dX0_walks_39 (by decide) (fun c_39 => ?_) (fun c_39 => ?_)
  · have h := h.1 c_39
    refine ag_sub (lv' := [(0, .ref o), (1, .int x1)]) [0, 1] rfl ?_
    exact hK85 _ _ h
  · have h := h.2 c_39
    refine ag_aload_n E1 dX0_walks_42 rfl 0 rfl ?_
    refine ax_geta E 14 (i := 11) (by decide) rfl rfl q680 dX0_walks_43 ?_
    refine ag_iload_n E1 dX0_walks_46 rfl 1 rfl ?_
    refine ag_iconst E1 dX0_walks_47 ki_1 ?_
    refine ag_iload_n E1 dX0_walks_48 rfl 2 rfl ?_
    refine ag_ishl E1 dX0_walks_49 ?_
    obtain ⟨hin, h⟩ := h
    refine ax_iast E 14 rfl rfl rfl (by decide) hin dX0_walks_50 (fun f_1 e_f_1 => ?_)
    have h := h f_1 e_f_1
    refine ag_aload_n E1 dX0_walks_51 rfl 0 rfl ?_
    refine ax_geta E 19 (i := 12) (by decide) rfl rfl q685 dX0_walks_52 ?_
    refine ag_iload_n E1 dX0_walks_55 rfl 1 rfl ?_
    refine ag_iload_n E1 dX0_walks_56 rfl 2 rfl ?_
    refine ag_i2b E1 dX0_walks_57 ?_
    obtain ⟨hin, h⟩ := h
    refine ax_bast E 19 rfl rfl rfl (by decide) hin dX0_walks_58 (fun f_2 e_f_2 => ?_)
    have h := h f_2 e_f_2
    refine ag_aload_n E1 dX0_walks_59 rfl 0 rfl ?_
    refine ag_iload_n E1 dX0_walks_60 rfl 1 rfl ?_
    refine ax_callVi E [.int x1] (kX0_barsAhead _ _ _ _ _ _ _ _ _ _ _ h) (lw_V q1199 q1201 qs37 q83 q1202) hdX0_barsAhead (by omega) (by omega) rfl (Nat.le_of_ble_eq_true rfl) dX0_walks_61 rfl (fun r_4 f_3 h => ?_)
    refine ag_if_ne E1 (tgt := 79) dX0_walks_64 (by decide) (fun c_64 => ?_) (fun c_64 => ?_)
    · have h := h.1 c_64
      exact tbX0_walks_79 E hN hK34 hK85 h
    · have h := h.2 c_64
      refine ag_aload_n E1 dX0_walks_67 rfl 0 rfl ?_
      refine ag_iload_n E1 dX0_walks_68 rfl 1 rfl ?_
      refine ag_iconst E1 dX0_walks_69 ki_1 ?_
      refine ag_iadd E1 dX0_walks_70 ?_
      refine ax_callVi E [.int (x1 + (1 : Int32))] (hN _ _ _ h) (lw_V q1181 q1183 qs33 q83 q1184) hdX0_walks (by omega) (by omega) rfl (Nat.le_of_ble_eq_true rfl) dX0_walks_71 rfl (fun r_7 f_6 h => ?_)
      refine ag_if_eq E1 (tgt := 79) dX0_walks_74 (by decide) (fun c_74 => ?_) (fun c_74 => ?_)
      · have h := h.1 c_74
        exact tbX0_walks_79 E hN hK34 hK85 h
      · have h := h.2 c_74
        refine ag_iconst E1 dX0_walks_77 ki_1 ?_
        exact ax_zret E rfl (Or.inr rfl) ⟨_, rfl, h⟩ dX0_walks_78
theorem tlX0_walks_34 (E : EX p R s m args meth c cX0_walks 3 RX0 (some .boolean) D cs b H0 (XKd b H0 ad vs) [] (204 + (n + 1)) (8106 + 40 * (n + 1)) z u) {NW : XS → Int32 → (Int32 → XS → Prop) → Prop} (hN : ∀ (f : XS) (x1 : Int32) (Q : Int32 → XS → Prop), NW f x1 Q → CX l D cs b H0 (XKd b H0 ad vs) o yX0_walks cX0_walks 3 (some .boolean) (204 + n) (8106 + 40 * n) [.ref o, .int x1] f (xI Q)) {Q : Int32 → XS → Prop} {K85 : Int32 → XS → Prop} (hK85 : ∀ (x1 : Int32) (f : XS), K85 x1 f → AX p l e R s m args below meth c D cs b 3 o z u (xI Q) 85 [(0, .ref o), (1, .int x1)] [] f) : ∀ (n : Nat) (x1 : Int32) (x2 : Int32) (f : XS), wlX0_walks_34 b cs ad vs o NW K85 Q n x1 x2 f → AX p l e R s m args below meth c D cs b 3 o z u (xI Q) 34 [(0, .ref o), (1, .int x1), (2, .int x2)] [] f := by
  intro n
  induction n with
  | zero => intro _ _ _ h; exact h.elim
  | succ n ih => intro x1 x2 f h; exact tbX0_walks_34 E hN ih hK85 h
theorem k1X0_walks (l : Launch) (D : va_G) (cs : Nat → ClassId) (b : Nat) (H0 : Heap) (ad : Nat → Nat) (vs : Nat → Option Nat) (o : Nat) (n : Nat) (NW : XS → Int32 → (Int32 → XS → Prop) → Prop) (hN : ∀ (f : XS) (x1 : Int32) (Q : Int32 → XS → Prop), NW f x1 Q → CX l D cs b H0 (XKd b H0 ad vs) o yX0_walks cX0_walks 3 (some .boolean) (204 + n) (8106 + 40 * n) [.ref o, .int x1] f (xI Q)) (f : XS) (x1 : Int32) (Q : Int32 → XS → Prop) (h : w1X0_walks b cs ad vs o NW f x1 Q) : CX l D cs b H0 (XKd b H0 ad vs) o yX0_walks cX0_walks 3 (some .boolean) (204 + (n + 1)) (8106 + 40 * (n + 1)) [.ref o, .int x1] f (xI Q) := by
  refine cx_of (by decide) (Nat.le_of_ble_eq_true rfl) (fun p e R s m below meth c E => ?_)
  have E1 := E.1
  refine ag_sub (lv' := [(0, .ref o), (1, .int x1)]) [0, 1] rfl ?_
  refine ag_iload_n E1 dX0_walks_0 rfl 1 rfl ?_
  refine ag_aload_n E1 dX0_walks_1 rfl 0 rfl ?_
  refine ax_geti E 6 (by decide) rfl q672 dX0_walks_2 ?_
  refine ag_icmp_ne E1 (tgt := 13) dX0_walks_5 (by decide) (fun c_5 => ?_) (fun c_5 => ?_)
  · have h := h.1 c_5
    refine ag_aload_n E1 dX0_walks_13 rfl 0 rfl ?_
    refine ax_geti E 15 (by decide) rfl q681 dX0_walks_14 ?_
    refine ag_iload_n E1 dX0_walks_17 rfl 1 rfl ?_
    refine ag_ishr E1 dX0_walks_18 ?_
    refine ag_iconst E1 dX0_walks_19 ki_1 ?_
    refine ag_iand E1 dX0_walks_20 ?_
    refine ag_if_ne E1 (tgt := 32) dX0_walks_21 (by decide) (fun c_21 => ?_) (fun c_21 => ?_)
    · have h := h.1 c_21
      refine ag_iconst E1 dX0_walks_32 ki_0 ?_
      refine ag_istore_n E1 (lv' := [(2, .int (0 : Int32)), (0, .ref o), (1, .int x1)]) dX0_walks_33 rfl (Nat.lt_of_lt_of_le (Nat.le_refl _) (Nat.le_of_ble_eq_true rfl)) rfl ?_
      refine ag_sub (lv' := [(0, .ref o), (1, .int x1), (2, .int (0 : Int32))]) [1, 2, 0] rfl ?_
      obtain ⟨n, h⟩ := h
      refine tlX0_walks_34 E hN ?_ n _ _ _ h
      · intro x1 f h
        refine ag_aload_n E1 dX0_walks_85 rfl 0 rfl ?_
        refine ax_geta E 14 (i := 11) (by decide) rfl rfl q680 dX0_walks_86 ?_
        refine ag_iload_n E1 dX0_walks_89 rfl 1 rfl ?_
        refine ag_iconst E1 dX0_walks_90 ki_0 ?_
        obtain ⟨hin, h⟩ := h
        refine ax_iast E 14 rfl rfl rfl (by decide) hin dX0_walks_91 (fun f_8 e_f_8 => ?_)
        have h := h f_8 e_f_8
        refine ag_iconst E1 dX0_walks_92 ki_0 ?_
        exact ax_zret E rfl (Or.inl rfl) ⟨_, rfl, h⟩ dX0_walks_93
    · have h := h.2 c_21
      refine ag_aload_n E1 dX0_walks_24 rfl 0 rfl ?_
      refine ag_iload_n E1 dX0_walks_25 rfl 1 rfl ?_
      refine ag_iconst E1 dX0_walks_26 ki_1 ?_
      refine ag_iadd E1 dX0_walks_27 ?_
      refine ax_callVi E [.int (x1 + (1 : Int32))] (hN _ _ _ h) (lw_V q1181 q1183 qs33 q83 q1184) hdX0_walks (by omega) (by omega) rfl (Nat.le_of_ble_eq_true rfl) dX0_walks_28 rfl (fun r_10 f_9 h => ?_)
      exact ax_zret E rfl h.1 ⟨_, rfl, h.2⟩ dX0_walks_31
  · have h := h.2 c_5
    refine ag_aload_n E1 dX0_walks_8 rfl 0 rfl ?_
    refine ax_callVi E [] (kX0_meets _ _ _ _ _ _ _ _ _  _ h) (lw_V q1185 q1187 qs34 q83 q1188) hdX0_meets (by omega) (by omega) rfl (Nat.le_of_ble_eq_true rfl) dX0_walks_9 rfl (fun r_12 f_11 h => ?_)
    exact ax_zret E rfl h.1 ⟨_, rfl, h.2⟩ dX0_walks_12
theorem kX0_walksN (l : Launch) (D : va_G) (cs : Nat → ClassId) (b : Nat) (H0 : Heap) (ad : Nat → Nat) (vs : Nat → Option Nat) (o : Nat) : ∀ (n : Nat) (f : XS) (x1 : Int32) (Q : Int32 → XS → Prop), wX0_walksN b cs ad vs o n f x1 Q → CX l D cs b H0 (XKd b H0 ad vs) o yX0_walks cX0_walks 3 (some .boolean) (204 + n) (8106 + 40 * n) [.ref o, .int x1] f (xI Q) := by
  intro n
  induction n with
  | zero => intro f x1 Q h; exact h.elim
  | succ n ih => intro f x1 Q h; exact k1X0_walks l D cs b H0 ad vs o n _ ih f x1 Q h
theorem kX0_walks (l : Launch) (D : va_G) (cs : Nat → ClassId) (b : Nat) (H0 : Heap) (ad : Nat → Nat) (vs : Nat → Option Nat) (o : Nat) (f : XS) (x1 : Int32) (Q : Int32 → XS → Prop) (h : wX0_walks b cs ad vs o f x1 Q) : CX l D cs b H0 (XKd b H0 ad vs) o yX0_walks cX0_walks 3 (some .boolean) 212 8426 [.ref o, .int x1] f (xI Q) := kX0_walksN l D cs b H0 ad vs o 8 f x1 Q h
theorem kX0_search (l : Launch) (D : va_G) (cs : Nat → ClassId) (b : Nat) (H0 : Heap) (ad : Nat → Nat) (vs : Nat → Option Nat) (o : Nat) (f : XS) (x1 : Int32) (x2 : Int32) (Q : XS → Prop) (h : wX0_search b cs ad vs o f x1 x2 Q) : CX l D cs b H0 (XKd b H0 ad vs) o yX0_search cX0_search 4 none 213 8448 [.ref o, .int x1, .int x2] f (xV Q) := by
  refine cx_of (by decide) (Nat.le_of_ble_eq_true rfl) (fun p e R s m below meth c E => ?_)
  have E1 := E.1
  refine ag_sub (lv' := [(0, .ref o), (1, .int x1), (2, .int x2)]) [0, 1, 2] rfl ?_
  refine ag_aload_n E1 dX0_search_0 rfl 0 rfl ?_
  refine ag_iload_n E1 dX0_search_1 rfl 1 rfl ?_
  refine ax_puti E 15 (by decide) rfl q681 rfl (ty := .int) (by decide +kernel) rfl rfl dX0_search_2 (fun f_1 e_f_1 => ?_)
  have h := h f_1 e_f_1
  refine ag_aload_n E1 dX0_search_5 rfl 0 rfl ?_
  refine ag_iload_n E1 dX0_search_6 rfl 2 rfl ?_
  refine ax_puti E 21 (by decide) rfl q687 rfl (ty := .int) (by decide +kernel) rfl rfl dX0_search_7 (fun f_2 e_f_2 => ?_)
  have h := h f_2 e_f_2
  refine ag_aload_n E1 dX0_search_10 rfl 0 rfl ?_
  refine ag_iconst E1 dX0_search_11 ki_0 ?_
  refine ax_puti E 16 (by decide) rfl q682 rfl (ty := .int) (by decide +kernel) rfl rfl dX0_search_12 (fun f_3 e_f_3 => ?_)
  have h := h f_3 e_f_3
  refine ag_aload_n E1 dX0_search_15 rfl 0 rfl ?_
  refine ag_iconst E1 dX0_search_16 ki_0 ?_
  refine ax_puti E 17 (by decide) rfl q683 rfl (ty := .int) (by decide +kernel) rfl rfl dX0_search_17 (fun f_4 e_f_4 => ?_)
  have h := h f_4 e_f_4
  refine ag_aload_n E1 dX0_search_20 rfl 0 rfl ?_
  refine ag_lconst E1 (v := 0) dX0_search_21 rfl ?_
  refine ax_putl E q684 dX0_search_22 (fun f_5 e_f_5 => ?_)
  have h := h f_5 e_f_5
  refine ag_aload_n E1 dX0_search_25 rfl 0 rfl ?_
  refine ax_geta E 14 (i := 11) (by decide) rfl rfl q680 dX0_search_26 ?_
  refine ag_iconst E1 dX0_search_29 ki_0 ?_
  refine ag_callS E1 (kJ11_fill _ _ _ _ _ _ _ _ _ _ _ h) (lw_S q1175 q1176 q97 q1177) hdJ11_fill (Nat.le_of_ble_eq_true rfl) (Nat.le_of_ble_eq_true rfl) (As := [.ref (o + 11), .int (0 : Int32)]) rfl (Nat.le_of_ble_eq_true rfl) dX0_search_30 (fun v_ f_6_w hv => ?_) rfl
  obtain ⟨rfl, f_6, rfl, h⟩ := hv
  refine ag_aload_n E1 dX0_search_33 rfl 0 rfl ?_
  refine ax_geta E 19 (i := 12) (by decide) rfl rfl q685 dX0_search_34 ?_
  refine ag_iconst E1 dX0_search_37 ki_0 ?_
  refine ag_callS E1 (kJ11_fill_2 _ _ _ _ _ _ _ _ _ _ _ h) (lw_S q1178 q1179 q97 q1180) hdJ11_fill_2 (Nat.le_of_ble_eq_true rfl) (Nat.le_of_ble_eq_true rfl) (As := [.ref (o + 12), .int (0 : Int32)]) rfl (Nat.le_of_ble_eq_true rfl) dX0_search_38 (fun v_ f_7_w hv => ?_) rfl
  obtain ⟨rfl, f_7, rfl, h⟩ := hv
  refine ag_aload_n E1 dX0_search_41 rfl 0 rfl ?_
  refine ag_iconst E1 dX0_search_42 ki_0 ?_
  refine ax_callVi E [.int (0 : Int32)] (kX0_walks _ _ _ _ _ _ _ _ _ _ _ h) (lw_V q1181 q1183 qs33 q83 q1184) hdX0_walks (Nat.le_of_ble_eq_true rfl) (Nat.le_of_ble_eq_true rfl) rfl (Nat.le_of_ble_eq_true rfl) dX0_search_43 rfl (fun r_9 f_8 h => ?_)
  refine ag_istore_n E1 (lv' := [(3, .int r_9), (0, .ref o), (1, .int x1), (2, .int x2)]) dX0_search_46 rfl (Nat.lt_of_lt_of_le (Nat.le_refl _) (Nat.le_of_ble_eq_true rfl)) rfl ?_
  refine ag_iload_n E1 dX0_search_47 rfl 0 rfl ?_
  refine ag_if_ne E1 (tgt := 59) dX0_search_48 (by decide) (fun c_48 => ?_) (fun c_48 => ?_)
  · have h := h.1 c_48
    exact ax_vret E rfl ⟨rfl, h⟩ dX0_search_59
  · have h := h.2 c_48
    refine ag_aload_n E1 dX0_search_51 rfl 1 rfl ?_
    refine ax_geta E 14 (i := 11) (by decide) rfl rfl q680 dX0_search_52 ?_
    refine ag_iconst E1 dX0_search_55 ki_0 ?_
    refine ag_callS E1 (kJ11_fill _ _ _ _ _ _ _ _ _ _ _ h) (lw_S q1175 q1176 q97 q1177) hdJ11_fill (Nat.le_of_ble_eq_true rfl) (Nat.le_of_ble_eq_true rfl) (As := [.ref (o + 11), .int (0 : Int32)]) rfl (Nat.le_of_ble_eq_true rfl) dX0_search_56 (fun v_ f_10_w hv => ?_) rfl
    obtain ⟨rfl, f_10, rfl, h⟩ := hv
    exact ax_vret E rfl ⟨rfl, h⟩ dX0_search_59
theorem hdX0_search : yX0_search.cls = RX0 ∧ yX0_search.cls ≠ "java/lang/invoke/MethodHandle" ∧ yX0_search.cls ≠ "java/lang/invoke/VarHandle" ∧ (parseMethodDescriptor yX0_search.desc).map (fun d => d.parameters.length) = some 2 := by decide +kernel
theorem kX0_can (l : Launch) (D : va_G) (cs : Nat → ClassId) (b : Nat) (H0 : Heap) (ad : Nat → Nat) (vs : Nat → Option Nat) (o : Nat) (f : XS)  (Q : Int32 → XS → Prop) (h : wX0_can b cs ad vs o f  Q) : CX l D cs b H0 (XKd b H0 ad vs) o yX0_can cX0_can 1 (some .int) 214 8471 [.ref o] f (xI Q) := by
  refine cx_of (by decide) (Nat.le_of_ble_eq_true rfl) (fun p e R s m below meth c E => ?_)
  have E1 := E.1
  refine ag_sub (lv' := [(0, .ref o)]) [0] rfl ?_
  refine ag_aload_n E1 dX0_can_0 rfl 0 rfl ?_
  refine ag_aload_n E1 dX0_can_1 rfl 0 rfl ?_
  refine ax_callVi E [] (kX0_all _ _ _ _ _ _ _ _ _  _ h) (lw_V q1167 q1169 qs31 q83 q1170) hdX0_all (Nat.le_of_ble_eq_true rfl) (Nat.le_of_ble_eq_true rfl) rfl (Nat.le_of_ble_eq_true rfl) dX0_can_2 rfl (fun r_2 f_1 h => ?_)
  refine ag_iconst E1 dX0_can_5 ki_0 ?_
  refine ax_callVv E [.int r_2, .int (0 : Int32)] (kX0_search _ _ _ _ _ _ _ _ _ _ _ _ h) (lw_V q1171 q1173 qs32 q83 q1174) hdX0_search (Nat.le_of_ble_eq_true rfl) (Nat.le_of_ble_eq_true rfl) rfl (Nat.le_of_ble_eq_true rfl) dX0_can_6 rfl (fun f_3 h => ?_)
  refine ag_aload_n E1 dX0_can_9 rfl 0 rfl ?_
  refine ax_geti E 16 (by decide) rfl q682 dX0_can_10 ?_
  exact ax_iret E rfl ⟨_, rfl, h⟩ dX0_can_13
theorem hdX0_can : yX0_can.cls = RX0 ∧ yX0_can.cls ≠ "java/lang/invoke/MethodHandle" ∧ yX0_can.cls ≠ "java/lang/invoke/VarHandle" ∧ (parseMethodDescriptor yX0_can.desc).map (fun d => d.parameters.length) = some 0 := by decide +kernel
theorem tbX0_lays_88 (E : EX p R s m args meth c cX0_lays 5 RX0 none D cs b H0 (XKd b H0 ad vs) [] 202 8065 z u) {Q : XS → Prop} {K33 : Int32 → Int32 → Int32 → Int32 → XS → Prop} (hK33 : ∀ (x1 : Int32) (x2 : Int32) (x3 : Int32) (x4 : Int32) (f : XS), K33 x1 x2 x3 x4 f → AX p l e R s m args below meth c D cs b 5 o z u (xV Q) 33 [(0, .ref o), (1, .int x1), (2, .int x2), (3, .int x3), (4, .int x4)] [] f) {K100 : Int32 → Int32 → Int32 → XS → Prop} (hK100 : ∀ (x1 : Int32) (x2 : Int32) (x3 : Int32) (f : XS), K100 x1 x2 x3 f → AX p l e R s m args below meth c D cs b 5 o z u (xV Q) 100 [(0, .ref o), (1, .int x1), (2, .int x2), (3, .int x3)] [] f) {x1 : Int32} {x2 : Int32} {x3 : Int32} {x4 : Int32} {t0 : Int32} {t1 : Int32} {t2 : Int32} {t4 : Int32} {f : XS} (h : wbX0_lays_88 b cs ad vs o K33 K100 Q x1 x2 x3 x4 t0 t1 t2 t4 f) : AX p l e R s m args below meth c D cs b 5 o z u (xV Q) 88 [(0, .ref o), (1, .int x1), (2, .int x2), (3, .int x3), (4, .int x4)] [.int t0, .int t1, .int t2, .ref o, .int t4, .ref (o + 14)] f := by
  have E1 := E.1
  refine ag_iload E1 dX0_lays_88 4 rfl ?_
  refine ax_callVi E [.int t2, .int t1, .int t0, .int x4] (kX0_saysWorth _ _ _ _ _ _ _ _ _ _ _ _ _ _ h) (lw_V q888 q890 qs18 q83 q891) hdX0_saysWorth (Nat.le_of_ble_eq_true rfl) (Nat.le_of_ble_eq_true rfl) rfl (Nat.le_of_ble_eq_true rfl) dX0_lays_90 rfl (fun r_2 f_1 h => ?_)
  obtain ⟨hin, h⟩ := h
  refine ax_iast E 23 rfl rfl rfl (by decide) hin dX0_lays_93 (fun f_3 e_f_3 => ?_)
  have h := h f_3 e_f_3
  refine ag_iincN E1 (lv' := fun x4_4 => [(4, .int x4_4), (0, .ref o), (1, .int x1), (2, .int x2), (3, .int x3)]) dX0_lays_94 4 rfl ki_1 (Nat.lt_of_lt_of_le (Nat.le_refl _) (Nat.le_of_ble_eq_true rfl)) (fun _ => rfl) (fun x4_4 e_x4_4 => ?_)
  have h := h x4_4 e_x4_4
  refine ag_goto E1 (tgt := 33) dX0_lays_97 (by decide) ?_
  refine ag_sub (lv' := [(0, .ref o), (1, .int x1), (2, .int x2), (3, .int x3), (4, .int x4_4)]) [1, 2, 3, 4, 0] rfl ?_
  exact hK33 _ _ _ _ _ h
theorem tbX0_lays_33 (E : EX p R s m args meth c cX0_lays 5 RX0 none D cs b H0 (XKd b H0 ad vs) [] 202 8065 z u) {Q : XS → Prop} {K33 : Int32 → Int32 → Int32 → Int32 → XS → Prop} (hK33 : ∀ (x1 : Int32) (x2 : Int32) (x3 : Int32) (x4 : Int32) (f : XS), K33 x1 x2 x3 x4 f → AX p l e R s m args below meth c D cs b 5 o z u (xV Q) 33 [(0, .ref o), (1, .int x1), (2, .int x2), (3, .int x3), (4, .int x4)] [] f) {K100 : Int32 → Int32 → Int32 → XS → Prop} (hK100 : ∀ (x1 : Int32) (x2 : Int32) (x3 : Int32) (f : XS), K100 x1 x2 x3 f → AX p l e R s m args below meth c D cs b 5 o z u (xV Q) 100 [(0, .ref o), (1, .int x1), (2, .int x2), (3, .int x3)] [] f) {x1 : Int32} {x2 : Int32} {x3 : Int32} {x4 : Int32} {f : XS} (h : wbX0_lays_33 b cs ad vs o K33 K100 Q x1 x2 x3 x4 f) : AX p l e R s m args below meth c D cs b 5 o z u (xV Q) 33 [(0, .ref o), (1, .int x1), (2, .int x2), (3, .int x3), (4, .int x4)] [] f := by
  have E1 := E.1
  refine ag_iload E1 dX0_lays_33 4 rfl ?_
  refine ag_bipush E1 dX0_lays_35 kb_6 ?_
  refine ag_icmp_ge E1 (tgt := 100) dX0_lays_37 (by decide) (fun c_37 => ?_) (fun c_37 => ?_)
  · have h := h.1 c_37
    refine ag_sub (lv' := [(0, .ref o), (1, .int x1), (2, .int x2), (3, .int x3)]) [0, 1, 2, 3] rfl ?_
    exact hK100 _ _ _ _ h
  · have h := h.2 c_37
    refine ag_aload_n E1 dX0_lays_40 rfl 0 rfl ?_
    refine ax_geta E 23 (i := 14) (by decide) rfl rfl q689 dX0_lays_41 ?_
    refine ag_iload_n E1 dX0_lays_44 rfl 1 rfl ?_
    refine ag_bipush E1 dX0_lays_45 kb_7 ?_
    refine ag_imul E1 dX0_lays_47 ?_
    refine ag_iload_n E1 dX0_lays_48 rfl 2 rfl ?_
    refine ag_iadd E1 dX0_lays_49 ?_
    refine ag_bipush E1 dX0_lays_50 kb_7 ?_
    refine ag_imul E1 dX0_lays_52 ?_
    refine ag_iload_n E1 dX0_lays_53 rfl 3 rfl ?_
    refine ag_iadd E1 dX0_lays_54 ?_
    refine ag_bipush E1 dX0_lays_55 kb_6 ?_
    refine ag_imul E1 dX0_lays_57 ?_
    refine ag_iload E1 dX0_lays_58 4 rfl ?_
    refine ag_iadd E1 dX0_lays_60 ?_
    refine ag_aload_n E1 dX0_lays_61 rfl 0 rfl ?_
    refine ag_iload_n E1 dX0_lays_62 rfl 1 rfl ?_
    refine ag_iload_n E1 dX0_lays_63 rfl 2 rfl ?_
    refine ag_iload_n E1 dX0_lays_64 rfl 3 rfl ?_
    refine ag_aload_n E1 dX0_lays_65 rfl 0 rfl ?_
    refine ax_geti E 6 (by decide) rfl q672 dX0_lays_66 ?_
    refine ag_icmp_ne E1 (tgt := 77) dX0_lays_69 (by decide) (fun c_69 => ?_) (fun c_69 => ?_)
    · have h := h.1 c_69
      refine ag_aload_n E1 dX0_lays_77 rfl 0 rfl ?_
      refine ax_geta E 5 (i := 6) (by decide) rfl rfl q671 dX0_lays_78 ?_
      refine ag_bipush E1 dX0_lays_81 kb_6 ?_
      refine ag_iload_n E1 dX0_lays_83 rfl 1 rfl ?_
      refine ag_imul E1 dX0_lays_84 ?_
      refine ag_iload_n E1 dX0_lays_85 rfl 3 rfl ?_
      refine ag_iadd E1 dX0_lays_86 ?_
      obtain ⟨hin, h⟩ := h
      refine ax_iald E 5 rfl rfl rfl (by decide) hin dX0_lays_87 ?_
      exact tbX0_lays_88 E hK33 hK100 h
    · have h := h.2 c_69
      refine ag_bipush E1 dX0_lays_72 kb_99 ?_
      refine ag_goto E1 (tgt := 88) dX0_lays_74 (by decide) ?_
      exact tbX0_lays_88 E hK33 hK100 h
theorem tlX0_lays_33 (E : EX p R s m args meth c cX0_lays 5 RX0 none D cs b H0 (XKd b H0 ad vs) [] 202 8065 z u) {Q : XS → Prop} {K100 : Int32 → Int32 → Int32 → XS → Prop} (hK100 : ∀ (x1 : Int32) (x2 : Int32) (x3 : Int32) (f : XS), K100 x1 x2 x3 f → AX p l e R s m args below meth c D cs b 5 o z u (xV Q) 100 [(0, .ref o), (1, .int x1), (2, .int x2), (3, .int x3)] [] f) : ∀ (n : Nat) (x1 : Int32) (x2 : Int32) (x3 : Int32) (x4 : Int32) (f : XS), wlX0_lays_33 b cs ad vs o K100 Q n x1 x2 x3 x4 f → AX p l e R s m args below meth c D cs b 5 o z u (xV Q) 33 [(0, .ref o), (1, .int x1), (2, .int x2), (3, .int x3), (4, .int x4)] [] f := by
  intro n
  induction n with
  | zero => intro _ _ _ _ _ h; exact h.elim
  | succ n ih => intro x1 x2 x3 x4 f h; exact tbX0_lays_33 E ih hK100 h
theorem tbX0_lays_22 (E : EX p R s m args meth c cX0_lays 5 RX0 none D cs b H0 (XKd b H0 ad vs) [] 202 8065 z u) {Q : XS → Prop} {K22 : Int32 → Int32 → Int32 → XS → Prop} (hK22 : ∀ (x1 : Int32) (x2 : Int32) (x3 : Int32) (f : XS), K22 x1 x2 x3 f → AX p l e R s m args below meth c D cs b 5 o z u (xV Q) 22 [(0, .ref o), (1, .int x1), (2, .int x2), (3, .int x3)] [] f) {K106 : Int32 → Int32 → XS → Prop} (hK106 : ∀ (x1 : Int32) (x2 : Int32) (f : XS), K106 x1 x2 f → AX p l e R s m args below meth c D cs b 5 o z u (xV Q) 106 [(0, .ref o), (1, .int x1), (2, .int x2)] [] f) {x1 : Int32} {x2 : Int32} {x3 : Int32} {f : XS} (h : wbX0_lays_22 b cs ad vs o K22 K106 Q x1 x2 x3 f) : AX p l e R s m args below meth c D cs b 5 o z u (xV Q) 22 [(0, .ref o), (1, .int x1), (2, .int x2), (3, .int x3)] [] f := by
  have E1 := E.1
  refine ag_iload_n E1 dX0_lays_22 rfl 3 rfl ?_
  refine ag_aload_n E1 dX0_lays_23 rfl 0 rfl ?_
  refine ax_geti E 6 (by decide) rfl q672 dX0_lays_24 ?_
  refine ag_icmp_gt E1 (tgt := 106) dX0_lays_27 (by decide) (fun c_27 => ?_) (fun c_27 => ?_)
  · have h := h.1 c_27
    refine ag_sub (lv' := [(0, .ref o), (1, .int x1), (2, .int x2)]) [0, 1, 2] rfl ?_
    exact hK106 _ _ _ h
  · have h := h.2 c_27
    refine ag_iconst E1 dX0_lays_30 ki_0 ?_
    refine ag_istore E1 (lv' := [(4, .int (0 : Int32)), (0, .ref o), (1, .int x1), (2, .int x2), (3, .int x3)]) dX0_lays_31 (Nat.lt_of_lt_of_le (Nat.le_refl _) (Nat.le_of_ble_eq_true rfl)) rfl ?_
    refine ag_sub (lv' := [(0, .ref o), (1, .int x1), (2, .int x2), (3, .int x3), (4, .int (0 : Int32))]) [1, 2, 3, 4, 0] rfl ?_
    obtain ⟨n, h⟩ := h
    refine tlX0_lays_33 E ?_ n _ _ _ _ _ h
    · intro x1 x2 x3 f h
      refine ag_iincN E1 (lv' := fun x3_5 => [(3, .int x3_5), (0, .ref o), (1, .int x1), (2, .int x2)]) dX0_lays_100 3 rfl ki_1 (Nat.lt_of_lt_of_le (Nat.le_refl _) (Nat.le_of_ble_eq_true rfl)) (fun _ => rfl) (fun x3_5 e_x3_5 => ?_)
      have h := h x3_5 e_x3_5
      refine ag_goto E1 (tgt := 22) dX0_lays_103 (by decide) ?_
      refine ag_sub (lv' := [(0, .ref o), (1, .int x1), (2, .int x2), (3, .int x3_5)]) [1, 2, 3, 0] rfl ?_
      exact hK22 _ _ _ _ h
theorem tlX0_lays_22 (E : EX p R s m args meth c cX0_lays 5 RX0 none D cs b H0 (XKd b H0 ad vs) [] 202 8065 z u) {Q : XS → Prop} {K106 : Int32 → Int32 → XS → Prop} (hK106 : ∀ (x1 : Int32) (x2 : Int32) (f : XS), K106 x1 x2 f → AX p l e R s m args below meth c D cs b 5 o z u (xV Q) 106 [(0, .ref o), (1, .int x1), (2, .int x2)] [] f) : ∀ (n : Nat) (x1 : Int32) (x2 : Int32) (x3 : Int32) (f : XS), wlX0_lays_22 b cs ad vs o K106 Q n x1 x2 x3 f → AX p l e R s m args below meth c D cs b 5 o z u (xV Q) 22 [(0, .ref o), (1, .int x1), (2, .int x2), (3, .int x3)] [] f := by
  intro n
  induction n with
  | zero => intro _ _ _ _ h; exact h.elim
  | succ n ih => intro x1 x2 x3 f h; exact tbX0_lays_22 E ih hK106 h
theorem tbX0_lays_12 (E : EX p R s m args meth c cX0_lays 5 RX0 none D cs b H0 (XKd b H0 ad vs) [] 202 8065 z u) {Q : XS → Prop} {K12 : Int32 → Int32 → XS → Prop} (hK12 : ∀ (x1 : Int32) (x2 : Int32) (f : XS), K12 x1 x2 f → AX p l e R s m args below meth c D cs b 5 o z u (xV Q) 12 [(0, .ref o), (1, .int x1), (2, .int x2)] [] f) {K112 : Int32 → XS → Prop} (hK112 : ∀ (x1 : Int32) (f : XS), K112 x1 f → AX p l e R s m args below meth c D cs b 5 o z u (xV Q) 112 [(0, .ref o), (1, .int x1)] [] f) {x1 : Int32} {x2 : Int32} {f : XS} (h : wbX0_lays_12 b cs ad vs o K12 K112 Q x1 x2 f) : AX p l e R s m args below meth c D cs b 5 o z u (xV Q) 12 [(0, .ref o), (1, .int x1), (2, .int x2)] [] f := by
  have E1 := E.1
  refine ag_iload_n E1 dX0_lays_12 rfl 2 rfl ?_
  refine ag_aload_n E1 dX0_lays_13 rfl 0 rfl ?_
  refine ax_geti E 7 (by decide) rfl q673 dX0_lays_14 ?_
  refine ag_icmp_ge E1 (tgt := 112) dX0_lays_17 (by decide) (fun c_17 => ?_) (fun c_17 => ?_)
  · have h := h.1 c_17
    refine ag_sub (lv' := [(0, .ref o), (1, .int x1)]) [0, 1] rfl ?_
    exact hK112 _ _ h
  · have h := h.2 c_17
    refine ag_iconst E1 dX0_lays_20 ki_0 ?_
    refine ag_istore_n E1 (lv' := [(3, .int (0 : Int32)), (0, .ref o), (1, .int x1), (2, .int x2)]) dX0_lays_21 rfl (Nat.lt_of_lt_of_le (Nat.le_refl _) (Nat.le_of_ble_eq_true rfl)) rfl ?_
    refine ag_sub (lv' := [(0, .ref o), (1, .int x1), (2, .int x2), (3, .int (0 : Int32))]) [1, 2, 3, 0] rfl ?_
    obtain ⟨n, h⟩ := h
    refine tlX0_lays_22 E ?_ n _ _ _ _ h
    · intro x1 x2 f h
      refine ag_iincN E1 (lv' := fun x2_6 => [(2, .int x2_6), (0, .ref o), (1, .int x1)]) dX0_lays_106 2 rfl ki_1 (Nat.lt_of_lt_of_le (Nat.le_refl _) (Nat.le_of_ble_eq_true rfl)) (fun _ => rfl) (fun x2_6 e_x2_6 => ?_)
      have h := h x2_6 e_x2_6
      refine ag_goto E1 (tgt := 12) dX0_lays_109 (by decide) ?_
      refine ag_sub (lv' := [(0, .ref o), (1, .int x1), (2, .int x2_6)]) [1, 2, 0] rfl ?_
      exact hK12 _ _ _ h
theorem tlX0_lays_12 (E : EX p R s m args meth c cX0_lays 5 RX0 none D cs b H0 (XKd b H0 ad vs) [] 202 8065 z u) {Q : XS → Prop} {K112 : Int32 → XS → Prop} (hK112 : ∀ (x1 : Int32) (f : XS), K112 x1 f → AX p l e R s m args below meth c D cs b 5 o z u (xV Q) 112 [(0, .ref o), (1, .int x1)] [] f) : ∀ (n : Nat) (x1 : Int32) (x2 : Int32) (f : XS), wlX0_lays_12 b cs ad vs o K112 Q n x1 x2 f → AX p l e R s m args below meth c D cs b 5 o z u (xV Q) 12 [(0, .ref o), (1, .int x1), (2, .int x2)] [] f := by
  intro n
  induction n with
  | zero => intro _ _ _ h; exact h.elim
  | succ n ih => intro x1 x2 f h; exact tbX0_lays_12 E ih hK112 h
theorem tbX0_lays_2 (E : EX p R s m args meth c cX0_lays 5 RX0 none D cs b H0 (XKd b H0 ad vs) [] 202 8065 z u) {Q : XS → Prop} {K2 : Int32 → XS → Prop} (hK2 : ∀ (x1 : Int32) (f : XS), K2 x1 f → AX p l e R s m args below meth c D cs b 5 o z u (xV Q) 2 [(0, .ref o), (1, .int x1)] [] f) {x1 : Int32} {f : XS} (h : wbX0_lays_2 b cs ad vs o K2 Q x1 f) : AX p l e R s m args below meth c D cs b 5 o z u (xV Q) 2 [(0, .ref o), (1, .int x1)] [] f := by
  have E1 := E.1
  refine ag_iload_n E1 dX0_lays_2 rfl 1 rfl ?_
  refine ag_aload_n E1 dX0_lays_3 rfl 0 rfl ?_
  refine ax_geti E 6 (by decide) rfl q672 dX0_lays_4 ?_
  refine ag_icmp_ge E1 (tgt := 118) dX0_lays_7 (by decide) (fun c_7 => ?_) (fun c_7 => ?_)
  · have h := h.1 c_7
    exact ax_vret E rfl ⟨rfl, h⟩ dX0_lays_118
  · have h := h.2 c_7
    refine ag_iconst E1 dX0_lays_10 ki_0 ?_
    refine ag_istore_n E1 (lv' := [(2, .int (0 : Int32)), (0, .ref o), (1, .int x1)]) dX0_lays_11 rfl (Nat.lt_of_lt_of_le (Nat.le_refl _) (Nat.le_of_ble_eq_true rfl)) rfl ?_
    refine ag_sub (lv' := [(0, .ref o), (1, .int x1), (2, .int (0 : Int32))]) [1, 2, 0] rfl ?_
    obtain ⟨n, h⟩ := h
    refine tlX0_lays_12 E ?_ n _ _ _ h
    · intro x1 f h
      refine ag_iincN E1 (lv' := fun x1_7 => [(1, .int x1_7), (0, .ref o)]) dX0_lays_112 1 rfl ki_1 (Nat.lt_of_lt_of_le (Nat.le_refl _) (Nat.le_of_ble_eq_true rfl)) (fun _ => rfl) (fun x1_7 e_x1_7 => ?_)
      have h := h x1_7 e_x1_7
      refine ag_goto E1 (tgt := 2) dX0_lays_115 (by decide) ?_
      refine ag_sub (lv' := [(0, .ref o), (1, .int x1_7)]) [1, 0] rfl ?_
      exact hK2 _ _ h
theorem tlX0_lays_2 (E : EX p R s m args meth c cX0_lays 5 RX0 none D cs b H0 (XKd b H0 ad vs) [] 202 8065 z u) {Q : XS → Prop}  : ∀ (n : Nat) (x1 : Int32) (f : XS), wlX0_lays_2 b cs ad vs o  Q n x1 f → AX p l e R s m args below meth c D cs b 5 o z u (xV Q) 2 [(0, .ref o), (1, .int x1)] [] f := by
  intro n
  induction n with
  | zero => intro _ _ h; exact h.elim
  | succ n ih => intro x1 f h; exact tbX0_lays_2 E ih h
theorem kX0_lays (l : Launch) (D : va_G) (cs : Nat → ClassId) (b : Nat) (H0 : Heap) (ad : Nat → Nat) (vs : Nat → Option Nat) (o : Nat) (f : XS)  (Q : XS → Prop) (h : wX0_lays b cs ad vs o f  Q) : CX l D cs b H0 (XKd b H0 ad vs) o yX0_lays cX0_lays 5 none 202 8065 [.ref o] f (xV Q) := by
  refine cx_of (by decide) (Nat.le_of_ble_eq_true rfl) (fun p e R s m below meth c E => ?_)
  have E1 := E.1
  refine ag_sub (lv' := [(0, .ref o)]) [0] rfl ?_
  refine ag_iconst E1 dX0_lays_0 ki_0 ?_
  refine ag_istore_n E1 (lv' := [(1, .int (0 : Int32)), (0, .ref o)]) dX0_lays_1 rfl (Nat.lt_of_lt_of_le (Nat.le_refl _) (Nat.le_of_ble_eq_true rfl)) rfl ?_
  refine ag_sub (lv' := [(0, .ref o), (1, .int (0 : Int32))]) [1, 0] rfl ?_
  obtain ⟨n, h⟩ := h
  exact tlX0_lays_2 E  n _ _ h
theorem hdX0_lays : yX0_lays.cls = RX0 ∧ yX0_lays.cls ≠ "java/lang/invoke/MethodHandle" ∧ yX0_lays.cls ≠ "java/lang/invoke/VarHandle" ∧ (parseMethodDescriptor yX0_lays.desc).map (fun d => d.parameters.length) = some 0 := by decide +kernel
theorem tbX0_find_81 (E : EX p R s m args meth c cX0_find 3 RX0 (some .long) D cs b H0 (XKd b H0 ad vs) [] 214 8471 z u) {Q : Int64 → XS → Prop}  {x1 : Int32} {t0 : Int32} {f : XS} (h : wbX0_find_81 b cs ad vs o  Q x1 t0 f) : AX p l e R s m args below meth c D cs b 3 o z u (xJ Q) 81 [(0, .ref o), (1, .int x1)] [.int t0, .ref o] f := by
  have E1 := E.1
  obtain ⟨hz, h⟩ := h
  refine ax_puti E 24 (by decide) rfl q690 rfl (ty := .boolean) (by decide +kernel) (vz_nar hz) (vz_fit hz) dX0_find_81 (fun f_5 e_f_5 => ?_)
  have h := h f_5 e_f_5
  refine ag_aload_n E1 dX0_find_84 rfl 0 rfl ?_
  refine ax_geta E 20 (i := 13) (by decide) rfl rfl q686 dX0_find_85 ?_
  refine ag_iconst E1 dX0_find_88 ki_0 ?_
  refine ag_aload_n E1 dX0_find_89 rfl 0 rfl ?_
  refine ax_geta E 26 (i := 15) (by decide) rfl rfl q692 dX0_find_90 ?_
  refine ag_iconst E1 dX0_find_93 ki_0 ?_
  refine ag_bipush E1 dX0_find_94 kb_6 ?_
  obtain ⟨hc_6, hc_7, hc_8, hc_9, hc_10, hx_11, h⟩ := h
  refine ag_copyi E1 (t0 := 1) q1198 q360 q359 q98 (wX_arr (k := 20) rfl rfl rfl rfl (by decide)) (wX_arr (k := 26) rfl rfl rfl rfl (by decide)) rfl rfl hc_6 hc_7 hc_8 hc_9 hc_10 hx_11 (Nat.le_of_ble_eq_true rfl) (Nat.le_of_ble_eq_true rfl) (Nat.le_of_ble_eq_true rfl) dX0_find_96 (fun f_12_w e_13_w => ?_)
  refine ag_eqX (e_13_w.trans (wX_row (k := 26) rfl rfl rfl rfl (by decide))) (fun f_12 e_13 => ?_)
  have h := h f_12 e_13
  refine ag_aload_n E1 dX0_find_99 rfl 0 rfl ?_
  refine ag_aload_n E1 dX0_find_100 rfl 0 rfl ?_
  refine ax_geti E 6 (by decide) rfl q672 dX0_find_101 ?_
  refine ax_puti E 25 (by decide) rfl q691 rfl (ty := .int) (by decide +kernel) rfl rfl dX0_find_104 (fun f_14 e_f_14 => ?_)
  have h := h f_14 e_f_14
  refine ag_aload_n E1 dX0_find_107 rfl 0 rfl ?_
  refine ax_geti E 17 (by decide) rfl q683 dX0_find_108 ?_
  refine ag_if_ne E1 (tgt := 120) dX0_find_111 (by decide) (fun c_111 => ?_) (fun c_111 => ?_)
  · have h := h.1 c_111
    refine ag_iload_n E1 dX0_find_120 rfl 1 rfl ?_
    refine ag_iconst E1 dX0_find_121 ki_1 ?_
    refine ag_icmp_ne E1 (tgt := 133) dX0_find_122 (by decide) (fun c_122 => ?_) (fun c_122 => ?_)
    · have h := h.1 c_122
      refine ag_iload_n E1 dX0_find_133 rfl 1 rfl ?_
      refine ag_iconst E1 dX0_find_134 ki_2 ?_
      refine ag_icmp_ne E1 (tgt := 145) dX0_find_135 (by decide) (fun c_135 => ?_) (fun c_135 => ?_)
      · have h := h.1 c_135
        refine ag_aload_n E1 dX0_find_145 rfl 0 rfl ?_
        refine ax_getl E q684 dX0_find_146 ?_
        refine ag_lneg E1 dX0_find_149 ?_
        exact ax_lret E rfl ⟨_, rfl, h⟩ dX0_find_150
      · have h := h.2 c_135
        refine ag_aload_n E1 dX0_find_138 rfl 0 rfl ?_
        refine ax_getl E q684 dX0_find_139 ?_
        refine ag_goto E1 (tgt := 150) dX0_find_142 (by decide) ?_
        exact ax_lret E rfl ⟨_, rfl, h⟩ dX0_find_150
    · have h := h.2 c_122
      refine ag_aload_n E1 dX0_find_125 rfl 0 rfl ?_
      refine ax_geti E 16 (by decide) rfl q682 dX0_find_126 ?_
      refine ag_i2l E1 dX0_find_129 ?_
      refine ag_goto E1 (tgt := 150) dX0_find_130 (by decide) ?_
      exact ax_lret E rfl ⟨_, rfl, h⟩ dX0_find_150
  · have h := h.2 c_111
    refine ag_ldc2 E1 q1211 dX0_find_114 ?_
    refine ag_goto E1 (tgt := 150) dX0_find_117 (by decide) ?_
    exact ax_lret E rfl ⟨_, rfl, h⟩ dX0_find_150
theorem tbX0_find_58 (E : EX p R s m args meth c cX0_find 3 RX0 (some .long) D cs b H0 (XKd b H0 ad vs) [] 214 8471 z u) {Q : Int64 → XS → Prop}  {x1 : Int32} {f : XS} (h : wbX0_find_58 b cs ad vs o  Q x1 f) : AX p l e R s m args below meth c D cs b 3 o z u (xJ Q) 58 [(0, .ref o), (1, .int x1)] [] f := by
  have E1 := E.1
  refine ag_aload_n E1 dX0_find_58 rfl 0 rfl ?_
  refine ag_aload_n E1 dX0_find_59 rfl 0 rfl ?_
  refine ax_callVi E [] (kX0_all _ _ _ _ _ _ _ _ _  _ h) (lw_V q1167 q1169 qs31 q83 q1170) hdX0_all (Nat.le_of_ble_eq_true rfl) (Nat.le_of_ble_eq_true rfl) rfl (Nat.le_of_ble_eq_true rfl) dX0_find_60 rfl (fun r_3 f_2 h => ?_)
  refine ag_iload_n E1 dX0_find_63 rfl 1 rfl ?_
  refine ax_callVv E [.int r_3, .int x1] (kX0_search _ _ _ _ _ _ _ _ _ _ _ _ h) (lw_V q1171 q1173 qs32 q83 q1174) hdX0_search (Nat.le_of_ble_eq_true rfl) (Nat.le_of_ble_eq_true rfl) rfl (Nat.le_of_ble_eq_true rfl) dX0_find_64 rfl (fun f_4 h => ?_)
  refine ag_aload_n E1 dX0_find_67 rfl 0 rfl ?_
  refine ag_aload_n E1 dX0_find_68 rfl 0 rfl ?_
  refine ax_geti E 17 (by decide) rfl q683 dX0_find_69 ?_
  refine ag_iconst E1 dX0_find_72 ki_1 ?_
  refine ag_icmp_ne E1 (tgt := 80) dX0_find_73 (by decide) (fun c_73 => ?_) (fun c_73 => ?_)
  · have h := h.1 c_73
    refine ag_iconst E1 dX0_find_80 ki_0 ?_
    exact tbX0_find_81 E  h
  · have h := h.2 c_73
    refine ag_iconst E1 dX0_find_76 ki_1 ?_
    refine ag_goto E1 (tgt := 81) dX0_find_77 (by decide) ?_
    exact tbX0_find_81 E  h
theorem tbX0_find_49 (E : EX p R s m args meth c cX0_find 3 RX0 (some .long) D cs b H0 (XKd b H0 ad vs) [] 214 8471 z u) {Q : Int64 → XS → Prop}  {x1 : Int32} {f : XS} (h : wbX0_find_49 b cs ad vs o  Q x1 f) : AX p l e R s m args below meth c D cs b 3 o z u (xJ Q) 49 [(0, .ref o), (1, .int x1)] [] f := by
  have E1 := E.1
  refine ag_iload_n E1 dX0_find_49 rfl 1 rfl ?_
  refine ag_iconst E1 dX0_find_50 ki_2 ?_
  refine ag_icmp_ne E1 (tgt := 58) dX0_find_51 (by decide) (fun c_51 => ?_) (fun c_51 => ?_)
  · have h := h.1 c_51
    exact tbX0_find_58 E  h
  · have h := h.2 c_51
    refine ag_aload_n E1 dX0_find_54 rfl 0 rfl ?_
    refine ax_callVv E [] (kX0_lays _ _ _ _ _ _ _ _ _  _ h) (lw_V q1207 q1209 qs38 q83 q1210) hdX0_lays (Nat.le_of_ble_eq_true rfl) (Nat.le_of_ble_eq_true rfl) rfl (Nat.le_of_ble_eq_true rfl) dX0_find_55 rfl (fun f_15 h => ?_)
    exact tbX0_find_58 E  h
theorem tbX0_find_29 (E : EX p R s m args meth c cX0_find 3 RX0 (some .long) D cs b H0 (XKd b H0 ad vs) [] 214 8471 z u) {Q : Int64 → XS → Prop}  {x1 : Int32} {x2 : Int32} {f : XS} (h : wbX0_find_29 b cs ad vs o  Q x1 x2 f) : AX p l e R s m args below meth c D cs b 3 o z u (xJ Q) 29 [(0, .ref o), (1, .int x1), (2, .int x2)] [] f := by
  have E1 := E.1
  refine ag_iload_n E1 dX0_find_29 rfl 1 rfl ?_
  refine ag_iconst E1 dX0_find_30 ki_3 ?_
  refine ag_icmp_ne E1 (tgt := 49) dX0_find_31 (by decide) (fun c_31 => ?_) (fun c_31 => ?_)
  · have h := h.1 c_31
    refine ag_sub (lv' := [(0, .ref o), (1, .int x1)]) [0, 1] rfl ?_
    exact tbX0_find_49 E  h
  · have h := h.2 c_31
    refine ag_aload_n E1 dX0_find_34 rfl 0 rfl ?_
    refine ag_aload_n E1 dX0_find_35 rfl 0 rfl ?_
    refine ax_geto E 11 (i := 9) (by decide) rfl (fun _ => rfl) q677 dX0_find_36 ?_
    refine ag_iload_n E1 dX0_find_39 rfl 2 rfl ?_
    obtain ⟨hF_17, h⟩ := h
    obtain ⟨y_18, v_19, y_20, hP_21_z, h⟩ := h
    have hP_21 := (wX_at (cs := cs) hF_17).trans hP_21_z
    refine ag_callV E1 (ci := 16) (C := RJ2) (T0 := TJ2) (n2 := 3) hP_21 rfl (kJ2_get _ _ _ _ _ _ _ _ _ _ _ h) (lw_V q1054 q1055 q1056 q86 q1057) ⟨rfl, hdJ2_get⟩ (Nat.le_of_ble_eq_true rfl) (Nat.le_of_ble_eq_true rfl) (As := [.int x2]) rfl (Nat.le_of_ble_eq_true rfl) dX0_find_40 (fun v_ f_16_w hv => ?_) rfl
    obtain ⟨r_22, rfl, f_16, rfl, h⟩ := hv
    obtain ⟨ci_23, cV_24, hv_25, ho_26, h⟩ := h
    refine ag_castO E1 hv_25 (gOk_ok ho_26) q909 dX0_find_43 ?_
    refine ax_putfrom E q688 dX0_find_46 (fun f_27 e_f_27 => ?_)
    have h := h f_27 e_f_27
    refine ag_sub (lv' := [(0, .ref o), (1, .int x1)]) [0, 1] rfl ?_
    exact tbX0_find_49 E  h
theorem kX0_find (l : Launch) (D : va_G) (cs : Nat → ClassId) (b : Nat) (H0 : Heap) (ad : Nat → Nat) (vs : Nat → Option Nat) (o : Nat) (f : XS) (x1 : Int32) (x2 : Int32) (Q : Int64 → XS → Prop) (h : wX0_find b cs ad vs o f x1 x2 Q) : CX l D cs b H0 (XKd b H0 ad vs) o yX0_find cX0_find 3 (some .long) 214 8471 [.ref o, .int x1, .int x2] f (xJ Q) := by
  refine cx_of (by decide) (Nat.le_of_ble_eq_true rfl) (fun p e R s m below meth c E => ?_)
  have E1 := E.1
  refine ag_sub (lv' := [(0, .ref o), (1, .int x1), (2, .int x2)]) [0, 1, 2] rfl ?_
  refine ag_iload_n E1 dX0_find_0 rfl 1 rfl ?_
  refine ag_i2l E1 dX0_find_1 ?_
  refine ag_lconst E1 (v := 1) dX0_find_2 rfl ?_
  refine ag_ldc2 E1 q901 dX0_find_3 ?_
  refine ag_callPi E1 (As := [.long (Int32.toInt64 x1), .long (1 : Int64), .long (3 : Int64)]) (kX0_in _ _ _ _ _ _ _ _ _ _ _ _ h) (lw_S q801 q280 q83 q281) hdX0_in (Nat.le_of_ble_eq_true rfl) (Nat.le_of_ble_eq_true rfl) rfl (Nat.le_of_ble_eq_true rfl) dX0_find_6 rfl (fun r_1 h => ?_)
  refine ag_if_eq E1 (tgt := 25) dX0_find_9 (by decide) (fun c_9 => ?_) (fun c_9 => ?_)
  · have h := h.1 c_9
    refine ag_ldc2 E1 q879 dX0_find_25 ?_
    exact ax_lret E rfl ⟨_, rfl, h⟩ dX0_find_28
  · have h := h.2 c_9
    refine ag_iload_n E1 dX0_find_12 rfl 1 rfl ?_
    refine ag_iconst E1 dX0_find_13 ki_3 ?_
    refine ag_icmp_ne E1 (tgt := 29) dX0_find_14 (by decide) (fun c_14 => ?_) (fun c_14 => ?_)
    · have h := h.1 c_14
      exact tbX0_find_29 E  h
    · have h := h.2 c_14
      refine ag_aload_n E1 dX0_find_17 rfl 0 rfl ?_
      refine ag_iload_n E1 dX0_find_18 rfl 2 rfl ?_
      refine ax_callVi E [.int x2] (kX0_isGiving _ _ _ _ _ _ _ _ _ _ _ h) (lw_V q1050 q1052 qs22 q83 q1053) hdX0_isGiving (Nat.le_of_ble_eq_true rfl) (Nat.le_of_ble_eq_true rfl) rfl (Nat.le_of_ble_eq_true rfl) dX0_find_19 rfl (fun r_29 f_28 h => ?_)
      refine ag_if_ne E1 (tgt := 29) dX0_find_22 (by decide) (fun c_22 => ?_) (fun c_22 => ?_)
      · have h := h.1 c_22
        exact tbX0_find_29 E  h
      · have h := h.2 c_22
        refine ag_ldc2 E1 q879 dX0_find_25 ?_
        exact ax_lret E rfl ⟨_, rfl, h⟩ dX0_find_28
theorem hdX0_find : yX0_find.cls = RX0 ∧ yX0_find.cls ≠ "java/lang/invoke/MethodHandle" ∧ yX0_find.cls ≠ "java/lang/invoke/VarHandle" ∧ (parseMethodDescriptor yX0_find.desc).map (fun d => d.parameters.length) = some 2 := by decide +kernel
theorem tbX0_foundDay_23 (E : EX p R s m args meth c cX0_foundDay 2 RX0 (some .int) D cs b H0 (XKd b H0 ad vs) [] 1 25 z u) {Q : Int32 → XS → Prop}   {f : XS} (h : wbX0_foundDay_23 b cs ad vs o  Q  f) : AX p l e R s m args below meth c D cs b 2 o z u (xI Q) 23 [] [] f := by
  have E1 := E.1
  refine ag_iconst E1 dX0_foundDay_23 ki_m1 ?_
  refine ag_goto E1 (tgt := 33) dX0_foundDay_24 (by decide) ?_
  exact ax_iret E rfl ⟨_, rfl, h⟩ dX0_foundDay_33
theorem kX0_foundDay (l : Launch) (D : va_G) (cs : Nat → ClassId) (b : Nat) (H0 : Heap) (ad : Nat → Nat) (vs : Nat → Option Nat) (o : Nat) (f : XS) (x1 : Int32) (Q : Int32 → XS → Prop) (h : wX0_foundDay b cs ad vs o f x1 Q) : CX l D cs b H0 (XKd b H0 ad vs) o yX0_foundDay cX0_foundDay 2 (some .int) 1 25 [.ref o, .int x1] f (xI Q) := by
  refine cx_of (by decide) (Nat.le_of_ble_eq_true rfl) (fun p e R s m below meth c E => ?_)
  have E1 := E.1
  refine ag_sub (lv' := [(0, .ref o), (1, .int x1)]) [0, 1] rfl ?_
  refine ag_aload_n E1 dX0_foundDay_0 rfl 0 rfl ?_
  refine ax_geti E 24 (by decide) rfl q690 dX0_foundDay_1 ?_
  refine ag_if_eq E1 (tgt := 23) dX0_foundDay_4 (by decide) (fun c_4 => ?_) (fun c_4 => ?_)
  · have h := h.1 c_4
    refine ag_sub (lv' := []) [] rfl ?_
    exact tbX0_foundDay_23 E  h
  · have h := h.2 c_4
    refine ag_iload_n E1 dX0_foundDay_7 rfl 1 rfl ?_
    refine ag_i2l E1 dX0_foundDay_8 ?_
    refine ag_lconst E1 (v := 0) dX0_foundDay_9 rfl ?_
    refine ag_aload_n E1 dX0_foundDay_10 rfl 0 rfl ?_
    refine ax_geti E 25 (by decide) rfl q691 dX0_foundDay_11 ?_
    refine ag_iconst E1 dX0_foundDay_14 ki_1 ?_
    refine ag_isub E1 dX0_foundDay_15 ?_
    refine ag_i2l E1 dX0_foundDay_16 ?_
    refine ag_callPi E1 (As := [.long (Int32.toInt64 x1), .long (0 : Int64), .long (Int32.toInt64 ((f.1 99 25) - (1 : Int32)))]) (kX0_in _ _ _ _ _ _ _ _ _ _ _ _ h) (lw_S q801 q280 q83 q281) hdX0_in (Nat.le_of_ble_eq_true rfl) (Nat.le_of_ble_eq_true rfl) rfl (Nat.le_of_ble_eq_true rfl) dX0_foundDay_17 rfl (fun r_1 h => ?_)
    refine ag_if_ne E1 (tgt := 27) dX0_foundDay_20 (by decide) (fun c_20 => ?_) (fun c_20 => ?_)
    · have h := h.1 c_20
      refine ag_aload_n E1 dX0_foundDay_27 rfl 0 rfl ?_
      refine ax_geta E 26 (i := 15) (by decide) rfl rfl q692 dX0_foundDay_28 ?_
      refine ag_iload_n E1 dX0_foundDay_31 rfl 1 rfl ?_
      obtain ⟨hin, h⟩ := h
      refine ax_bald E 26 rfl rfl rfl (by decide) hin dX0_foundDay_32 ?_
      exact ax_iret E rfl ⟨_, rfl, h⟩ dX0_foundDay_33
    · have h := h.2 c_20
      refine ag_sub (lv' := []) [] rfl ?_
      exact tbX0_foundDay_23 E  h
theorem hdX0_foundDay : yX0_foundDay.cls = RX0 ∧ yX0_foundDay.cls ≠ "java/lang/invoke/MethodHandle" ∧ yX0_foundDay.cls ≠ "java/lang/invoke/VarHandle" ∧ (parseMethodDescriptor yX0_foundDay.desc).map (fun d => d.parameters.length) = some 1 := by decide +kernel
theorem tbX0_least_44 (E : EX p R s m args meth c cX0_least 5 RX0 (some .int) D cs b H0 (XKd b H0 ad vs) [(7, 50, 58, 0), (58, 60, 58, 0)] 214 8471 z u) {Q : Int32 → XS → Prop} {K9 : Int32 → Int32 → Int32 → XS → Prop} (hK9 : ∀ (x1 : Int32) (x2 : Int32) (x3 : Int32) (f : XS), K9 x1 x2 x3 f → AX p l e R s m args below meth c D cs b 5 o z u (xI Q) 9 [(0, .ref o), (1, .int x1), (2, .int x2), (3, .int x3)] [] f) {K50 : Int32 → Int32 → XS → Prop} (hK50 : ∀ (x1 : Int32) (x2 : Int32) (f : XS), K50 x1 x2 f → AX p l e R s m args below meth c D cs b 5 o z u (xI Q) 50 [(0, .ref o), (1, .int x1), (2, .int x2)] [] f) {x1 : Int32} {x2 : Int32} {x3 : Int32} {f : XS} (h : wbX0_least_44 b cs ad vs o K9 K50 Q x1 x2 x3 f) : AX p l e R s m args below meth c D cs b 5 o z u (xI Q) 44 [(0, .ref o), (1, .int x1), (2, .int x2), (3, .int x3)] [] f := by
  have E1 := E.1
  refine ag_iincN E1 (lv' := fun x3_6 => [(3, .int x3_6), (0, .ref o), (1, .int x1), (2, .int x2)]) dX0_least_44 3 rfl ki_1 (Nat.lt_of_lt_of_le (Nat.le_refl _) (Nat.le_of_ble_eq_true rfl)) (fun _ => rfl) (fun x3_6 e_x3_6 => ?_)
  have h := h x3_6 e_x3_6
  refine ag_goto E1 (tgt := 9) dX0_least_47 (by decide) ?_
  refine ag_sub (lv' := [(0, .ref o), (1, .int x1), (2, .int x2), (3, .int x3_6)]) [1, 2, 3, 0] rfl ?_
  exact hK9 _ _ _ _ h
theorem tbX0_least_9 (E : EX p R s m args meth c cX0_least 5 RX0 (some .int) D cs b H0 (XKd b H0 ad vs) [(7, 50, 58, 0), (58, 60, 58, 0)] 214 8471 z u) {Q : Int32 → XS → Prop} {K9 : Int32 → Int32 → Int32 → XS → Prop} (hK9 : ∀ (x1 : Int32) (x2 : Int32) (x3 : Int32) (f : XS), K9 x1 x2 x3 f → AX p l e R s m args below meth c D cs b 5 o z u (xI Q) 9 [(0, .ref o), (1, .int x1), (2, .int x2), (3, .int x3)] [] f) {K50 : Int32 → Int32 → XS → Prop} (hK50 : ∀ (x1 : Int32) (x2 : Int32) (f : XS), K50 x1 x2 f → AX p l e R s m args below meth c D cs b 5 o z u (xI Q) 50 [(0, .ref o), (1, .int x1), (2, .int x2)] [] f) {x1 : Int32} {x2 : Int32} {x3 : Int32} {f : XS} (h : wbX0_least_9 b cs ad vs o K9 K50 Q x1 x2 x3 f) : AX p l e R s m args below meth c D cs b 5 o z u (xI Q) 9 [(0, .ref o), (1, .int x1), (2, .int x2), (3, .int x3)] [] f := by
  have E1 := E.1
  refine ag_iload_n E1 dX0_least_9 rfl 3 rfl ?_
  refine ag_bipush E1 dX0_least_10 kb_7 ?_
  refine ag_icmp_gt E1 (tgt := 50) dX0_least_12 (by decide) (fun c_12 => ?_) (fun c_12 => ?_)
  · have h := h.1 c_12
    refine ag_sub (lv' := [(0, .ref o), (1, .int x1), (2, .int x2)]) [0, 1, 2] rfl ?_
    exact hK50 _ _ _ h
  · have h := h.2 c_12
    refine ag_iload_n E1 dX0_least_15 rfl 2 rfl ?_
    refine ag_iconst E1 dX0_least_16 ki_m1 ?_
    refine ag_icmp_ne E1 (tgt := 50) dX0_least_17 (by decide) (fun c_17 => ?_) (fun c_17 => ?_)
    · have h := h.1 c_17
      refine ag_sub (lv' := [(0, .ref o), (1, .int x1), (2, .int x2)]) [0, 1, 2] rfl ?_
      exact hK50 _ _ _ h
    · have h := h.2 c_17
      refine ag_aload_n E1 dX0_least_20 rfl 0 rfl ?_
      refine ag_iload_n E1 dX0_least_21 rfl 3 rfl ?_
      refine ax_puti E 7 (by decide) rfl q673 rfl (ty := .int) (by decide +kernel) rfl rfl dX0_least_22 (fun f_2 e_f_2 => ?_)
      have h := h f_2 e_f_2
      refine ag_aload_n E1 dX0_least_25 rfl 0 rfl ?_
      refine ag_aload_n E1 dX0_least_26 rfl 0 rfl ?_
      refine ax_callVi E [] (kX0_all _ _ _ _ _ _ _ _ _  _ h) (lw_V q1167 q1169 qs31 q83 q1170) hdX0_all (Nat.le_of_ble_eq_true rfl) (Nat.le_of_ble_eq_true rfl) rfl (Nat.le_of_ble_eq_true rfl) dX0_least_27 rfl (fun r_4 f_3 h => ?_)
      refine ag_iconst E1 dX0_least_30 ki_1 ?_
      refine ax_callVv E [.int r_4, .int (1 : Int32)] (kX0_search _ _ _ _ _ _ _ _ _ _ _ _ h) (lw_V q1171 q1173 qs32 q83 q1174) hdX0_search (Nat.le_of_ble_eq_true rfl) (Nat.le_of_ble_eq_true rfl) rfl (Nat.le_of_ble_eq_true rfl) dX0_least_31 rfl (fun f_5 h => ?_)
      refine ag_aload_n E1 dX0_least_34 rfl 0 rfl ?_
      refine ax_geti E 17 (by decide) rfl q683 dX0_least_35 ?_
      refine ag_iconst E1 dX0_least_38 ki_1 ?_
      refine ag_icmp_ne E1 (tgt := 44) dX0_least_39 (by decide) (fun c_39 => ?_) (fun c_39 => ?_)
      · have h := h.1 c_39
        exact tbX0_least_44 E hK9 hK50 h
      · have h := h.2 c_39
        refine ag_iload_n E1 dX0_least_42 rfl 3 rfl ?_
        refine ag_istore_n E1 (lv' := [(2, .int x3), (0, .ref o), (1, .int x1), (3, .int x3)]) dX0_least_43 rfl (Nat.lt_of_lt_of_le (Nat.le_refl _) (Nat.le_of_ble_eq_true rfl)) rfl ?_
        refine ag_sub (lv' := [(0, .ref o), (1, .int x1), (2, .int x3), (3, .int x3)]) [1, 2, 0, 3] rfl ?_
        exact tbX0_least_44 E hK9 hK50 h
theorem tlX0_least_9 (E : EX p R s m args meth c cX0_least 5 RX0 (some .int) D cs b H0 (XKd b H0 ad vs) [(7, 50, 58, 0), (58, 60, 58, 0)] 214 8471 z u) {Q : Int32 → XS → Prop} {K50 : Int32 → Int32 → XS → Prop} (hK50 : ∀ (x1 : Int32) (x2 : Int32) (f : XS), K50 x1 x2 f → AX p l e R s m args below meth c D cs b 5 o z u (xI Q) 50 [(0, .ref o), (1, .int x1), (2, .int x2)] [] f) : ∀ (n : Nat) (x1 : Int32) (x2 : Int32) (x3 : Int32) (f : XS), wlX0_least_9 b cs ad vs o K50 Q n x1 x2 x3 f → AX p l e R s m args below meth c D cs b 5 o z u (xI Q) 9 [(0, .ref o), (1, .int x1), (2, .int x2), (3, .int x3)] [] f := by
  intro n
  induction n with
  | zero => intro _ _ _ _ h; exact h.elim
  | succ n ih => intro x1 x2 x3 f h; exact tbX0_least_9 E ih hK50 h
theorem tbX0_least_50 (E : EX p R s m args meth c cX0_least 5 RX0 (some .int) D cs b H0 (XKd b H0 ad vs) [(7, 50, 58, 0), (58, 60, 58, 0)] 214 8471 z u) {Q : Int32 → XS → Prop}  {x1 : Int32} {x2 : Int32} {f : XS} (h : wbX0_least_50 b cs ad vs o  Q x1 x2 f) : AX p l e R s m args below meth c D cs b 5 o z u (xI Q) 50 [(0, .ref o), (1, .int x1), (2, .int x2)] [] f := by
  have E1 := E.1
  refine ag_aload_n E1 dX0_least_50 rfl 0 rfl ?_
  refine ag_iload_n E1 dX0_least_51 rfl 1 rfl ?_
  refine ax_puti E 7 (by decide) rfl q673 rfl (ty := .int) (by decide +kernel) rfl rfl dX0_least_52 (fun f_7 e_f_7 => ?_)
  have h := h f_7 e_f_7
  refine ag_goto E1 (tgt := 68) dX0_least_55 (by decide) ?_
  refine ag_iload_n E1 dX0_least_68 rfl 2 rfl ?_
  exact ax_iret E rfl ⟨_, rfl, h⟩ dX0_least_69
theorem kX0_least (l : Launch) (D : va_G) (cs : Nat → ClassId) (b : Nat) (H0 : Heap) (ad : Nat → Nat) (vs : Nat → Option Nat) (o : Nat) (f : XS)  (Q : Int32 → XS → Prop) (h : wX0_least b cs ad vs o f  Q) : CXW l D cs b H0 (XKd b H0 ad vs) o yX0_least cX0_least 5 (some .int) [(7, 50, 58, 0), (58, 60, 58, 0)] 214 8471 [.ref o] f (xI Q) := by
  refine conw_of (by decide) (Nat.le_of_ble_eq_true rfl) (fun p e R s m below meth c E1 h0 hin0 => ?_)
  have E : EX p R s m ([.ref o] : List Value).toArray meth c cX0_least 5 RX0 (some .int) D cs b H0 (XKd b H0 ad vs) [(7, 50, 58, 0), (58, 60, 58, 0)] 214 8471 f.2.2.2.1 f.2.2.2.2 := ⟨E1, h0⟩
  refine ag_xret ?_
  refine ag_sub (lv' := [(0, .ref o)]) [0] rfl ?_
  refine ag_aload_n E1 dX0_least_0 rfl 0 rfl ?_
  refine ax_geti E 7 (by decide) rfl q673 dX0_least_1 ?_
  refine ag_topi (fun x1_1 e_x1_1 => ?_)
  have h := h x1_1 e_x1_1
  refine ag_istore_n E1 (lv' := [(1, .int x1_1), (0, .ref o)]) dX0_least_4 rfl (Nat.lt_of_lt_of_le (Nat.le_refl _) (Nat.le_of_ble_eq_true rfl)) rfl ?_
  refine ag_iconst E1 dX0_least_5 ki_m1 ?_
  refine ag_istore_n E1 (lv' := [(2, .int (-1 : Int32)), (1, .int x1_1), (0, .ref o)]) dX0_least_6 rfl (Nat.lt_of_lt_of_le (Nat.le_refl _) (Nat.le_of_ble_eq_true rfl)) rfl ?_
  refine ag_iconst E1 dX0_least_7 ki_2 ?_
  refine ag_istore_n E1 (lv' := [(3, .int (2 : Int32)), (2, .int (-1 : Int32)), (1, .int x1_1), (0, .ref o)]) dX0_least_8 rfl (Nat.lt_of_lt_of_le (Nat.le_refl _) (Nat.le_of_ble_eq_true rfl)) rfl ?_
  refine ag_sub (lv' := [(0, .ref o), (1, .int x1_1), (2, .int (-1 : Int32)), (3, .int (2 : Int32))]) [3, 2, 1, 0] rfl ?_
  obtain ⟨n, h⟩ := h
  refine tlX0_least_9 E ?_ n _ _ _ _ h
  · intro x1 x2 f h
    exact tbX0_least_50 E  h
theorem hdX0_least : yX0_least.cls = RX0 ∧ yX0_least.cls ≠ "java/lang/invoke/MethodHandle" ∧ yX0_least.cls ≠ "java/lang/invoke/VarHandle" ∧ (parseMethodDescriptor yX0_least.desc).map (fun d => d.parameters.length) = some 0 := by decide +kernel
theorem tbX0_knot_47 (E : EX p R s m args meth c cX0_knot 3 RX0 (some .int) D cs b H0 (XKd b H0 ad vs) [] 214 8471 z u) {Q : Int32 → XS → Prop} {K4 : Int32 → Int32 → XS → Prop} (hK4 : ∀ (x1 : Int32) (x2 : Int32) (f : XS), K4 x1 x2 f → AX p l e R s m args below meth c D cs b 3 o z u (xI Q) 4 [(0, .ref o), (1, .int x1), (2, .int x2)] [] f) {x1 : Int32} {x2 : Int32} {f : XS} (h : wbX0_knot_47 b cs ad vs o K4 Q x1 x2 f) : AX p l e R s m args below meth c D cs b 3 o z u (xI Q) 47 [(0, .ref o), (1, .int x1), (2, .int x2)] [] f := by
  have E1 := E.1
  refine ag_iincN E1 (lv' := fun x2_2 => [(2, .int x2_2), (0, .ref o), (1, .int x1)]) dX0_knot_47 2 rfl ki_1 (Nat.lt_of_lt_of_le (Nat.le_refl _) (Nat.le_of_ble_eq_true rfl)) (fun _ => rfl) (fun x2_2 e_x2_2 => ?_)
  have h := h x2_2 e_x2_2
  refine ag_goto E1 (tgt := 4) dX0_knot_50 (by decide) ?_
  refine ag_sub (lv' := [(0, .ref o), (1, .int x1), (2, .int x2_2)]) [1, 2, 0] rfl ?_
  exact hK4 _ _ _ h
theorem tbX0_knot_32 (E : EX p R s m args meth c cX0_knot 3 RX0 (some .int) D cs b H0 (XKd b H0 ad vs) [] 214 8471 z u) {Q : Int32 → XS → Prop} {K4 : Int32 → Int32 → XS → Prop} (hK4 : ∀ (x1 : Int32) (x2 : Int32) (f : XS), K4 x1 x2 f → AX p l e R s m args below meth c D cs b 3 o z u (xI Q) 4 [(0, .ref o), (1, .int x1), (2, .int x2)] [] f) {x1 : Int32} {x2 : Int32} {f : XS} (h : wbX0_knot_32 b cs ad vs o K4 Q x1 x2 f) : AX p l e R s m args below meth c D cs b 3 o z u (xI Q) 32 [(0, .ref o), (1, .int x1), (2, .int x2)] [] f := by
  have E1 := E.1
  refine ag_aload_n E1 dX0_knot_32 rfl 0 rfl ?_
  refine ag_iload_n E1 dX0_knot_33 rfl 2 rfl ?_
  refine ag_iconst E1 dX0_knot_34 ki_1 ?_
  refine ax_callVv E [.int x2, .int (1 : Int32)] (kX0_search _ _ _ _ _ _ _ _ _ _ _ _ h) (lw_V q1171 q1173 qs32 q83 q1174) hdX0_search (Nat.le_of_ble_eq_true rfl) (Nat.le_of_ble_eq_true rfl) rfl (Nat.le_of_ble_eq_true rfl) dX0_knot_35 rfl (fun f_1 h => ?_)
  refine ag_aload_n E1 dX0_knot_38 rfl 0 rfl ?_
  refine ax_geti E 17 (by decide) rfl q683 dX0_knot_39 ?_
  refine ag_if_ne E1 (tgt := 47) dX0_knot_42 (by decide) (fun c_42 => ?_) (fun c_42 => ?_)
  · have h := h.1 c_42
    exact tbX0_knot_47 E hK4 h
  · have h := h.2 c_42
    refine ag_iload_n E1 dX0_knot_45 rfl 2 rfl ?_
    refine ag_istore_n E1 (lv' := [(1, .int x2), (0, .ref o), (2, .int x2)]) dX0_knot_46 rfl (Nat.lt_of_lt_of_le (Nat.le_refl _) (Nat.le_of_ble_eq_true rfl)) rfl ?_
    refine ag_sub (lv' := [(0, .ref o), (1, .int x2), (2, .int x2)]) [1, 0, 2] rfl ?_
    exact tbX0_knot_47 E hK4 h
theorem tbX0_knot_4 (E : EX p R s m args meth c cX0_knot 3 RX0 (some .int) D cs b H0 (XKd b H0 ad vs) [] 214 8471 z u) {Q : Int32 → XS → Prop} {K4 : Int32 → Int32 → XS → Prop} (hK4 : ∀ (x1 : Int32) (x2 : Int32) (f : XS), K4 x1 x2 f → AX p l e R s m args below meth c D cs b 3 o z u (xI Q) 4 [(0, .ref o), (1, .int x1), (2, .int x2)] [] f) {x1 : Int32} {x2 : Int32} {f : XS} (h : wbX0_knot_4 b cs ad vs o K4 Q x1 x2 f) : AX p l e R s m args below meth c D cs b 3 o z u (xI Q) 4 [(0, .ref o), (1, .int x1), (2, .int x2)] [] f := by
  have E1 := E.1
  refine ag_iload_n E1 dX0_knot_4 rfl 2 rfl ?_
  refine ag_iconst E1 dX0_knot_5 ki_1 ?_
  refine ag_aload_n E1 dX0_knot_6 rfl 0 rfl ?_
  refine ax_geti E 6 (by decide) rfl q672 dX0_knot_7 ?_
  refine ag_ishl E1 dX0_knot_10 ?_
  refine ag_icmp_ge E1 (tgt := 53) dX0_knot_11 (by decide) (fun c_11 => ?_) (fun c_11 => ?_)
  · have h := h.1 c_11
    refine ag_iload_n E1 dX0_knot_53 rfl 1 rfl ?_
    exact ax_iret E rfl ⟨_, rfl, h⟩ dX0_knot_54
  · have h := h.2 c_11
    refine ag_iload_n E1 dX0_knot_14 rfl 1 rfl ?_
    refine ag_if_eq E1 (tgt := 32) dX0_knot_15 (by decide) (fun c_15 => ?_) (fun c_15 => ?_)
    · have h := h.1 c_15
      exact tbX0_knot_32 E hK4 h
    · have h := h.2 c_15
      refine ag_iload_n E1 dX0_knot_18 rfl 2 rfl ?_
      refine ag_callPi E1 (As := [.int x2]) (kJ18_bitCount _ _ _ _ _ _ _ _ _ _ h) (lw_S q1224 q1225 q116 q1226) hdJ18_bitCount (Nat.le_of_ble_eq_true rfl) (Nat.le_of_ble_eq_true rfl) rfl (Nat.le_of_ble_eq_true rfl) dX0_knot_19 rfl (fun r_3 h => ?_)
      refine ag_iload_n E1 dX0_knot_22 rfl 1 rfl ?_
      refine ag_callPi E1 (As := [.int x1]) (kJ18_bitCount _ _ _ _ _ _ _ _ _ _ h) (lw_S q1224 q1225 q116 q1226) hdJ18_bitCount (Nat.le_of_ble_eq_true rfl) (Nat.le_of_ble_eq_true rfl) rfl (Nat.le_of_ble_eq_true rfl) dX0_knot_23 rfl (fun r_4 h => ?_)
      refine ag_icmp_lt E1 (tgt := 32) dX0_knot_26 (by decide) (fun c_26 => ?_) (fun c_26 => ?_)
      · have h := h.1 c_26
        exact tbX0_knot_32 E hK4 h
      · have h := h.2 c_26
        refine ag_goto E1 (tgt := 47) dX0_knot_29 (by decide) ?_
        exact tbX0_knot_47 E hK4 h
theorem tlX0_knot_4 (E : EX p R s m args meth c cX0_knot 3 RX0 (some .int) D cs b H0 (XKd b H0 ad vs) [] 214 8471 z u) {Q : Int32 → XS → Prop}  : ∀ (n : Nat) (x1 : Int32) (x2 : Int32) (f : XS), wlX0_knot_4 b cs ad vs o  Q n x1 x2 f → AX p l e R s m args below meth c D cs b 3 o z u (xI Q) 4 [(0, .ref o), (1, .int x1), (2, .int x2)] [] f := by
  intro n
  induction n with
  | zero => intro _ _ _ h; exact h.elim
  | succ n ih => intro x1 x2 f h; exact tbX0_knot_4 E ih h
theorem kX0_knot (l : Launch) (D : va_G) (cs : Nat → ClassId) (b : Nat) (H0 : Heap) (ad : Nat → Nat) (vs : Nat → Option Nat) (o : Nat) (f : XS)  (Q : Int32 → XS → Prop) (h : wX0_knot b cs ad vs o f  Q) : CX l D cs b H0 (XKd b H0 ad vs) o yX0_knot cX0_knot 3 (some .int) 214 8471 [.ref o] f (xI Q) := by
  refine cx_of (by decide) (Nat.le_of_ble_eq_true rfl) (fun p e R s m below meth c E => ?_)
  have E1 := E.1
  refine ag_sub (lv' := [(0, .ref o)]) [0] rfl ?_
  refine ag_iconst E1 dX0_knot_0 ki_0 ?_
  refine ag_istore_n E1 (lv' := [(1, .int (0 : Int32)), (0, .ref o)]) dX0_knot_1 rfl (Nat.lt_of_lt_of_le (Nat.le_refl _) (Nat.le_of_ble_eq_true rfl)) rfl ?_
  refine ag_iconst E1 dX0_knot_2 ki_1 ?_
  refine ag_istore_n E1 (lv' := [(2, .int (1 : Int32)), (1, .int (0 : Int32)), (0, .ref o)]) dX0_knot_3 rfl (Nat.lt_of_lt_of_le (Nat.le_refl _) (Nat.le_of_ble_eq_true rfl)) rfl ?_
  refine ag_sub (lv' := [(0, .ref o), (1, .int (0 : Int32)), (2, .int (1 : Int32))]) [2, 1, 0] rfl ?_
  obtain ⟨n, h⟩ := h
  exact tlX0_knot_4 E  n _ _ _ h
theorem hdX0_knot : yX0_knot.cls = RX0 ∧ yX0_knot.cls ≠ "java/lang/invoke/MethodHandle" ∧ yX0_knot.cls ≠ "java/lang/invoke/VarHandle" ∧ (parseMethodDescriptor yX0_knot.desc).map (fun d => d.parameters.length) = some 0 := by decide +kernel
theorem tbX0_room_105 (E : EX p R s m args meth c cX0_room 8 RX0 (some .int) D cs b H0 (XKd b H0 ad vs) [] 203 8084 z u) {Q : Int32 → XS → Prop} {K74 : Int32 → Int32 → Int32 → Int32 → Int32 → XS → Prop} (hK74 : ∀ (x2 : Int32) (x4 : Int32) (x5 : Int32) (x6 : Int32) (x7 : Int32) (f : XS), K74 x2 x4 x5 x6 x7 f → AX p l e R s m args below meth c D cs b 8 o z u (xI Q) 74 [(0, .ref o), (2, .int x2), (4, .int x4), (5, .int x5), (6, .int x6), (7, .int x7)] [] f) {K111 : Int32 → Int32 → Int32 → Int32 → XS → Prop} (hK111 : ∀ (x2 : Int32) (x4 : Int32) (x5 : Int32) (x6 : Int32) (f : XS), K111 x2 x4 x5 x6 f → AX p l e R s m args below meth c D cs b 8 o z u (xI Q) 111 [(0, .ref o), (2, .int x2), (4, .int x4), (5, .int x5), (6, .int x6)] [] f) {x2 : Int32} {x4 : Int32} {x5 : Int32} {x6 : Int32} {x7 : Int32} {f : XS} (h : wbX0_room_105 b cs ad vs o K74 K111 Q x2 x4 x5 x6 x7 f) : AX p l e R s m args below meth c D cs b 8 o z u (xI Q) 105 [(0, .ref o), (2, .int x2), (4, .int x4), (5, .int x5), (6, .int x6), (7, .int x7)] [] f := by
  have E1 := E.1
  refine ag_iincN E1 (lv' := fun x7_22 => [(7, .int x7_22), (0, .ref o), (2, .int x2), (4, .int x4), (5, .int x5), (6, .int x6)]) dX0_room_105 5 rfl ki_1 (Nat.lt_of_lt_of_le (Nat.le_refl _) (Nat.le_of_ble_eq_true rfl)) (fun _ => rfl) (fun x7_22 e_x7_22 => ?_)
  have h := h x7_22 e_x7_22
  refine ag_goto E1 (tgt := 74) dX0_room_108 (by decide) ?_
  refine ag_sub (lv' := [(0, .ref o), (2, .int x2), (4, .int x4), (5, .int x5), (6, .int x6), (7, .int x7_22)]) [1, 2, 3, 4, 5, 0] rfl ?_
  exact hK74 _ _ _ _ _ _ h
theorem tbX0_room_74 (E : EX p R s m args meth c cX0_room 8 RX0 (some .int) D cs b H0 (XKd b H0 ad vs) [] 203 8084 z u) {Q : Int32 → XS → Prop} {K74 : Int32 → Int32 → Int32 → Int32 → Int32 → XS → Prop} (hK74 : ∀ (x2 : Int32) (x4 : Int32) (x5 : Int32) (x6 : Int32) (x7 : Int32) (f : XS), K74 x2 x4 x5 x6 x7 f → AX p l e R s m args below meth c D cs b 8 o z u (xI Q) 74 [(0, .ref o), (2, .int x2), (4, .int x4), (5, .int x5), (6, .int x6), (7, .int x7)] [] f) {K111 : Int32 → Int32 → Int32 → Int32 → XS → Prop} (hK111 : ∀ (x2 : Int32) (x4 : Int32) (x5 : Int32) (x6 : Int32) (f : XS), K111 x2 x4 x5 x6 f → AX p l e R s m args below meth c D cs b 8 o z u (xI Q) 111 [(0, .ref o), (2, .int x2), (4, .int x4), (5, .int x5), (6, .int x6)] [] f) {x2 : Int32} {x4 : Int32} {x5 : Int32} {x6 : Int32} {x7 : Int32} {f : XS} (h : wbX0_room_74 b cs ad vs o K74 K111 Q x2 x4 x5 x6 x7 f) : AX p l e R s m args below meth c D cs b 8 o z u (xI Q) 74 [(0, .ref o), (2, .int x2), (4, .int x4), (5, .int x5), (6, .int x6), (7, .int x7)] [] f := by
  have E1 := E.1
  refine ag_iload E1 dX0_room_74 5 rfl ?_
  refine ag_aload_n E1 dX0_room_76 rfl 0 rfl ?_
  refine ax_geti E 6 (by decide) rfl q672 dX0_room_77 ?_
  refine ag_icmp_ge E1 (tgt := 111) dX0_room_80 (by decide) (fun c_80 => ?_) (fun c_80 => ?_)
  · have h := h.1 c_80
    refine ag_sub (lv' := [(0, .ref o), (2, .int x2), (4, .int x4), (5, .int x5), (6, .int x6)]) [0, 1, 2, 3, 4] rfl ?_
    exact hK111 _ _ _ _ _ h
  · have h := h.2 c_80
    refine ag_aload_n E1 dX0_room_83 rfl 0 rfl ?_
    refine ag_iload E1 dX0_room_84 5 rfl ?_
    refine ag_iload_n E1 dX0_room_86 rfl 1 rfl ?_
    refine ag_mmin E1 q806 q356 q96 q357 (Nat.le_of_ble_eq_true rfl) (Nat.le_of_ble_eq_true rfl) (Nat.le_of_ble_eq_true rfl) dX0_room_87 ?_
    refine ag_iload E1 dX0_room_90 5 rfl ?_
    refine ag_iload_n E1 dX0_room_92 rfl 1 rfl ?_
    refine ag_mmax E1 q892 q338 q96 q339 (Nat.le_of_ble_eq_true rfl) (Nat.le_of_ble_eq_true rfl) (Nat.le_of_ble_eq_true rfl) dX0_room_93 ?_
    refine ax_callVi E [.int (i_min x7 x2), .int (i_max x7 x2)] (kX0_bars _ _ _ _ _ _ _ _ _ _ _ _ h) (lw_V q1113 q1115 qs26 q83 q1116) hdX0_bars (Nat.le_of_ble_eq_true rfl) (Nat.le_of_ble_eq_true rfl) rfl (Nat.le_of_ble_eq_true rfl) dX0_room_96 rfl (fun r_21 f_20 h => ?_)
    refine ag_if_eq E1 (tgt := 105) dX0_room_99 (by decide) (fun c_99 => ?_) (fun c_99 => ?_)
    · have h := h.1 c_99
      exact tbX0_room_105 E hK74 hK111 h
    · have h := h.2 c_99
      refine ag_iconst E1 dX0_room_102 ki_0 ?_
      refine ag_istore E1 (lv' := [(6, .int (0 : Int32)), (0, .ref o), (2, .int x2), (4, .int x4), (5, .int x5), (7, .int x7)]) dX0_room_103 (Nat.lt_of_lt_of_le (Nat.le_refl _) (Nat.le_of_ble_eq_true rfl)) rfl ?_
      refine ag_sub (lv' := [(0, .ref o), (2, .int x2), (4, .int x4), (5, .int x5), (6, .int (0 : Int32)), (7, .int x7)]) [1, 2, 3, 4, 0, 5] rfl ?_
      exact tbX0_room_105 E hK74 hK111 h
theorem tlX0_room_74 (E : EX p R s m args meth c cX0_room 8 RX0 (some .int) D cs b H0 (XKd b H0 ad vs) [] 203 8084 z u) {Q : Int32 → XS → Prop} {K111 : Int32 → Int32 → Int32 → Int32 → XS → Prop} (hK111 : ∀ (x2 : Int32) (x4 : Int32) (x5 : Int32) (x6 : Int32) (f : XS), K111 x2 x4 x5 x6 f → AX p l e R s m args below meth c D cs b 8 o z u (xI Q) 111 [(0, .ref o), (2, .int x2), (4, .int x4), (5, .int x5), (6, .int x6)] [] f) : ∀ (n : Nat) (x2 : Int32) (x4 : Int32) (x5 : Int32) (x6 : Int32) (x7 : Int32) (f : XS), wlX0_room_74 b cs ad vs o K111 Q n x2 x4 x5 x6 x7 f → AX p l e R s m args below meth c D cs b 8 o z u (xI Q) 74 [(0, .ref o), (2, .int x2), (4, .int x4), (5, .int x5), (6, .int x6), (7, .int x7)] [] f := by
  intro n
  induction n with
  | zero => intro _ _ _ _ _ _ h; exact h.elim
  | succ n ih => intro x2 x4 x5 x6 x7 f h; exact tbX0_room_74 E ih hK111 h
theorem tbX0_room_125 (E : EX p R s m args meth c cX0_room 8 RX0 (some .int) D cs b H0 (XKd b H0 ad vs) [] 203 8084 z u) {Q : Int32 → XS → Prop} {K49 : Int32 → Int32 → Int32 → XS → Prop} (hK49 : ∀ (x2 : Int32) (x4 : Int32) (x5 : Int32) (f : XS), K49 x2 x4 x5 f → AX p l e R s m args below meth c D cs b 8 o z u (xI Q) 49 [(0, .ref o), (2, .int x2), (4, .int x4), (5, .int x5)] [] f) {x2 : Int32} {x4 : Int32} {x5 : Int32} {f : XS} (h : wbX0_room_125 b cs ad vs o K49 Q x2 x4 x5 f) : AX p l e R s m args below meth c D cs b 8 o z u (xI Q) 125 [(0, .ref o), (2, .int x2), (4, .int x4), (5, .int x5)] [] f := by
  have E1 := E.1
  refine ag_iincN E1 (lv' := fun x5_23 => [(5, .int x5_23), (0, .ref o), (2, .int x2), (4, .int x4)]) dX0_room_125 3 rfl ki_1 (Nat.lt_of_lt_of_le (Nat.le_refl _) (Nat.le_of_ble_eq_true rfl)) (fun _ => rfl) (fun x5_23 e_x5_23 => ?_)
  have h := h x5_23 e_x5_23
  refine ag_goto E1 (tgt := 49) dX0_room_128 (by decide) ?_
  refine ag_sub (lv' := [(0, .ref o), (2, .int x2), (4, .int x4), (5, .int x5_23)]) [1, 2, 3, 0] rfl ?_
  exact hK49 _ _ _ _ h
theorem tbX0_room_49 (E : EX p R s m args meth c cX0_room 8 RX0 (some .int) D cs b H0 (XKd b H0 ad vs) [] 203 8084 z u) {Q : Int32 → XS → Prop} {K49 : Int32 → Int32 → Int32 → XS → Prop} (hK49 : ∀ (x2 : Int32) (x4 : Int32) (x5 : Int32) (f : XS), K49 x2 x4 x5 f → AX p l e R s m args below meth c D cs b 8 o z u (xI Q) 49 [(0, .ref o), (2, .int x2), (4, .int x4), (5, .int x5)] [] f) {x2 : Int32} {x4 : Int32} {x5 : Int32} {f : XS} (h : wbX0_room_49 b cs ad vs o K49 Q x2 x4 x5 f) : AX p l e R s m args below meth c D cs b 8 o z u (xI Q) 49 [(0, .ref o), (2, .int x2), (4, .int x4), (5, .int x5)] [] f := by
  have E1 := E.1
  refine ag_iload E1 dX0_room_49 3 rfl ?_
  refine ag_aload_n E1 dX0_room_51 rfl 0 rfl ?_
  refine ax_geti E 7 (by decide) rfl q673 dX0_room_52 ?_
  refine ag_icmp_ge E1 (tgt := 131) dX0_room_55 (by decide) (fun c_55 => ?_) (fun c_55 => ?_)
  · have h := h.1 c_55
    refine ag_iload E1 dX0_room_131 2 rfl ?_
    exact ax_iret E rfl ⟨_, rfl, h⟩ dX0_room_133
  · have h := h.2 c_55
    refine ag_aload_n E1 dX0_room_58 rfl 0 rfl ?_
    refine ax_geta E 14 (i := 11) (by decide) rfl rfl q680 dX0_room_59 ?_
    refine ag_iload_n E1 dX0_room_62 rfl 1 rfl ?_
    refine ag_iconst E1 dX0_room_63 ki_1 ?_
    refine ag_iload E1 dX0_room_64 3 rfl ?_
    refine ag_ishl E1 dX0_room_66 ?_
    obtain ⟨hin, h⟩ := h
    refine ax_iast E 14 rfl rfl rfl (by decide) hin dX0_room_67 (fun f_19 e_f_19 => ?_)
    have h := h f_19 e_f_19
    refine ag_iconst E1 dX0_room_68 ki_1 ?_
    refine ag_istore E1 (lv' := [(6, .int (1 : Int32)), (0, .ref o), (2, .int x2), (4, .int x4), (5, .int x5)]) dX0_room_69 (Nat.lt_of_lt_of_le (Nat.le_refl _) (Nat.le_of_ble_eq_true rfl)) rfl ?_
    refine ag_iconst E1 dX0_room_71 ki_0 ?_
    refine ag_istore E1 (lv' := [(7, .int (0 : Int32)), (6, .int (1 : Int32)), (0, .ref o), (2, .int x2), (4, .int x4), (5, .int x5)]) dX0_room_72 (Nat.lt_of_lt_of_le (Nat.le_refl _) (Nat.le_of_ble_eq_true rfl)) rfl ?_
    refine ag_sub (lv' := [(0, .ref o), (2, .int x2), (4, .int x4), (5, .int x5), (6, .int (1 : Int32)), (7, .int (0 : Int32))]) [2, 3, 4, 5, 1, 0] rfl ?_
    obtain ⟨n, h⟩ := h
    refine tlX0_room_74 E ?_ n _ _ _ _ _ _ h
    · intro x2 x4 x5 x6 f h
      refine ag_iload E1 dX0_room_111 4 rfl ?_
      refine ag_if_eq E1 (tgt := 125) dX0_room_113 (by decide) (fun c_113 => ?_) (fun c_113 => ?_)
      · have h := h.1 c_113
        refine ag_sub (lv' := [(0, .ref o), (2, .int x2), (4, .int x4), (5, .int x5)]) [0, 1, 2, 3] rfl ?_
        exact tbX0_room_125 E hK49 h
      · have h := h.2 c_113
        refine ag_iload E1 dX0_room_116 2 rfl ?_
        refine ag_iconst E1 dX0_room_118 ki_1 ?_
        refine ag_iload E1 dX0_room_119 3 rfl ?_
        refine ag_ishl E1 dX0_room_121 ?_
        refine ag_ior E1 dX0_room_122 ?_
        refine ag_topi (fun x4_24 e_x4_24 => ?_)
        have h := h x4_24 e_x4_24
        refine ag_istore E1 (lv' := [(4, .int x4_24), (0, .ref o), (2, .int x2), (5, .int x5), (6, .int x6)]) dX0_room_123 (Nat.lt_of_lt_of_le (Nat.le_refl _) (Nat.le_of_ble_eq_true rfl)) rfl ?_
        refine ag_sub (lv' := [(0, .ref o), (2, .int x2), (4, .int x4_24), (5, .int x5)]) [1, 2, 0, 3] rfl ?_
        exact tbX0_room_125 E hK49 h
theorem tlX0_room_49 (E : EX p R s m args meth c cX0_room 8 RX0 (some .int) D cs b H0 (XKd b H0 ad vs) [] 203 8084 z u) {Q : Int32 → XS → Prop}  : ∀ (n : Nat) (x2 : Int32) (x4 : Int32) (x5 : Int32) (f : XS), wlX0_room_49 b cs ad vs o  Q n x2 x4 x5 f → AX p l e R s m args below meth c D cs b 8 o z u (xI Q) 49 [(0, .ref o), (2, .int x2), (4, .int x4), (5, .int x5)] [] f := by
  intro n
  induction n with
  | zero => intro _ _ _ _ h; exact h.elim
  | succ n ih => intro x2 x4 x5 f h; exact tbX0_room_49 E ih h
theorem kX0_room (l : Launch) (D : va_G) (cs : Nat → ClassId) (b : Nat) (H0 : Heap) (ad : Nat → Nat) (vs : Nat → Option Nat) (o : Nat) (f : XS) (x1 : Int32) (x2 : Int32) (x3 : Int32) (Q : Int32 → XS → Prop) (h : wX0_room b cs ad vs o f x1 x2 x3 Q) : CX l D cs b H0 (XKd b H0 ad vs) o yX0_room cX0_room 8 (some .int) 203 8084 [.ref o, .int x1, .int x2, .int x3] f (xI Q) := by
  refine cx_of (by decide) (Nat.le_of_ble_eq_true rfl) (fun p e R s m below meth c E => ?_)
  have E1 := E.1
  refine ag_sub (lv' := [(0, .ref o), (1, .int x1), (2, .int x2), (3, .int x3)]) [0, 1, 2, 3] rfl ?_
  refine ag_aload_n E1 dX0_room_0 rfl 0 rfl ?_
  refine ag_iload_n E1 dX0_room_1 rfl 1 rfl ?_
  refine ax_callVi E [.int x1] (kX0_isGiving _ _ _ _ _ _ _ _ _ _ _ h) (lw_V q1050 q1052 qs22 q83 q1053) hdX0_isGiving (Nat.le_of_ble_eq_true rfl) (Nat.le_of_ble_eq_true rfl) rfl (Nat.le_of_ble_eq_true rfl) dX0_room_2 rfl (fun r_2 f_1 h => ?_)
  refine ag_if_eq E1 (tgt := 24) dX0_room_5 (by decide) (fun c_5 => ?_) (fun c_5 => ?_)
  · have h := h.1 c_5
    refine ag_bipush E1 dX0_room_24 kb_m5 ?_
    exact ax_iret E rfl ⟨_, rfl, h⟩ dX0_room_26
  · have h := h.2 c_5
    refine ag_aload_n E1 dX0_room_8 rfl 0 rfl ?_
    refine ag_iload_n E1 dX0_room_9 rfl 2 rfl ?_
    refine ax_callVi E [.int x2] (kX0_isTown _ _ _ _ _ _ _ _ _ _ _ h) (lw_V q811 q813 qs14 q83 q814) hdX0_isTown (Nat.le_of_ble_eq_true rfl) (Nat.le_of_ble_eq_true rfl) rfl (Nat.le_of_ble_eq_true rfl) dX0_room_10 rfl (fun r_4 f_3 h => ?_)
    refine ag_if_eq E1 (tgt := 24) dX0_room_13 (by decide) (fun c_13 => ?_) (fun c_13 => ?_)
    · have h := h.1 c_13
      refine ag_bipush E1 dX0_room_24 kb_m5 ?_
      exact ax_iret E rfl ⟨_, rfl, h⟩ dX0_room_26
    · have h := h.2 c_13
      refine ag_aload_n E1 dX0_room_16 rfl 0 rfl ?_
      refine ag_iload_n E1 dX0_room_17 rfl 3 rfl ?_
      refine ax_callVi E [.int x3] (kX0_isWeek _ _ _ _ _ _ _ _ _ _ _ h) (lw_V q841 q843 qs15 q83 q844) hdX0_isWeek (Nat.le_of_ble_eq_true rfl) (Nat.le_of_ble_eq_true rfl) rfl (Nat.le_of_ble_eq_true rfl) dX0_room_18 rfl (fun r_6 f_5 h => ?_)
      refine ag_if_ne E1 (tgt := 27) dX0_room_21 (by decide) (fun c_21 => ?_) (fun c_21 => ?_)
      · have h := h.1 c_21
        refine ag_aload_n E1 dX0_room_27 rfl 0 rfl ?_
        refine ag_aload_n E1 dX0_room_28 rfl 0 rfl ?_
        refine ax_geto E 11 (i := 9) (by decide) rfl (fun _ => rfl) q677 dX0_room_29 ?_
        refine ag_iload_n E1 dX0_room_32 rfl 1 rfl ?_
        obtain ⟨hF_8, h⟩ := h
        obtain ⟨y_9, v_10, y_11, hP_12_z, h⟩ := h
        have hP_12 := (wX_at (cs := cs) hF_8).trans hP_12_z
        refine ag_callV E1 (ci := 16) (C := RJ2) (T0 := TJ2) (n2 := 3) hP_12 rfl (kJ2_get _ _ _ _ _ _ _ _ _ _ _ h) (lw_V q1054 q1055 q1056 q86 q1057) ⟨rfl, hdJ2_get⟩ (Nat.le_of_ble_eq_true rfl) (Nat.le_of_ble_eq_true rfl) (As := [.int x1]) rfl (Nat.le_of_ble_eq_true rfl) dX0_room_33 (fun v_ f_7_w hv => ?_) rfl
        obtain ⟨r_13, rfl, f_7, rfl, h⟩ := hv
        obtain ⟨ci_14, cV_15, hv_16, ho_17, h⟩ := h
        refine ag_castO E1 hv_16 (gOk_ok ho_17) q909 dX0_room_36 ?_
        refine ag_iload_n E1 dX0_room_39 rfl 3 rfl ?_
        refine ax_callVv E [.ref r_13, .int x3] (kX0_looks _ _ _ _ _ _ _ _ _ _ _ _ h) (lw_V q1105 q1107 qs24 q83 q1108) hdX0_looks (Nat.le_of_ble_eq_true rfl) (Nat.le_of_ble_eq_true rfl) rfl (Nat.le_of_ble_eq_true rfl) dX0_room_40 rfl (fun f_18 h => ?_)
        refine ag_iconst E1 dX0_room_43 ki_0 ?_
        refine ag_istore E1 (lv' := [(4, .int (0 : Int32)), (0, .ref o), (1, .int x1), (2, .int x2), (3, .int x3)]) dX0_room_44 (Nat.lt_of_lt_of_le (Nat.le_refl _) (Nat.le_of_ble_eq_true rfl)) rfl ?_
        refine ag_iconst E1 dX0_room_46 ki_0 ?_
        refine ag_istore E1 (lv' := [(5, .int (0 : Int32)), (4, .int (0 : Int32)), (0, .ref o), (1, .int x1), (2, .int x2), (3, .int x3)]) dX0_room_47 (Nat.lt_of_lt_of_le (Nat.le_refl _) (Nat.le_of_ble_eq_true rfl)) rfl ?_
        refine ag_sub (lv' := [(0, .ref o), (2, .int x2), (4, .int (0 : Int32)), (5, .int (0 : Int32))]) [2, 4, 1, 0] rfl ?_
        obtain ⟨n, h⟩ := h
        exact tlX0_room_49 E  n _ _ _ _ h
      · have h := h.2 c_21
        refine ag_bipush E1 dX0_room_24 kb_m5 ?_
        exact ax_iret E rfl ⟨_, rfl, h⟩ dX0_room_26
theorem hdX0_room : yX0_room.cls = RX0 ∧ yX0_room.cls ≠ "java/lang/invoke/MethodHandle" ∧ yX0_room.cls ≠ "java/lang/invoke/VarHandle" ∧ (parseMethodDescriptor yX0_room.desc).map (fun d => d.parameters.length) = some 3 := by decide +kernel
theorem tbX0_hurt_83 (E : EX p R s m args meth c cX0_hurt 10 RX0 (some .long) D cs b H0 (XKd b H0 ad vs) [] 203 8090 z u) {Q : Int64 → XS → Prop} {K54 : Int32 → Nat → Int64 → Int32 → XS → Prop} (hK54 : ∀ (x2 : Int32) (x4 : Nat) (x5 : Int64) (x7 : Int32) (f : XS), K54 x2 x4 x5 x7 f → AX p l e R s m args below meth c D cs b 10 o z u (xJ Q) 54 [(0, .ref o), (2, .int x2), (4, .ref x4), (5, .long x5), (7, .int x7)] [] f) {K89 : Int32 → Nat → Int64 → XS → Prop} (hK89 : ∀ (x2 : Int32) (x4 : Nat) (x5 : Int64) (f : XS), K89 x2 x4 x5 f → AX p l e R s m args below meth c D cs b 10 o z u (xJ Q) 89 [(0, .ref o), (2, .int x2), (4, .ref x4), (5, .long x5)] [] f) {x2 : Int32} {x4 : Nat} {x5 : Int64} {x7 : Int32} {f : XS} (h : wbX0_hurt_83 b cs ad vs o K54 K89 Q x2 x4 x5 x7 f) : AX p l e R s m args below meth c D cs b 10 o z u (xJ Q) 83 [(0, .ref o), (2, .int x2), (4, .ref x4), (5, .long x5), (7, .int x7)] [] f := by
  have E1 := E.1
  refine ag_iincN E1 (lv' := fun x7_19 => [(7, .int x7_19), (0, .ref o), (2, .int x2), (4, .ref x4), (5, .long x5)]) dX0_hurt_83 4 rfl ki_1 (Nat.lt_of_lt_of_le (Nat.le_refl _) (Nat.le_of_ble_eq_true rfl)) (fun _ => rfl) (fun x7_19 e_x7_19 => ?_)
  have h := h x7_19 e_x7_19
  refine ag_goto E1 (tgt := 54) dX0_hurt_86 (by decide) ?_
  refine ag_sub (lv' := [(0, .ref o), (2, .int x2), (4, .ref x4), (5, .long x5), (7, .int x7_19)]) [1, 2, 3, 4, 0] rfl ?_
  exact hK54 _ _ _ _ _ h
theorem tbX0_hurt_54 (E : EX p R s m args meth c cX0_hurt 10 RX0 (some .long) D cs b H0 (XKd b H0 ad vs) [] 203 8090 z u) {Q : Int64 → XS → Prop} {K54 : Int32 → Nat → Int64 → Int32 → XS → Prop} (hK54 : ∀ (x2 : Int32) (x4 : Nat) (x5 : Int64) (x7 : Int32) (f : XS), K54 x2 x4 x5 x7 f → AX p l e R s m args below meth c D cs b 10 o z u (xJ Q) 54 [(0, .ref o), (2, .int x2), (4, .ref x4), (5, .long x5), (7, .int x7)] [] f) {K89 : Int32 → Nat → Int64 → XS → Prop} (hK89 : ∀ (x2 : Int32) (x4 : Nat) (x5 : Int64) (f : XS), K89 x2 x4 x5 f → AX p l e R s m args below meth c D cs b 10 o z u (xJ Q) 89 [(0, .ref o), (2, .int x2), (4, .ref x4), (5, .long x5)] [] f) {x2 : Int32} {x4 : Nat} {x5 : Int64} {x7 : Int32} {f : XS} (h : wbX0_hurt_54 b cs ad vs o K54 K89 Q x2 x4 x5 x7 f) : AX p l e R s m args below meth c D cs b 10 o z u (xJ Q) 54 [(0, .ref o), (2, .int x2), (4, .ref x4), (5, .long x5), (7, .int x7)] [] f := by
  have E1 := E.1
  refine ag_iload E1 dX0_hurt_54 4 rfl ?_
  refine ag_aload_n E1 dX0_hurt_56 rfl 0 rfl ?_
  refine ax_geti E 6 (by decide) rfl q672 dX0_hurt_57 ?_
  refine ag_icmp_ge E1 (tgt := 89) dX0_hurt_60 (by decide) (fun c_60 => ?_) (fun c_60 => ?_)
  · have h := h.1 c_60
    refine ag_sub (lv' := [(0, .ref o), (2, .int x2), (4, .ref x4), (5, .long x5)]) [0, 1, 2, 3] rfl ?_
    exact hK89 _ _ _ _ h
  · have h := h.2 c_60
    refine ag_iload E1 dX0_hurt_63 4 rfl ?_
    refine ag_iload_n E1 dX0_hurt_65 rfl 1 rfl ?_
    refine ag_icmp_eq E1 (tgt := 83) dX0_hurt_66 (by decide) (fun c_66 => ?_) (fun c_66 => ?_)
    · have h := h.1 c_66
      exact tbX0_hurt_83 E hK54 hK89 h
    · have h := h.2 c_66
      refine ag_lload E1 dX0_hurt_69 3 rfl ?_
      refine ag_aload_n E1 dX0_hurt_71 rfl 0 rfl ?_
      refine ag_aload E1 dX0_hurt_72 2 rfl ?_
      refine ag_iload E1 dX0_hurt_74 4 rfl ?_
      refine ax_callVi E [.ref x4, .int x7] (kX0_worthAt _ _ _ _ _ _ _ _ _ _ _ _ h) (lw_V q1129 q1131 qs28 q83 q1132) hdX0_worthAt (Nat.le_of_ble_eq_true rfl) (Nat.le_of_ble_eq_true rfl) rfl (Nat.le_of_ble_eq_true rfl) dX0_hurt_76 rfl (fun r_21 f_20 h => ?_)
      refine ag_i2l E1 dX0_hurt_79 ?_
      refine ag_ladd E1 dX0_hurt_80 ?_
      refine ag_topl (fun x5_22 e_x5_22 => ?_)
      have h := h x5_22 e_x5_22
      refine ag_lstore E1 (lv' := [(5, .long x5_22), (0, .ref o), (2, .int x2), (4, .ref x4), (7, .int x7)]) dX0_hurt_81 (Nat.lt_of_lt_of_le (Nat.le_refl _) (Nat.le_of_ble_eq_true rfl)) rfl ?_
      refine ag_sub (lv' := [(0, .ref o), (2, .int x2), (4, .ref x4), (5, .long x5_22), (7, .int x7)]) [1, 2, 3, 0, 4] rfl ?_
      exact tbX0_hurt_83 E hK54 hK89 h
theorem tlX0_hurt_54 (E : EX p R s m args meth c cX0_hurt 10 RX0 (some .long) D cs b H0 (XKd b H0 ad vs) [] 203 8090 z u) {Q : Int64 → XS → Prop} {K89 : Int32 → Nat → Int64 → XS → Prop} (hK89 : ∀ (x2 : Int32) (x4 : Nat) (x5 : Int64) (f : XS), K89 x2 x4 x5 f → AX p l e R s m args below meth c D cs b 10 o z u (xJ Q) 89 [(0, .ref o), (2, .int x2), (4, .ref x4), (5, .long x5)] [] f) : ∀ (n : Nat) (x2 : Int32) (x4 : Nat) (x5 : Int64) (x7 : Int32) (f : XS), wlX0_hurt_54 b cs ad vs o K89 Q n x2 x4 x5 x7 f → AX p l e R s m args below meth c D cs b 10 o z u (xJ Q) 54 [(0, .ref o), (2, .int x2), (4, .ref x4), (5, .long x5), (7, .int x7)] [] f := by
  intro n
  induction n with
  | zero => intro _ _ _ _ _ h; exact h.elim
  | succ n ih => intro x2 x4 x5 x7 f h; exact tbX0_hurt_54 E ih hK89 h
theorem tbX0_hurt_131 (E : EX p R s m args meth c cX0_hurt 10 RX0 (some .long) D cs b H0 (XKd b H0 ad vs) [] 203 8090 z u) {Q : Int64 → XS → Prop} {K102 : Int32 → Nat → Int64 → Int64 → Int32 → XS → Prop} (hK102 : ∀ (x2 : Int32) (x4 : Nat) (x5 : Int64) (x7 : Int64) (x9 : Int32) (f : XS), K102 x2 x4 x5 x7 x9 f → AX p l e R s m args below meth c D cs b 10 o z u (xJ Q) 102 [(0, .ref o), (2, .int x2), (4, .ref x4), (5, .long x5), (7, .long x7), (9, .int x9)] [] f) {x2 : Int32} {x4 : Nat} {x5 : Int64} {x7 : Int64} {x9 : Int32} {f : XS} (h : wbX0_hurt_131 b cs ad vs o K102 Q x2 x4 x5 x7 x9 f) : AX p l e R s m args below meth c D cs b 10 o z u (xJ Q) 131 [(0, .ref o), (2, .int x2), (4, .ref x4), (5, .long x5), (7, .long x7), (9, .int x9)] [] f := by
  have E1 := E.1
  refine ag_iincN E1 (lv' := fun x9_24 => [(9, .int x9_24), (0, .ref o), (2, .int x2), (4, .ref x4), (5, .long x5), (7, .long x7)]) dX0_hurt_131 5 rfl ki_1 (Nat.lt_of_lt_of_le (Nat.le_refl _) (Nat.le_of_ble_eq_true rfl)) (fun _ => rfl) (fun x9_24 e_x9_24 => ?_)
  have h := h x9_24 e_x9_24
  refine ag_goto E1 (tgt := 102) dX0_hurt_134 (by decide) ?_
  refine ag_sub (lv' := [(0, .ref o), (2, .int x2), (4, .ref x4), (5, .long x5), (7, .long x7), (9, .int x9_24)]) [1, 2, 3, 4, 5, 0] rfl ?_
  exact hK102 _ _ _ _ _ _ h
theorem tbX0_hurt_102 (E : EX p R s m args meth c cX0_hurt 10 RX0 (some .long) D cs b H0 (XKd b H0 ad vs) [] 203 8090 z u) {Q : Int64 → XS → Prop} {K102 : Int32 → Nat → Int64 → Int64 → Int32 → XS → Prop} (hK102 : ∀ (x2 : Int32) (x4 : Nat) (x5 : Int64) (x7 : Int64) (x9 : Int32) (f : XS), K102 x2 x4 x5 x7 x9 f → AX p l e R s m args below meth c D cs b 10 o z u (xJ Q) 102 [(0, .ref o), (2, .int x2), (4, .ref x4), (5, .long x5), (7, .long x7), (9, .int x9)] [] f) {x2 : Int32} {x4 : Nat} {x5 : Int64} {x7 : Int64} {x9 : Int32} {f : XS} (h : wbX0_hurt_102 b cs ad vs o K102 Q x2 x4 x5 x7 x9 f) : AX p l e R s m args below meth c D cs b 10 o z u (xJ Q) 102 [(0, .ref o), (2, .int x2), (4, .ref x4), (5, .long x5), (7, .long x7), (9, .int x9)] [] f := by
  have E1 := E.1
  refine ag_iload E1 dX0_hurt_102 5 rfl ?_
  refine ag_aload_n E1 dX0_hurt_104 rfl 0 rfl ?_
  refine ax_geti E 6 (by decide) rfl q672 dX0_hurt_105 ?_
  refine ag_icmp_ge E1 (tgt := 137) dX0_hurt_108 (by decide) (fun c_108 => ?_) (fun c_108 => ?_)
  · have h := h.1 c_108
    refine ag_lload E1 dX0_hurt_137 4 rfl ?_
    refine ag_lload E1 dX0_hurt_139 3 rfl ?_
    refine ag_lsub E1 dX0_hurt_141 ?_
    exact ax_lret E rfl ⟨_, rfl, h⟩ dX0_hurt_142
  · have h := h.2 c_108
    refine ag_iload E1 dX0_hurt_111 5 rfl ?_
    refine ag_iload_n E1 dX0_hurt_113 rfl 1 rfl ?_
    refine ag_icmp_eq E1 (tgt := 131) dX0_hurt_114 (by decide) (fun c_114 => ?_) (fun c_114 => ?_)
    · have h := h.1 c_114
      exact tbX0_hurt_131 E hK102 h
    · have h := h.2 c_114
      refine ag_lload E1 dX0_hurt_117 4 rfl ?_
      refine ag_aload_n E1 dX0_hurt_119 rfl 0 rfl ?_
      refine ag_aload E1 dX0_hurt_120 2 rfl ?_
      refine ag_iload E1 dX0_hurt_122 5 rfl ?_
      refine ax_callVi E [.ref x4, .int x9] (kX0_worthAt _ _ _ _ _ _ _ _ _ _ _ _ h) (lw_V q1129 q1131 qs28 q83 q1132) hdX0_worthAt (Nat.le_of_ble_eq_true rfl) (Nat.le_of_ble_eq_true rfl) rfl (Nat.le_of_ble_eq_true rfl) dX0_hurt_124 rfl (fun r_26 f_25 h => ?_)
      refine ag_i2l E1 dX0_hurt_127 ?_
      refine ag_ladd E1 dX0_hurt_128 ?_
      refine ag_topl (fun x7_27 e_x7_27 => ?_)
      have h := h x7_27 e_x7_27
      refine ag_lstore E1 (lv' := [(7, .long x7_27), (0, .ref o), (2, .int x2), (4, .ref x4), (5, .long x5), (9, .int x9)]) dX0_hurt_129 (Nat.lt_of_lt_of_le (Nat.le_refl _) (Nat.le_of_ble_eq_true rfl)) rfl ?_
      refine ag_sub (lv' := [(0, .ref o), (2, .int x2), (4, .ref x4), (5, .long x5), (7, .long x7_27), (9, .int x9)]) [1, 2, 3, 4, 0, 5] rfl ?_
      exact tbX0_hurt_131 E hK102 h
theorem tlX0_hurt_102 (E : EX p R s m args meth c cX0_hurt 10 RX0 (some .long) D cs b H0 (XKd b H0 ad vs) [] 203 8090 z u) {Q : Int64 → XS → Prop}  : ∀ (n : Nat) (x2 : Int32) (x4 : Nat) (x5 : Int64) (x7 : Int64) (x9 : Int32) (f : XS), wlX0_hurt_102 b cs ad vs o  Q n x2 x4 x5 x7 x9 f → AX p l e R s m args below meth c D cs b 10 o z u (xJ Q) 102 [(0, .ref o), (2, .int x2), (4, .ref x4), (5, .long x5), (7, .long x7), (9, .int x9)] [] f := by
  intro n
  induction n with
  | zero => intro _ _ _ _ _ _ h; exact h.elim
  | succ n ih => intro x2 x4 x5 x7 x9 f h; exact tbX0_hurt_102 E ih h
theorem kX0_hurt (l : Launch) (D : va_G) (cs : Nat → ClassId) (b : Nat) (H0 : Heap) (ad : Nat → Nat) (vs : Nat → Option Nat) (o : Nat) (f : XS) (x1 : Int32) (x2 : Int32) (x3 : Int32) (Q : Int64 → XS → Prop) (h : wX0_hurt b cs ad vs o f x1 x2 x3 Q) : CX l D cs b H0 (XKd b H0 ad vs) o yX0_hurt cX0_hurt 10 (some .long) 203 8090 [.ref o, .int x1, .int x2, .int x3] f (xJ Q) := by
  refine cx_of (by decide) (Nat.le_of_ble_eq_true rfl) (fun p e R s m below meth c E => ?_)
  have E1 := E.1
  refine ag_sub (lv' := [(0, .ref o), (1, .int x1), (2, .int x2), (3, .int x3)]) [0, 1, 2, 3] rfl ?_
  refine ag_aload_n E1 dX0_hurt_0 rfl 0 rfl ?_
  refine ag_iload_n E1 dX0_hurt_1 rfl 1 rfl ?_
  refine ax_callVi E [.int x1] (kX0_isGiving _ _ _ _ _ _ _ _ _ _ _ h) (lw_V q1050 q1052 qs22 q83 q1053) hdX0_isGiving (Nat.le_of_ble_eq_true rfl) (Nat.le_of_ble_eq_true rfl) rfl (Nat.le_of_ble_eq_true rfl) dX0_hurt_2 rfl (fun r_2 f_1 h => ?_)
  refine ag_if_eq E1 (tgt := 24) dX0_hurt_5 (by decide) (fun c_5 => ?_) (fun c_5 => ?_)
  · have h := h.1 c_5
    refine ag_ldc2 E1 q879 dX0_hurt_24 ?_
    exact ax_lret E rfl ⟨_, rfl, h⟩ dX0_hurt_27
  · have h := h.2 c_5
    refine ag_aload_n E1 dX0_hurt_8 rfl 0 rfl ?_
    refine ag_iload_n E1 dX0_hurt_9 rfl 2 rfl ?_
    refine ax_callVi E [.int x2] (kX0_isTown _ _ _ _ _ _ _ _ _ _ _ h) (lw_V q811 q813 qs14 q83 q814) hdX0_isTown (Nat.le_of_ble_eq_true rfl) (Nat.le_of_ble_eq_true rfl) rfl (Nat.le_of_ble_eq_true rfl) dX0_hurt_10 rfl (fun r_4 f_3 h => ?_)
    refine ag_if_eq E1 (tgt := 24) dX0_hurt_13 (by decide) (fun c_13 => ?_) (fun c_13 => ?_)
    · have h := h.1 c_13
      refine ag_ldc2 E1 q879 dX0_hurt_24 ?_
      exact ax_lret E rfl ⟨_, rfl, h⟩ dX0_hurt_27
    · have h := h.2 c_13
      refine ag_aload_n E1 dX0_hurt_16 rfl 0 rfl ?_
      refine ag_iload_n E1 dX0_hurt_17 rfl 3 rfl ?_
      refine ax_callVi E [.int x3] (kX0_isWeek _ _ _ _ _ _ _ _ _ _ _ h) (lw_V q841 q843 qs15 q83 q844) hdX0_isWeek (Nat.le_of_ble_eq_true rfl) (Nat.le_of_ble_eq_true rfl) rfl (Nat.le_of_ble_eq_true rfl) dX0_hurt_18 rfl (fun r_6 f_5 h => ?_)
      refine ag_if_ne E1 (tgt := 28) dX0_hurt_21 (by decide) (fun c_21 => ?_) (fun c_21 => ?_)
      · have h := h.1 c_21
        refine ag_aload_n E1 dX0_hurt_28 rfl 0 rfl ?_
        refine ax_geto E 11 (i := 9) (by decide) rfl (fun _ => rfl) q677 dX0_hurt_29 ?_
        refine ag_iload_n E1 dX0_hurt_32 rfl 1 rfl ?_
        obtain ⟨hF_8, h⟩ := h
        obtain ⟨y_9, v_10, y_11, hP_12_z, h⟩ := h
        have hP_12 := (wX_at (cs := cs) hF_8).trans hP_12_z
        refine ag_callV E1 (ci := 16) (C := RJ2) (T0 := TJ2) (n2 := 3) hP_12 rfl (kJ2_get _ _ _ _ _ _ _ _ _ _ _ h) (lw_V q1054 q1055 q1056 q86 q1057) ⟨rfl, hdJ2_get⟩ (Nat.le_of_ble_eq_true rfl) (Nat.le_of_ble_eq_true rfl) (As := [.int x1]) rfl (Nat.le_of_ble_eq_true rfl) dX0_hurt_33 (fun v_ f_7_w hv => ?_) rfl
        obtain ⟨r_13, rfl, f_7, rfl, h⟩ := hv
        obtain ⟨ci_14, cV_15, hv_16, ho_17, h⟩ := h
        refine ag_castO E1 hv_16 (gOk_ok ho_17) q909 dX0_hurt_36 ?_
        refine ag_astore E1 (lv' := [(4, .ref r_13), (0, .ref o), (1, .int x1), (2, .int x2), (3, .int x3)]) dX0_hurt_39 (Nat.lt_of_lt_of_le (Nat.le_refl _) (Nat.le_of_ble_eq_true rfl)) rfl ?_
        refine ag_aload_n E1 dX0_hurt_41 rfl 1 rfl ?_
        refine ag_aload E1 dX0_hurt_42 0 rfl ?_
        refine ag_iload_n E1 dX0_hurt_44 rfl 4 rfl ?_
        refine ax_callVv E [.ref r_13, .int x3] (kX0_looks _ _ _ _ _ _ _ _ _ _ _ _ h) (lw_V q1105 q1107 qs24 q83 q1108) hdX0_looks (Nat.le_of_ble_eq_true rfl) (Nat.le_of_ble_eq_true rfl) rfl (Nat.le_of_ble_eq_true rfl) dX0_hurt_45 rfl (fun f_18 h => ?_)
        refine ag_lconst E1 (v := 0) dX0_hurt_48 rfl ?_
        refine ag_lstore E1 (lv' := [(5, .long (0 : Int64)), (4, .ref r_13), (0, .ref o), (1, .int x1), (2, .int x2), (3, .int x3)]) dX0_hurt_49 (Nat.lt_of_lt_of_le (Nat.le_refl _) (Nat.le_of_ble_eq_true rfl)) rfl ?_
        refine ag_iconst E1 dX0_hurt_51 ki_0 ?_
        refine ag_istore E1 (lv' := [(7, .int (0 : Int32)), (5, .long (0 : Int64)), (4, .ref r_13), (0, .ref o), (1, .int x1), (2, .int x2), (3, .int x3)]) dX0_hurt_52 (Nat.lt_of_lt_of_le (Nat.le_refl _) (Nat.le_of_ble_eq_true rfl)) rfl ?_
        refine ag_sub (lv' := [(0, .ref o), (2, .int x2), (4, .ref r_13), (5, .long (0 : Int64)), (7, .int (0 : Int32))]) [3, 5, 2, 1, 0] rfl ?_
        obtain ⟨n, h⟩ := h
        refine tlX0_hurt_54 E ?_ n _ _ _ _ _ h
        · intro x2 x4 x5 f h
          refine ag_aload_n E1 dX0_hurt_89 rfl 0 rfl ?_
          refine ax_geta E 14 (i := 11) (by decide) rfl rfl q680 dX0_hurt_90 ?_
          refine ag_iload_n E1 dX0_hurt_93 rfl 1 rfl ?_
          refine ag_iconst E1 dX0_hurt_94 ki_0 ?_
          obtain ⟨hin, h⟩ := h
          refine ax_iast E 14 rfl rfl rfl (by decide) hin dX0_hurt_95 (fun f_23 e_f_23 => ?_)
          have h := h f_23 e_f_23
          refine ag_lconst E1 (v := 0) dX0_hurt_96 rfl ?_
          refine ag_lstore E1 (lv' := [(7, .long (0 : Int64)), (0, .ref o), (2, .int x2), (4, .ref x4), (5, .long x5)]) dX0_hurt_97 (Nat.lt_of_lt_of_le (Nat.le_refl _) (Nat.le_of_ble_eq_true rfl)) rfl ?_
          refine ag_iconst E1 dX0_hurt_99 ki_0 ?_
          refine ag_istore E1 (lv' := [(9, .int (0 : Int32)), (7, .long (0 : Int64)), (0, .ref o), (2, .int x2), (4, .ref x4), (5, .long x5)]) dX0_hurt_100 (Nat.lt_of_lt_of_le (Nat.le_refl _) (Nat.le_of_ble_eq_true rfl)) rfl ?_
          refine ag_sub (lv' := [(0, .ref o), (2, .int x2), (4, .ref x4), (5, .long x5), (7, .long (0 : Int64)), (9, .int (0 : Int32))]) [2, 3, 4, 5, 1, 0] rfl ?_
          obtain ⟨n, h⟩ := h
          exact tlX0_hurt_102 E  n _ _ _ _ _ _ h
      · have h := h.2 c_21
        refine ag_ldc2 E1 q879 dX0_hurt_24 ?_
        exact ax_lret E rfl ⟨_, rfl, h⟩ dX0_hurt_27
theorem hdX0_hurt : yX0_hurt.cls = RX0 ∧ yX0_hurt.cls ≠ "java/lang/invoke/MethodHandle" ∧ yX0_hurt.cls ≠ "java/lang/invoke/VarHandle" ∧ (parseMethodDescriptor yX0_hurt.desc).map (fun d => d.parameters.length) = some 3 := by decide +kernel
theorem kX0_isRound (l : Launch) (D : va_G) (cs : Nat → ClassId) (b : Nat) (H0 : Heap) (ad : Nat → Nat) (vs : Nat → Option Nat) (o : Nat) (f : XS) (x1 : Int32) (x2 : Int32) (x3 : Int32) (x4 : Int32) (x5 : Int32) (Q : Int32 → XS → Prop) (h : wX0_isRound b cs ad vs o f x1 x2 x3 x4 x5 Q) : CX l D cs b H0 (XKd b H0 ad vs) o yX0_isRound cX0_isRound 6 (some .boolean) 2 46 [.ref o, .int x1, .int x2, .int x3, .int x4, .int x5] f (xI Q) := by
  refine cx_of (by decide) (Nat.le_of_ble_eq_true rfl) (fun p e R s m below meth c E => ?_)
  have E1 := E.1
  refine ag_sub (lv' := [(0, .ref o), (1, .int x1), (2, .int x2), (3, .int x3), (4, .int x4), (5, .int x5)]) [0, 1, 2, 3, 4, 5] rfl ?_
  refine ag_aload_n E1 dX0_isRound_0 rfl 0 rfl ?_
  refine ag_iload_n E1 dX0_isRound_1 rfl 1 rfl ?_
  refine ax_callVi E [.int x1] (kX0_isGiving _ _ _ _ _ _ _ _ _ _ _ h) (lw_V q1050 q1052 qs22 q83 q1053) hdX0_isGiving (Nat.le_of_ble_eq_true rfl) (Nat.le_of_ble_eq_true rfl) rfl (Nat.le_of_ble_eq_true rfl) dX0_isRound_2 rfl (fun r_2 f_1 h => ?_)
  refine ag_if_eq E1 (tgt := 54) dX0_isRound_5 (by decide) (fun c_5 => ?_) (fun c_5 => ?_)
  · have h := h.1 c_5
    refine ag_iconst E1 dX0_isRound_54 ki_0 ?_
    exact ax_zret E rfl (Or.inl rfl) ⟨_, rfl, h⟩ dX0_isRound_55
  · have h := h.2 c_5
    refine ag_aload_n E1 dX0_isRound_8 rfl 0 rfl ?_
    refine ag_iload_n E1 dX0_isRound_9 rfl 2 rfl ?_
    refine ax_callVi E [.int x2] (kX0_isWeek _ _ _ _ _ _ _ _ _ _ _ h) (lw_V q841 q843 qs15 q83 q844) hdX0_isWeek (Nat.le_of_ble_eq_true rfl) (Nat.le_of_ble_eq_true rfl) rfl (Nat.le_of_ble_eq_true rfl) dX0_isRound_10 rfl (fun r_4 f_3 h => ?_)
    refine ag_if_eq E1 (tgt := 54) dX0_isRound_13 (by decide) (fun c_13 => ?_) (fun c_13 => ?_)
    · have h := h.1 c_13
      refine ag_iconst E1 dX0_isRound_54 ki_0 ?_
      exact ax_zret E rfl (Or.inl rfl) ⟨_, rfl, h⟩ dX0_isRound_55
    · have h := h.2 c_13
      refine ag_aload_n E1 dX0_isRound_16 rfl 0 rfl ?_
      refine ag_iload_n E1 dX0_isRound_17 rfl 3 rfl ?_
      refine ax_callVi E [.int x3] (kX0_isTown _ _ _ _ _ _ _ _ _ _ _ h) (lw_V q811 q813 qs14 q83 q814) hdX0_isTown (Nat.le_of_ble_eq_true rfl) (Nat.le_of_ble_eq_true rfl) rfl (Nat.le_of_ble_eq_true rfl) dX0_isRound_18 rfl (fun r_6 f_5 h => ?_)
      refine ag_if_eq E1 (tgt := 54) dX0_isRound_21 (by decide) (fun c_21 => ?_) (fun c_21 => ?_)
      · have h := h.1 c_21
        refine ag_iconst E1 dX0_isRound_54 ki_0 ?_
        exact ax_zret E rfl (Or.inl rfl) ⟨_, rfl, h⟩ dX0_isRound_55
      · have h := h.2 c_21
        refine ag_iload E1 dX0_isRound_24 4 rfl ?_
        refine ag_i2l E1 dX0_isRound_26 ?_
        refine ag_lconst E1 (v := 0) dX0_isRound_27 rfl ?_
        refine ag_ldc2 E1 q815 dX0_isRound_28 ?_
        refine ag_callPi E1 (As := [.long (Int32.toInt64 x4), .long (0 : Int64), .long (50 : Int64)]) (kX0_in _ _ _ _ _ _ _ _ _ _ _ _ h) (lw_S q801 q280 q83 q281) hdX0_in (Nat.le_of_ble_eq_true rfl) (Nat.le_of_ble_eq_true rfl) rfl (Nat.le_of_ble_eq_true rfl) dX0_isRound_31 rfl (fun r_7 h => ?_)
        refine ag_if_eq E1 (tgt := 54) dX0_isRound_34 (by decide) (fun c_34 => ?_) (fun c_34 => ?_)
        · have h := h.1 c_34
          refine ag_iconst E1 dX0_isRound_54 ki_0 ?_
          exact ax_zret E rfl (Or.inl rfl) ⟨_, rfl, h⟩ dX0_isRound_55
        · have h := h.2 c_34
          refine ag_iload E1 dX0_isRound_37 5 rfl ?_
          refine ag_i2l E1 dX0_isRound_39 ?_
          refine ag_lconst E1 (v := 0) dX0_isRound_40 rfl ?_
          refine ag_ldc2 E1 q1246 dX0_isRound_41 ?_
          refine ag_callPi E1 (As := [.long (Int32.toInt64 x5), .long (0 : Int64), .long (40 : Int64)]) (kX0_in _ _ _ _ _ _ _ _ _ _ _ _ h) (lw_S q801 q280 q83 q281) hdX0_in (Nat.le_of_ble_eq_true rfl) (Nat.le_of_ble_eq_true rfl) rfl (Nat.le_of_ble_eq_true rfl) dX0_isRound_44 rfl (fun r_8 h => ?_)
          refine ag_if_eq E1 (tgt := 54) dX0_isRound_47 (by decide) (fun c_47 => ?_) (fun c_47 => ?_)
          · have h := h.1 c_47
            refine ag_iconst E1 dX0_isRound_54 ki_0 ?_
            exact ax_zret E rfl (Or.inl rfl) ⟨_, rfl, h⟩ dX0_isRound_55
          · have h := h.2 c_47
            refine ag_iconst E1 dX0_isRound_50 ki_1 ?_
            refine ag_goto E1 (tgt := 55) dX0_isRound_51 (by decide) ?_
            exact ax_zret E rfl (Or.inr rfl) ⟨_, rfl, h⟩ dX0_isRound_55
theorem hdX0_isRound : yX0_isRound.cls = RX0 ∧ yX0_isRound.cls ≠ "java/lang/invoke/MethodHandle" ∧ yX0_isRound.cls ≠ "java/lang/invoke/VarHandle" ∧ (parseMethodDescriptor yX0_isRound.desc).map (fun d => d.parameters.length) = some 5 := by decide +kernel
theorem kX0_sells (l : Launch) (D : va_G) (cs : Nat → ClassId) (b : Nat) (H0 : Heap) (ad : Nat → Nat) (vs : Nat → Option Nat) (o : Nat) (f : XS) (x1 : Int32) (x2 : Int32) (x3 : Int32) (Q : Int32 → XS → Prop) (h : wX0_sells b cs ad vs o f x1 x2 x3 Q) : CX l D cs b H0 (XKd b H0 ad vs) o yX0_sells cX0_sells 4 (some .int) 1 21 [.ref o, .int x1, .int x2, .int x3] f (xI Q) := by
  refine cx_of (by decide) (Nat.le_of_ble_eq_true rfl) (fun p e R s m below meth c E => ?_)
  have E1 := E.1
  refine ag_sub (lv' := [(0, .ref o), (1, .int x1), (2, .int x2), (3, .int x3)]) [0, 1, 2, 3] rfl ?_
  refine ag_aload_n E1 dX0_sells_0 rfl 0 rfl ?_
  refine ax_geta E 14 (i := 11) (by decide) rfl rfl q680 dX0_sells_1 ?_
  refine ag_iload_n E1 dX0_sells_4 rfl 1 rfl ?_
  obtain ⟨hin, h⟩ := h
  refine ax_iald E 14 rfl rfl rfl (by decide) hin dX0_sells_5 ?_
  refine ag_iload_n E1 dX0_sells_6 rfl 2 rfl ?_
  refine ag_ishr E1 dX0_sells_7 ?_
  refine ag_iconst E1 dX0_sells_8 ki_1 ?_
  refine ag_iand E1 dX0_sells_9 ?_
  refine ag_iconst E1 dX0_sells_10 ki_1 ?_
  refine ag_icmp_ne E1 (tgt := 27) dX0_sells_11 (by decide) (fun c_11 => ?_) (fun c_11 => ?_)
  · have h := h.1 c_11
    refine ag_iconst E1 dX0_sells_27 ki_0 ?_
    exact ax_iret E rfl ⟨_, rfl, h⟩ dX0_sells_28
  · have h := h.2 c_11
    refine ag_aload_n E1 dX0_sells_14 rfl 0 rfl ?_
    refine ax_geta E 0 (i := 1) (by decide) rfl rfl q666 dX0_sells_15 ?_
    refine ag_iload_n E1 dX0_sells_18 rfl 1 rfl ?_
    obtain ⟨hin, h⟩ := h
    refine ax_iald E 0 rfl rfl rfl (by decide) hin dX0_sells_19 ?_
    refine ag_iload_n E1 dX0_sells_20 rfl 3 rfl ?_
    refine ag_mmin E1 q806 q356 q96 q357 (Nat.le_of_ble_eq_true rfl) (Nat.le_of_ble_eq_true rfl) (Nat.le_of_ble_eq_true rfl) dX0_sells_21 ?_
    refine ag_goto E1 (tgt := 28) dX0_sells_24 (by decide) ?_
    exact ax_iret E rfl ⟨_, rfl, h⟩ dX0_sells_28
theorem hdX0_sells : yX0_sells.cls = RX0 ∧ yX0_sells.cls ≠ "java/lang/invoke/MethodHandle" ∧ yX0_sells.cls ≠ "java/lang/invoke/VarHandle" ∧ (parseMethodDescriptor yX0_sells.desc).map (fun d => d.parameters.length) = some 3 := by decide +kernel
theorem kX0_most (l : Launch) (D : va_G) (cs : Nat → ClassId) (b : Nat) (H0 : Heap) (ad : Nat → Nat) (vs : Nat → Option Nat) (o : Nat) (f : XS) (x1 : Int32) (x2 : Int32) (x3 : Int32) (Q : Int32 → XS → Prop) (h : wX0_most b cs ad vs o f x1 x2 x3 Q) : CX l D cs b H0 (XKd b H0 ad vs) o yX0_most cX0_most 4 (some .int) 0 0 [.ref o, .int x1, .int x2, .int x3] f (xI Q) := by
  refine cx_of (by decide) (Nat.le_of_ble_eq_true rfl) (fun p e R s m below meth c E => ?_)
  have E1 := E.1
  refine ag_sub (lv' := [(0, .ref o), (1, .int x1), (2, .int x2), (3, .int x3)]) [0, 1, 2, 3] rfl ?_
  refine ag_aload_n E1 dX0_most_0 rfl 0 rfl ?_
  refine ax_geta E 27 (i := 16) (by decide) rfl rfl q693 dX0_most_1 ?_
  refine ag_iload_n E1 dX0_most_4 rfl 1 rfl ?_
  refine ag_bipush E1 dX0_most_5 kb_6 ?_
  refine ag_imul E1 dX0_most_7 ?_
  refine ag_iload_n E1 dX0_most_8 rfl 2 rfl ?_
  refine ag_iadd E1 dX0_most_9 ?_
  refine ag_bipush E1 dX0_most_10 kb_41 ?_
  refine ag_imul E1 dX0_most_12 ?_
  refine ag_iload_n E1 dX0_most_13 rfl 3 rfl ?_
  refine ag_iadd E1 dX0_most_14 ?_
  obtain ⟨hin, h⟩ := h
  refine ax_iald E 27 rfl rfl rfl (by decide) hin dX0_most_15 ?_
  exact ax_iret E rfl ⟨_, rfl, h⟩ dX0_most_16
theorem hdX0_most : yX0_most.cls = RX0 ∧ yX0_most.cls ≠ "java/lang/invoke/MethodHandle" ∧ yX0_most.cls ≠ "java/lang/invoke/VarHandle" ∧ (parseMethodDescriptor yX0_most.desc).map (fun d => d.parameters.length) = some 3 := by decide +kernel
theorem tbX0_best_83 (E : EX p R s m args meth c cX0_best 9 RX0 (some .int) D cs b H0 (XKd b H0 ad vs) [] 2 44 z u) {Q : Int32 → XS → Prop} {K6 : Int32 → Int32 → Int32 → Int32 → Int32 → Int32 → XS → Prop} (hK6 : ∀ (x1 : Int32) (x2 : Int32) (x3 : Int32) (x4 : Int32) (x5 : Int32) (x6 : Int32) (f : XS), K6 x1 x2 x3 x4 x5 x6 f → AX p l e R s m args below meth c D cs b 9 o z u (xI Q) 6 [(0, .ref o), (1, .int x1), (2, .int x2), (3, .int x3), (4, .int x4), (5, .int x5), (6, .int x6)] [] f) {x1 : Int32} {x2 : Int32} {x3 : Int32} {x4 : Int32} {x5 : Int32} {x6 : Int32} {f : XS} (h : wbX0_best_83 b cs ad vs o K6 Q x1 x2 x3 x4 x5 x6 f) : AX p l e R s m args below meth c D cs b 9 o z u (xI Q) 83 [(0, .ref o), (1, .int x1), (2, .int x2), (3, .int x3), (4, .int x4), (5, .int x5), (6, .int x6)] [] f := by
  have E1 := E.1
  refine ag_iincN E1 (lv' := fun x6_5 => [(6, .int x6_5), (0, .ref o), (1, .int x1), (2, .int x2), (3, .int x3), (4, .int x4), (5, .int x5)]) dX0_best_83 6 rfl ki_1 (Nat.lt_of_lt_of_le (Nat.le_refl _) (Nat.le_of_ble_eq_true rfl)) (fun _ => rfl) (fun x6_5 e_x6_5 => ?_)
  have h := h x6_5 e_x6_5
  refine ag_goto E1 (tgt := 6) dX0_best_86 (by decide) ?_
  refine ag_sub (lv' := [(0, .ref o), (1, .int x1), (2, .int x2), (3, .int x3), (4, .int x4), (5, .int x5), (6, .int x6_5)]) [1, 2, 3, 4, 5, 6, 0] rfl ?_
  exact hK6 _ _ _ _ _ _ _ h
theorem tbX0_best_6 (E : EX p R s m args meth c cX0_best 9 RX0 (some .int) D cs b H0 (XKd b H0 ad vs) [] 2 44 z u) {Q : Int32 → XS → Prop} {K6 : Int32 → Int32 → Int32 → Int32 → Int32 → Int32 → XS → Prop} (hK6 : ∀ (x1 : Int32) (x2 : Int32) (x3 : Int32) (x4 : Int32) (x5 : Int32) (x6 : Int32) (f : XS), K6 x1 x2 x3 x4 x5 x6 f → AX p l e R s m args below meth c D cs b 9 o z u (xI Q) 6 [(0, .ref o), (1, .int x1), (2, .int x2), (3, .int x3), (4, .int x4), (5, .int x5), (6, .int x6)] [] f) {x1 : Int32} {x2 : Int32} {x3 : Int32} {x4 : Int32} {x5 : Int32} {x6 : Int32} {f : XS} (h : wbX0_best_6 b cs ad vs o K6 Q x1 x2 x3 x4 x5 x6 f) : AX p l e R s m args below meth c D cs b 9 o z u (xI Q) 6 [(0, .ref o), (1, .int x1), (2, .int x2), (3, .int x3), (4, .int x4), (5, .int x5), (6, .int x6)] [] f := by
  have E1 := E.1
  refine ag_iload E1 dX0_best_6 6 rfl ?_
  refine ag_aload_n E1 dX0_best_8 rfl 0 rfl ?_
  refine ax_geti E 6 (by decide) rfl q672 dX0_best_9 ?_
  refine ag_icmp_ge E1 (tgt := 89) dX0_best_12 (by decide) (fun c_12 => ?_) (fun c_12 => ?_)
  · have h := h.1 c_12
    refine ag_iload E1 dX0_best_89 5 rfl ?_
    exact ax_iret E rfl ⟨_, rfl, h⟩ dX0_best_91
  · have h := h.2 c_12
    refine ag_aload_n E1 dX0_best_15 rfl 0 rfl ?_
    refine ax_geta E 5 (i := 6) (by decide) rfl rfl q671 dX0_best_16 ?_
    refine ag_bipush E1 dX0_best_19 kb_6 ?_
    refine ag_iload_n E1 dX0_best_21 rfl 2 rfl ?_
    refine ag_imul E1 dX0_best_22 ?_
    refine ag_iload E1 dX0_best_23 6 rfl ?_
    refine ag_iadd E1 dX0_best_25 ?_
    obtain ⟨hin, h⟩ := h
    refine ax_iald E 5 rfl rfl rfl (by decide) hin dX0_best_26 ?_
    refine ag_iload E1 dX0_best_27 4 rfl ?_
    refine ag_icmp_le E1 (tgt := 35) dX0_best_29 (by decide) (fun c_29 => ?_) (fun c_29 => ?_)
    · have h := h.1 c_29
      refine ag_aload_n E1 dX0_best_35 rfl 0 rfl ?_
      refine ag_iload E1 dX0_best_36 6 rfl ?_
      refine ag_iload_n E1 dX0_best_38 rfl 1 rfl ?_
      refine ag_iload_n E1 dX0_best_39 rfl 3 rfl ?_
      refine ax_callVi E [.int x6, .int x1, .int x3] (kX0_sells _ _ _ _ _ _ _ _ _ _ _ _ _ h) (lw_V q1255 q1257 qs42 q83 q1258) hdX0_sells (Nat.le_of_ble_eq_true rfl) (Nat.le_of_ble_eq_true rfl) rfl (Nat.le_of_ble_eq_true rfl) dX0_best_40 rfl (fun r_2 f_1 h => ?_)
      refine ag_istore E1 (lv' := [(7, .int r_2), (0, .ref o), (1, .int x1), (2, .int x2), (3, .int x3), (4, .int x4), (5, .int x5), (6, .int x6)]) dX0_best_43 (Nat.lt_of_lt_of_le (Nat.le_refl _) (Nat.le_of_ble_eq_true rfl)) rfl ?_
      refine ag_aload_n E1 dX0_best_45 rfl 1 rfl ?_
      refine ag_iload_n E1 dX0_best_46 rfl 2 rfl ?_
      refine ag_iconst E1 dX0_best_47 ki_1 ?_
      refine ag_iadd E1 dX0_best_48 ?_
      refine ag_iload E1 dX0_best_49 7 rfl ?_
      refine ag_iload_n E1 dX0_best_51 rfl 4 rfl ?_
      refine ag_iload E1 dX0_best_52 0 rfl ?_
      refine ag_isub E1 dX0_best_54 ?_
      refine ax_callVi E [.int (x1 + (1 : Int32)), .int x6, .int (x3 - r_2)] (kX0_most _ _ _ _ _ _ _ _ _ _ _ _ _ h) (lw_V q1259 q1261 qs43 q83 q1262) hdX0_most (Nat.le_of_ble_eq_true rfl) (Nat.le_of_ble_eq_true rfl) rfl (Nat.le_of_ble_eq_true rfl) dX0_best_55 rfl (fun r_4 f_3 h => ?_)
      refine ag_istore E1 (lv' := [(8, .int r_4), (7, .int r_2), (0, .ref o), (1, .int x1), (2, .int x2), (3, .int x3), (4, .int x4), (5, .int x5), (6, .int x6)]) dX0_best_58 (Nat.lt_of_lt_of_le (Nat.le_refl _) (Nat.le_of_ble_eq_true rfl)) rfl ?_
      refine ag_iload E1 dX0_best_60 0 rfl ?_
      refine ag_iconst E1 dX0_best_62 ki_m1 ?_
      refine ag_icmp_eq E1 (tgt := 83) dX0_best_63 (by decide) (fun c_63 => ?_) (fun c_63 => ?_)
      · have h := h.1 c_63
        refine ag_sub (lv' := [(0, .ref o), (1, .int x1), (2, .int x2), (3, .int x3), (4, .int x4), (5, .int x5), (6, .int x6)]) [2, 3, 4, 5, 6, 7, 8] rfl ?_
        exact tbX0_best_83 E hK6 h
      · have h := h.2 c_63
        refine ag_iload E1 dX0_best_66 1 rfl ?_
        refine ag_iload E1 dX0_best_68 0 rfl ?_
        refine ag_iadd E1 dX0_best_70 ?_
        refine ag_iload E1 dX0_best_71 7 rfl ?_
        refine ag_icmp_le E1 (tgt := 83) dX0_best_73 (by decide) (fun c_73 => ?_) (fun c_73 => ?_)
        · have h := h.1 c_73
          refine ag_sub (lv' := [(0, .ref o), (1, .int x1), (2, .int x2), (3, .int x3), (4, .int x4), (5, .int x5), (6, .int x6)]) [2, 3, 4, 5, 6, 7, 8] rfl ?_
          exact tbX0_best_83 E hK6 h
        · have h := h.2 c_73
          refine ag_iload E1 dX0_best_76 1 rfl ?_
          refine ag_iload E1 dX0_best_78 0 rfl ?_
          refine ag_iadd E1 dX0_best_80 ?_
          refine ag_topi (fun x5_6 e_x5_6 => ?_)
          have h := h x5_6 e_x5_6
          refine ag_istore E1 (lv' := [(5, .int x5_6), (8, .int r_4), (7, .int r_2), (0, .ref o), (1, .int x1), (2, .int x2), (3, .int x3), (4, .int x4), (6, .int x6)]) dX0_best_81 (Nat.lt_of_lt_of_le (Nat.le_refl _) (Nat.le_of_ble_eq_true rfl)) rfl ?_
          refine ag_sub (lv' := [(0, .ref o), (1, .int x1), (2, .int x2), (3, .int x3), (4, .int x4), (5, .int x5_6), (6, .int x6)]) [3, 4, 5, 6, 7, 0, 8] rfl ?_
          exact tbX0_best_83 E hK6 h
    · have h := h.2 c_29
      refine ag_goto E1 (tgt := 83) dX0_best_32 (by decide) ?_
      exact tbX0_best_83 E hK6 h
theorem tlX0_best_6 (E : EX p R s m args meth c cX0_best 9 RX0 (some .int) D cs b H0 (XKd b H0 ad vs) [] 2 44 z u) {Q : Int32 → XS → Prop}  : ∀ (n : Nat) (x1 : Int32) (x2 : Int32) (x3 : Int32) (x4 : Int32) (x5 : Int32) (x6 : Int32) (f : XS), wlX0_best_6 b cs ad vs o  Q n x1 x2 x3 x4 x5 x6 f → AX p l e R s m args below meth c D cs b 9 o z u (xI Q) 6 [(0, .ref o), (1, .int x1), (2, .int x2), (3, .int x3), (4, .int x4), (5, .int x5), (6, .int x6)] [] f := by
  intro n
  induction n with
  | zero => intro _ _ _ _ _ _ _ h; exact h.elim
  | succ n ih => intro x1 x2 x3 x4 x5 x6 f h; exact tbX0_best_6 E ih h
theorem kX0_best (l : Launch) (D : va_G) (cs : Nat → ClassId) (b : Nat) (H0 : Heap) (ad : Nat → Nat) (vs : Nat → Option Nat) (o : Nat) (f : XS) (x1 : Int32) (x2 : Int32) (x3 : Int32) (x4 : Int32) (Q : Int32 → XS → Prop) (h : wX0_best b cs ad vs o f x1 x2 x3 x4 Q) : CX l D cs b H0 (XKd b H0 ad vs) o yX0_best cX0_best 9 (some .int) 2 44 [.ref o, .int x1, .int x2, .int x3, .int x4] f (xI Q) := by
  refine cx_of (by decide) (Nat.le_of_ble_eq_true rfl) (fun p e R s m below meth c E => ?_)
  have E1 := E.1
  refine ag_sub (lv' := [(0, .ref o), (1, .int x1), (2, .int x2), (3, .int x3), (4, .int x4)]) [0, 1, 2, 3, 4] rfl ?_
  refine ag_iconst E1 dX0_best_0 ki_m1 ?_
  refine ag_istore E1 (lv' := [(5, .int (-1 : Int32)), (0, .ref o), (1, .int x1), (2, .int x2), (3, .int x3), (4, .int x4)]) dX0_best_1 (Nat.lt_of_lt_of_le (Nat.le_refl _) (Nat.le_of_ble_eq_true rfl)) rfl ?_
  refine ag_iconst E1 dX0_best_3 ki_0 ?_
  refine ag_istore E1 (lv' := [(6, .int (0 : Int32)), (5, .int (-1 : Int32)), (0, .ref o), (1, .int x1), (2, .int x2), (3, .int x3), (4, .int x4)]) dX0_best_4 (Nat.lt_of_lt_of_le (Nat.le_refl _) (Nat.le_of_ble_eq_true rfl)) rfl ?_
  refine ag_sub (lv' := [(0, .ref o), (1, .int x1), (2, .int x2), (3, .int x3), (4, .int x4), (5, .int (-1 : Int32)), (6, .int (0 : Int32))]) [2, 3, 4, 5, 6, 1, 0] rfl ?_
  obtain ⟨n, h⟩ := h
  exact tlX0_best_6 E  n _ _ _ _ _ _ _ h
theorem hdX0_best : yX0_best.cls = RX0 ∧ yX0_best.cls ≠ "java/lang/invoke/MethodHandle" ∧ yX0_best.cls ≠ "java/lang/invoke/VarHandle" ∧ (parseMethodDescriptor yX0_best.desc).map (fun d => d.parameters.length) = some 4 := by decide +kernel
theorem tbX0_rounds_52 (E : EX p R s m args meth c cX0_rounds 7 RX0 none D cs b H0 (XKd b H0 ad vs) [] 3 72 z u) {Q : XS → Prop} {K15 : Int32 → Int32 → Int32 → Int32 → Int32 → XS → Prop} (hK15 : ∀ (x1 : Int32) (x2 : Int32) (x3 : Int32) (x4 : Int32) (x5 : Int32) (f : XS), K15 x1 x2 x3 x4 x5 f → AX p l e R s m args below meth c D cs b 7 o z u (xV Q) 15 [(0, .ref o), (1, .int x1), (2, .int x2), (3, .int x3), (4, .int x4), (5, .int x5)] [] f) {K59 : Int32 → Int32 → Int32 → Int32 → XS → Prop} (hK59 : ∀ (x1 : Int32) (x2 : Int32) (x3 : Int32) (x4 : Int32) (f : XS), K59 x1 x2 x3 x4 f → AX p l e R s m args below meth c D cs b 7 o z u (xV Q) 59 [(0, .ref o), (1, .int x1), (2, .int x2), (3, .int x3), (4, .int x4)] [] f) {x1 : Int32} {x2 : Int32} {x3 : Int32} {x4 : Int32} {x5 : Int32} {t0 : Int32} {t1 : Int32} {f : XS} (h : wbX0_rounds_52 b cs ad vs o K15 K59 Q x1 x2 x3 x4 x5 t0 t1 f) : AX p l e R s m args below meth c D cs b 7 o z u (xV Q) 52 [(0, .ref o), (1, .int x1), (2, .int x2), (3, .int x3), (4, .int x4), (5, .int x5)] [.int t0, .int t1, .ref (o + 16)] f := by
  have E1 := E.1
  obtain ⟨hin, h⟩ := h
  refine ax_iast E 27 rfl rfl rfl (by decide) hin dX0_rounds_52 (fun f_1 e_f_1 => ?_)
  have h := h f_1 e_f_1
  refine ag_iincN E1 (lv' := fun x5_2 => [(5, .int x5_2), (0, .ref o), (1, .int x1), (2, .int x2), (3, .int x3), (4, .int x4)]) dX0_rounds_53 5 rfl ki_1 (Nat.lt_of_lt_of_le (Nat.le_refl _) (Nat.le_of_ble_eq_true rfl)) (fun _ => rfl) (fun x5_2 e_x5_2 => ?_)
  have h := h x5_2 e_x5_2
  refine ag_goto E1 (tgt := 15) dX0_rounds_56 (by decide) ?_
  refine ag_sub (lv' := [(0, .ref o), (1, .int x1), (2, .int x2), (3, .int x3), (4, .int x4), (5, .int x5_2)]) [1, 2, 3, 4, 5, 0] rfl ?_
  exact hK15 _ _ _ _ _ _ h
theorem tbX0_rounds_15 (E : EX p R s m args meth c cX0_rounds 7 RX0 none D cs b H0 (XKd b H0 ad vs) [] 3 72 z u) {Q : XS → Prop} {K15 : Int32 → Int32 → Int32 → Int32 → Int32 → XS → Prop} (hK15 : ∀ (x1 : Int32) (x2 : Int32) (x3 : Int32) (x4 : Int32) (x5 : Int32) (f : XS), K15 x1 x2 x3 x4 x5 f → AX p l e R s m args below meth c D cs b 7 o z u (xV Q) 15 [(0, .ref o), (1, .int x1), (2, .int x2), (3, .int x3), (4, .int x4), (5, .int x5)] [] f) {K59 : Int32 → Int32 → Int32 → Int32 → XS → Prop} (hK59 : ∀ (x1 : Int32) (x2 : Int32) (x3 : Int32) (x4 : Int32) (f : XS), K59 x1 x2 x3 x4 f → AX p l e R s m args below meth c D cs b 7 o z u (xV Q) 59 [(0, .ref o), (1, .int x1), (2, .int x2), (3, .int x3), (4, .int x4)] [] f) {x1 : Int32} {x2 : Int32} {x3 : Int32} {x4 : Int32} {x5 : Int32} {f : XS} (h : wbX0_rounds_15 b cs ad vs o K15 K59 Q x1 x2 x3 x4 x5 f) : AX p l e R s m args below meth c D cs b 7 o z u (xV Q) 15 [(0, .ref o), (1, .int x1), (2, .int x2), (3, .int x3), (4, .int x4), (5, .int x5)] [] f := by
  have E1 := E.1
  refine ag_iload E1 dX0_rounds_15 5 rfl ?_
  refine ag_iload_n E1 dX0_rounds_17 rfl 3 rfl ?_
  refine ag_icmp_gt E1 (tgt := 59) dX0_rounds_18 (by decide) (fun c_18 => ?_) (fun c_18 => ?_)
  · have h := h.1 c_18
    refine ag_sub (lv' := [(0, .ref o), (1, .int x1), (2, .int x2), (3, .int x3), (4, .int x4)]) [0, 1, 2, 3, 4] rfl ?_
    exact hK59 _ _ _ _ _ h
  · have h := h.2 c_18
    refine ag_aload_n E1 dX0_rounds_21 rfl 0 rfl ?_
    refine ax_geta E 27 (i := 16) (by decide) rfl rfl q693 dX0_rounds_22 ?_
    refine ag_aload_n E1 dX0_rounds_25 rfl 0 rfl ?_
    refine ax_geti E 7 (by decide) rfl q673 dX0_rounds_26 ?_
    refine ag_bipush E1 dX0_rounds_29 kb_6 ?_
    refine ag_imul E1 dX0_rounds_31 ?_
    refine ag_iload E1 dX0_rounds_32 4 rfl ?_
    refine ag_iadd E1 dX0_rounds_34 ?_
    refine ag_bipush E1 dX0_rounds_35 kb_41 ?_
    refine ag_imul E1 dX0_rounds_37 ?_
    refine ag_iload E1 dX0_rounds_38 5 rfl ?_
    refine ag_iadd E1 dX0_rounds_40 ?_
    refine ag_iload E1 dX0_rounds_41 4 rfl ?_
    refine ag_iload_n E1 dX0_rounds_43 rfl 1 rfl ?_
    refine ag_icmp_ne E1 (tgt := 51) dX0_rounds_44 (by decide) (fun c_44 => ?_) (fun c_44 => ?_)
    · have h := h.1 c_44
      refine ag_iconst E1 dX0_rounds_51 ki_m1 ?_
      exact tbX0_rounds_52 E hK15 hK59 h
    · have h := h.2 c_44
      refine ag_iconst E1 dX0_rounds_47 ki_0 ?_
      refine ag_goto E1 (tgt := 52) dX0_rounds_48 (by decide) ?_
      exact tbX0_rounds_52 E hK15 hK59 h
theorem tlX0_rounds_15 (E : EX p R s m args meth c cX0_rounds 7 RX0 none D cs b H0 (XKd b H0 ad vs) [] 3 72 z u) {Q : XS → Prop} {K59 : Int32 → Int32 → Int32 → Int32 → XS → Prop} (hK59 : ∀ (x1 : Int32) (x2 : Int32) (x3 : Int32) (x4 : Int32) (f : XS), K59 x1 x2 x3 x4 f → AX p l e R s m args below meth c D cs b 7 o z u (xV Q) 59 [(0, .ref o), (1, .int x1), (2, .int x2), (3, .int x3), (4, .int x4)] [] f) : ∀ (n : Nat) (x1 : Int32) (x2 : Int32) (x3 : Int32) (x4 : Int32) (x5 : Int32) (f : XS), wlX0_rounds_15 b cs ad vs o K59 Q n x1 x2 x3 x4 x5 f → AX p l e R s m args below meth c D cs b 7 o z u (xV Q) 15 [(0, .ref o), (1, .int x1), (2, .int x2), (3, .int x3), (4, .int x4), (5, .int x5)] [] f := by
  intro n
  induction n with
  | zero => intro _ _ _ _ _ _ h; exact h.elim
  | succ n ih => intro x1 x2 x3 x4 x5 f h; exact tbX0_rounds_15 E ih hK59 h
theorem tbX0_rounds_3 (E : EX p R s m args meth c cX0_rounds 7 RX0 none D cs b H0 (XKd b H0 ad vs) [] 3 72 z u) {Q : XS → Prop} {K3 : Int32 → Int32 → Int32 → Int32 → XS → Prop} (hK3 : ∀ (x1 : Int32) (x2 : Int32) (x3 : Int32) (x4 : Int32) (f : XS), K3 x1 x2 x3 x4 f → AX p l e R s m args below meth c D cs b 7 o z u (xV Q) 3 [(0, .ref o), (1, .int x1), (2, .int x2), (3, .int x3), (4, .int x4)] [] f) {K65 : Int32 → Int32 → XS → Prop} (hK65 : ∀ (x2 : Int32) (x3 : Int32) (f : XS), K65 x2 x3 f → AX p l e R s m args below meth c D cs b 7 o z u (xV Q) 65 [(0, .ref o), (2, .int x2), (3, .int x3)] [] f) {x1 : Int32} {x2 : Int32} {x3 : Int32} {x4 : Int32} {f : XS} (h : wbX0_rounds_3 b cs ad vs o K3 K65 Q x1 x2 x3 x4 f) : AX p l e R s m args below meth c D cs b 7 o z u (xV Q) 3 [(0, .ref o), (1, .int x1), (2, .int x2), (3, .int x3), (4, .int x4)] [] f := by
  have E1 := E.1
  refine ag_iload E1 dX0_rounds_3 4 rfl ?_
  refine ag_aload_n E1 dX0_rounds_5 rfl 0 rfl ?_
  refine ax_geti E 6 (by decide) rfl q672 dX0_rounds_6 ?_
  refine ag_icmp_ge E1 (tgt := 65) dX0_rounds_9 (by decide) (fun c_9 => ?_) (fun c_9 => ?_)
  · have h := h.1 c_9
    refine ag_sub (lv' := [(0, .ref o), (2, .int x2), (3, .int x3)]) [0, 2, 3] rfl ?_
    exact hK65 _ _ _ h
  · have h := h.2 c_9
    refine ag_iconst E1 dX0_rounds_12 ki_0 ?_
    refine ag_istore E1 (lv' := [(5, .int (0 : Int32)), (0, .ref o), (1, .int x1), (2, .int x2), (3, .int x3), (4, .int x4)]) dX0_rounds_13 (Nat.lt_of_lt_of_le (Nat.le_refl _) (Nat.le_of_ble_eq_true rfl)) rfl ?_
    refine ag_sub (lv' := [(0, .ref o), (1, .int x1), (2, .int x2), (3, .int x3), (4, .int x4), (5, .int (0 : Int32))]) [1, 2, 3, 4, 5, 0] rfl ?_
    obtain ⟨n, h⟩ := h
    refine tlX0_rounds_15 E ?_ n _ _ _ _ _ _ h
    · intro x1 x2 x3 x4 f h
      refine ag_iincN E1 (lv' := fun x4_3 => [(4, .int x4_3), (0, .ref o), (1, .int x1), (2, .int x2), (3, .int x3)]) dX0_rounds_59 4 rfl ki_1 (Nat.lt_of_lt_of_le (Nat.le_refl _) (Nat.le_of_ble_eq_true rfl)) (fun _ => rfl) (fun x4_3 e_x4_3 => ?_)
      have h := h x4_3 e_x4_3
      refine ag_goto E1 (tgt := 3) dX0_rounds_62 (by decide) ?_
      refine ag_sub (lv' := [(0, .ref o), (1, .int x1), (2, .int x2), (3, .int x3), (4, .int x4_3)]) [1, 2, 3, 4, 0] rfl ?_
      exact hK3 _ _ _ _ _ h
theorem tlX0_rounds_3 (E : EX p R s m args meth c cX0_rounds 7 RX0 none D cs b H0 (XKd b H0 ad vs) [] 3 72 z u) {Q : XS → Prop} {K65 : Int32 → Int32 → XS → Prop} (hK65 : ∀ (x2 : Int32) (x3 : Int32) (f : XS), K65 x2 x3 f → AX p l e R s m args below meth c D cs b 7 o z u (xV Q) 65 [(0, .ref o), (2, .int x2), (3, .int x3)] [] f) : ∀ (n : Nat) (x1 : Int32) (x2 : Int32) (x3 : Int32) (x4 : Int32) (f : XS), wlX0_rounds_3 b cs ad vs o K65 Q n x1 x2 x3 x4 f → AX p l e R s m args below meth c D cs b 7 o z u (xV Q) 3 [(0, .ref o), (1, .int x1), (2, .int x2), (3, .int x3), (4, .int x4)] [] f := by
  intro n
  induction n with
  | zero => intro _ _ _ _ _ h; exact h.elim
  | succ n ih => intro x1 x2 x3 x4 f h; exact tbX0_rounds_3 E ih hK65 h
theorem tbX0_rounds_93 (E : EX p R s m args meth c cX0_rounds 7 RX0 none D cs b H0 (XKd b H0 ad vs) [] 3 72 z u) {Q : XS → Prop} {K93 : Int32 → Int32 → Int32 → Int32 → Int32 → XS → Prop} (hK93 : ∀ (x2 : Int32) (x3 : Int32) (x4 : Int32) (x5 : Int32) (x6 : Int32) (f : XS), K93 x2 x3 x4 x5 x6 f → AX p l e R s m args below meth c D cs b 7 o z u (xV Q) 93 [(0, .ref o), (2, .int x2), (3, .int x3), (4, .int x4), (5, .int x5), (6, .int x6)] [] f) {K135 : Int32 → Int32 → Int32 → Int32 → XS → Prop} (hK135 : ∀ (x2 : Int32) (x3 : Int32) (x4 : Int32) (x5 : Int32) (f : XS), K135 x2 x3 x4 x5 f → AX p l e R s m args below meth c D cs b 7 o z u (xV Q) 135 [(0, .ref o), (2, .int x2), (3, .int x3), (4, .int x4), (5, .int x5)] [] f) {x2 : Int32} {x3 : Int32} {x4 : Int32} {x5 : Int32} {x6 : Int32} {f : XS} (h : wbX0_rounds_93 b cs ad vs o K93 K135 Q x2 x3 x4 x5 x6 f) : AX p l e R s m args below meth c D cs b 7 o z u (xV Q) 93 [(0, .ref o), (2, .int x2), (3, .int x3), (4, .int x4), (5, .int x5), (6, .int x6)] [] f := by
  have E1 := E.1
  refine ag_iload E1 dX0_rounds_93 5 rfl ?_
  refine ag_iload_n E1 dX0_rounds_95 rfl 2 rfl ?_
  refine ag_icmp_gt E1 (tgt := 135) dX0_rounds_96 (by decide) (fun c_96 => ?_) (fun c_96 => ?_)
  · have h := h.1 c_96
    refine ag_sub (lv' := [(0, .ref o), (2, .int x2), (3, .int x3), (4, .int x4), (5, .int x5)]) [0, 1, 2, 3, 4] rfl ?_
    exact hK135 _ _ _ _ _ h
  · have h := h.2 c_96
    refine ag_aload_n E1 dX0_rounds_99 rfl 0 rfl ?_
    refine ax_geta E 27 (i := 16) (by decide) rfl rfl q693 dX0_rounds_100 ?_
    refine ag_iload E1 dX0_rounds_103 3 rfl ?_
    refine ag_bipush E1 dX0_rounds_105 kb_6 ?_
    refine ag_imul E1 dX0_rounds_107 ?_
    refine ag_iload E1 dX0_rounds_108 4 rfl ?_
    refine ag_iadd E1 dX0_rounds_110 ?_
    refine ag_bipush E1 dX0_rounds_111 kb_41 ?_
    refine ag_imul E1 dX0_rounds_113 ?_
    refine ag_iload E1 dX0_rounds_114 5 rfl ?_
    refine ag_iadd E1 dX0_rounds_116 ?_
    refine ag_aload_n E1 dX0_rounds_117 rfl 0 rfl ?_
    refine ag_iload E1 dX0_rounds_118 3 rfl ?_
    refine ag_iload E1 dX0_rounds_120 4 rfl ?_
    refine ag_iload E1 dX0_rounds_122 5 rfl ?_
    refine ag_iload_n E1 dX0_rounds_124 rfl 1 rfl ?_
    refine ax_callVi E [.int x4, .int x5, .int x6, .int x2] (kX0_best _ _ _ _ _ _ _ _ _ _ _ _ _ _ h) (lw_V q1251 q1253 qs41 q83 q1254) hdX0_best (Nat.le_of_ble_eq_true rfl) (Nat.le_of_ble_eq_true rfl) rfl (Nat.le_of_ble_eq_true rfl) dX0_rounds_125 rfl (fun r_6 f_5 h => ?_)
    obtain ⟨hin, h⟩ := h
    refine ax_iast E 27 rfl rfl rfl (by decide) hin dX0_rounds_128 (fun f_7 e_f_7 => ?_)
    have h := h f_7 e_f_7
    refine ag_iincN E1 (lv' := fun x6_8 => [(6, .int x6_8), (0, .ref o), (2, .int x2), (3, .int x3), (4, .int x4), (5, .int x5)]) dX0_rounds_129 5 rfl ki_1 (Nat.lt_of_lt_of_le (Nat.le_refl _) (Nat.le_of_ble_eq_true rfl)) (fun _ => rfl) (fun x6_8 e_x6_8 => ?_)
    have h := h x6_8 e_x6_8
    refine ag_goto E1 (tgt := 93) dX0_rounds_132 (by decide) ?_
    refine ag_sub (lv' := [(0, .ref o), (2, .int x2), (3, .int x3), (4, .int x4), (5, .int x5), (6, .int x6_8)]) [1, 2, 3, 4, 5, 0] rfl ?_
    exact hK93 _ _ _ _ _ _ h
theorem tlX0_rounds_93 (E : EX p R s m args meth c cX0_rounds 7 RX0 none D cs b H0 (XKd b H0 ad vs) [] 3 72 z u) {Q : XS → Prop} {K135 : Int32 → Int32 → Int32 → Int32 → XS → Prop} (hK135 : ∀ (x2 : Int32) (x3 : Int32) (x4 : Int32) (x5 : Int32) (f : XS), K135 x2 x3 x4 x5 f → AX p l e R s m args below meth c D cs b 7 o z u (xV Q) 135 [(0, .ref o), (2, .int x2), (3, .int x3), (4, .int x4), (5, .int x5)] [] f) : ∀ (n : Nat) (x2 : Int32) (x3 : Int32) (x4 : Int32) (x5 : Int32) (x6 : Int32) (f : XS), wlX0_rounds_93 b cs ad vs o K135 Q n x2 x3 x4 x5 x6 f → AX p l e R s m args below meth c D cs b 7 o z u (xV Q) 93 [(0, .ref o), (2, .int x2), (3, .int x3), (4, .int x4), (5, .int x5), (6, .int x6)] [] f := by
  intro n
  induction n with
  | zero => intro _ _ _ _ _ _ h; exact h.elim
  | succ n ih => intro x2 x3 x4 x5 x6 f h; exact tbX0_rounds_93 E ih hK135 h
theorem tbX0_rounds_81 (E : EX p R s m args meth c cX0_rounds 7 RX0 none D cs b H0 (XKd b H0 ad vs) [] 3 72 z u) {Q : XS → Prop} {K81 : Int32 → Int32 → Int32 → Int32 → XS → Prop} (hK81 : ∀ (x2 : Int32) (x3 : Int32) (x4 : Int32) (x5 : Int32) (f : XS), K81 x2 x3 x4 x5 f → AX p l e R s m args below meth c D cs b 7 o z u (xV Q) 81 [(0, .ref o), (2, .int x2), (3, .int x3), (4, .int x4), (5, .int x5)] [] f) {K141 : Int32 → Int32 → Int32 → XS → Prop} (hK141 : ∀ (x2 : Int32) (x3 : Int32) (x4 : Int32) (f : XS), K141 x2 x3 x4 f → AX p l e R s m args below meth c D cs b 7 o z u (xV Q) 141 [(0, .ref o), (2, .int x2), (3, .int x3), (4, .int x4)] [] f) {x2 : Int32} {x3 : Int32} {x4 : Int32} {x5 : Int32} {f : XS} (h : wbX0_rounds_81 b cs ad vs o K81 K141 Q x2 x3 x4 x5 f) : AX p l e R s m args below meth c D cs b 7 o z u (xV Q) 81 [(0, .ref o), (2, .int x2), (3, .int x3), (4, .int x4), (5, .int x5)] [] f := by
  have E1 := E.1
  refine ag_iload E1 dX0_rounds_81 4 rfl ?_
  refine ag_aload_n E1 dX0_rounds_83 rfl 0 rfl ?_
  refine ax_geti E 6 (by decide) rfl q672 dX0_rounds_84 ?_
  refine ag_icmp_ge E1 (tgt := 141) dX0_rounds_87 (by decide) (fun c_87 => ?_) (fun c_87 => ?_)
  · have h := h.1 c_87
    refine ag_sub (lv' := [(0, .ref o), (2, .int x2), (3, .int x3), (4, .int x4)]) [0, 1, 2, 3] rfl ?_
    exact hK141 _ _ _ _ h
  · have h := h.2 c_87
    refine ag_iconst E1 dX0_rounds_90 ki_0 ?_
    refine ag_istore E1 (lv' := [(6, .int (0 : Int32)), (0, .ref o), (2, .int x2), (3, .int x3), (4, .int x4), (5, .int x5)]) dX0_rounds_91 (Nat.lt_of_lt_of_le (Nat.le_refl _) (Nat.le_of_ble_eq_true rfl)) rfl ?_
    refine ag_sub (lv' := [(0, .ref o), (2, .int x2), (3, .int x3), (4, .int x4), (5, .int x5), (6, .int (0 : Int32))]) [1, 2, 3, 4, 5, 0] rfl ?_
    obtain ⟨n, h⟩ := h
    refine tlX0_rounds_93 E ?_ n _ _ _ _ _ _ h
    · intro x2 x3 x4 x5 f h
      refine ag_iincN E1 (lv' := fun x5_9 => [(5, .int x5_9), (0, .ref o), (2, .int x2), (3, .int x3), (4, .int x4)]) dX0_rounds_135 4 rfl ki_1 (Nat.lt_of_lt_of_le (Nat.le_refl _) (Nat.le_of_ble_eq_true rfl)) (fun _ => rfl) (fun x5_9 e_x5_9 => ?_)
      have h := h x5_9 e_x5_9
      refine ag_goto E1 (tgt := 81) dX0_rounds_138 (by decide) ?_
      refine ag_sub (lv' := [(0, .ref o), (2, .int x2), (3, .int x3), (4, .int x4), (5, .int x5_9)]) [1, 2, 3, 4, 0] rfl ?_
      exact hK81 _ _ _ _ _ h
theorem tlX0_rounds_81 (E : EX p R s m args meth c cX0_rounds 7 RX0 none D cs b H0 (XKd b H0 ad vs) [] 3 72 z u) {Q : XS → Prop} {K141 : Int32 → Int32 → Int32 → XS → Prop} (hK141 : ∀ (x2 : Int32) (x3 : Int32) (x4 : Int32) (f : XS), K141 x2 x3 x4 f → AX p l e R s m args below meth c D cs b 7 o z u (xV Q) 141 [(0, .ref o), (2, .int x2), (3, .int x3), (4, .int x4)] [] f) : ∀ (n : Nat) (x2 : Int32) (x3 : Int32) (x4 : Int32) (x5 : Int32) (f : XS), wlX0_rounds_81 b cs ad vs o K141 Q n x2 x3 x4 x5 f → AX p l e R s m args below meth c D cs b 7 o z u (xV Q) 81 [(0, .ref o), (2, .int x2), (3, .int x3), (4, .int x4), (5, .int x5)] [] f := by
  intro n
  induction n with
  | zero => intro _ _ _ _ _ h; exact h.elim
  | succ n ih => intro x2 x3 x4 x5 f h; exact tbX0_rounds_81 E ih hK141 h
theorem tbX0_rounds_73 (E : EX p R s m args meth c cX0_rounds 7 RX0 none D cs b H0 (XKd b H0 ad vs) [] 3 72 z u) {Q : XS → Prop} {K73 : Int32 → Int32 → Int32 → XS → Prop} (hK73 : ∀ (x2 : Int32) (x3 : Int32) (x4 : Int32) (f : XS), K73 x2 x3 x4 f → AX p l e R s m args below meth c D cs b 7 o z u (xV Q) 73 [(0, .ref o), (2, .int x2), (3, .int x3), (4, .int x4)] [] f) {x2 : Int32} {x3 : Int32} {x4 : Int32} {f : XS} (h : wbX0_rounds_73 b cs ad vs o K73 Q x2 x3 x4 f) : AX p l e R s m args below meth c D cs b 7 o z u (xV Q) 73 [(0, .ref o), (2, .int x2), (3, .int x3), (4, .int x4)] [] f := by
  have E1 := E.1
  refine ag_iload E1 dX0_rounds_73 3 rfl ?_
  refine ag_if_lt E1 (tgt := 147) dX0_rounds_75 (by decide) (fun c_75 => ?_) (fun c_75 => ?_)
  · have h := h.1 c_75
    exact ax_vret E rfl ⟨rfl, h⟩ dX0_rounds_147
  · have h := h.2 c_75
    refine ag_iconst E1 dX0_rounds_78 ki_0 ?_
    refine ag_istore E1 (lv' := [(5, .int (0 : Int32)), (0, .ref o), (2, .int x2), (3, .int x3), (4, .int x4)]) dX0_rounds_79 (Nat.lt_of_lt_of_le (Nat.le_refl _) (Nat.le_of_ble_eq_true rfl)) rfl ?_
    refine ag_sub (lv' := [(0, .ref o), (2, .int x2), (3, .int x3), (4, .int x4), (5, .int (0 : Int32))]) [1, 2, 3, 4, 0] rfl ?_
    obtain ⟨n, h⟩ := h
    refine tlX0_rounds_81 E ?_ n _ _ _ _ _ h
    · intro x2 x3 x4 f h
      refine ag_iincN E1 (lv' := fun x4_10 => [(4, .int x4_10), (0, .ref o), (2, .int x2), (3, .int x3)]) dX0_rounds_141 3 rfl ki_m1 (Nat.lt_of_lt_of_le (Nat.le_refl _) (Nat.le_of_ble_eq_true rfl)) (fun _ => rfl) (fun x4_10 e_x4_10 => ?_)
      have h := h x4_10 e_x4_10
      refine ag_goto E1 (tgt := 73) dX0_rounds_144 (by decide) ?_
      refine ag_sub (lv' := [(0, .ref o), (2, .int x2), (3, .int x3), (4, .int x4_10)]) [1, 2, 3, 0] rfl ?_
      exact hK73 _ _ _ _ h
theorem tlX0_rounds_73 (E : EX p R s m args meth c cX0_rounds 7 RX0 none D cs b H0 (XKd b H0 ad vs) [] 3 72 z u) {Q : XS → Prop}  : ∀ (n : Nat) (x2 : Int32) (x3 : Int32) (x4 : Int32) (f : XS), wlX0_rounds_73 b cs ad vs o  Q n x2 x3 x4 f → AX p l e R s m args below meth c D cs b 7 o z u (xV Q) 73 [(0, .ref o), (2, .int x2), (3, .int x3), (4, .int x4)] [] f := by
  intro n
  induction n with
  | zero => intro _ _ _ _ h; exact h.elim
  | succ n ih => intro x2 x3 x4 f h; exact tbX0_rounds_73 E ih h
theorem kX0_rounds (l : Launch) (D : va_G) (cs : Nat → ClassId) (b : Nat) (H0 : Heap) (ad : Nat → Nat) (vs : Nat → Option Nat) (o : Nat) (f : XS) (x1 : Int32) (x2 : Int32) (x3 : Int32) (Q : XS → Prop) (h : wX0_rounds b cs ad vs o f x1 x2 x3 Q) : CX l D cs b H0 (XKd b H0 ad vs) o yX0_rounds cX0_rounds 7 none 3 72 [.ref o, .int x1, .int x2, .int x3] f (xV Q) := by
  refine cx_of (by decide) (Nat.le_of_ble_eq_true rfl) (fun p e R s m below meth c E => ?_)
  have E1 := E.1
  refine ag_sub (lv' := [(0, .ref o), (1, .int x1), (2, .int x2), (3, .int x3)]) [0, 1, 2, 3] rfl ?_
  refine ag_iconst E1 dX0_rounds_0 ki_0 ?_
  refine ag_istore E1 (lv' := [(4, .int (0 : Int32)), (0, .ref o), (1, .int x1), (2, .int x2), (3, .int x3)]) dX0_rounds_1 (Nat.lt_of_lt_of_le (Nat.le_refl _) (Nat.le_of_ble_eq_true rfl)) rfl ?_
  refine ag_sub (lv' := [(0, .ref o), (1, .int x1), (2, .int x2), (3, .int x3), (4, .int (0 : Int32))]) [1, 2, 3, 4, 0] rfl ?_
  obtain ⟨n, h⟩ := h
  refine tlX0_rounds_3 E ?_ n _ _ _ _ _ h
  · intro x2 x3 f h
    refine ag_aload_n E1 dX0_rounds_65 rfl 0 rfl ?_
    refine ax_geti E 7 (by decide) rfl q673 dX0_rounds_66 ?_
    refine ag_iconst E1 dX0_rounds_69 ki_1 ?_
    refine ag_isub E1 dX0_rounds_70 ?_
    refine ag_topi (fun x4_4 e_x4_4 => ?_)
    have h := h x4_4 e_x4_4
    refine ag_istore E1 (lv' := [(4, .int x4_4), (0, .ref o), (2, .int x2), (3, .int x3)]) dX0_rounds_71 (Nat.lt_of_lt_of_le (Nat.le_refl _) (Nat.le_of_ble_eq_true rfl)) rfl ?_
    refine ag_sub (lv' := [(0, .ref o), (2, .int x2), (3, .int x3), (4, .int x4_4)]) [1, 2, 3, 0] rfl ?_
    obtain ⟨n, h⟩ := h
    exact tlX0_rounds_73 E  n _ _ _ _ h
theorem hdX0_rounds : yX0_rounds.cls = RX0 ∧ yX0_rounds.cls ≠ "java/lang/invoke/MethodHandle" ∧ yX0_rounds.cls ≠ "java/lang/invoke/VarHandle" ∧ (parseMethodDescriptor yX0_rounds.desc).map (fun d => d.parameters.length) = some 3 := by decide +kernel
theorem tbX0_round_164 (E : EX p R s m args meth c cX0_round 10 RX0 (some .int) D cs b H0 (XKd b H0 ad vs) [] 5 117 z u) {Q : Int32 → XS → Prop} {K72 : Int32 → Int32 → Int32 → Int32 → Int32 → Int32 → XS → Prop} (hK72 : ∀ (x4 : Int32) (x5 : Int32) (x6 : Int32) (x7 : Int32) (x8 : Int32) (x9 : Int32) (f : XS), K72 x4 x5 x6 x7 x8 x9 f → AX p l e R s m args below meth c D cs b 10 o z u (xI Q) 72 [(0, .ref o), (4, .int x4), (5, .int x5), (6, .int x6), (7, .int x7), (8, .int x8), (9, .int x9)] [] f) {K170 : Int32 → Int32 → Int32 → Int32 → Int32 → XS → Prop} (hK170 : ∀ (x4 : Int32) (x5 : Int32) (x7 : Int32) (x8 : Int32) (x9 : Int32) (f : XS), K170 x4 x5 x7 x8 x9 f → AX p l e R s m args below meth c D cs b 10 o z u (xI Q) 170 [(0, .ref o), (4, .int x4), (5, .int x5), (7, .int x7), (8, .int x8), (9, .int x9)] [] f) {x4 : Int32} {x5 : Int32} {x6 : Int32} {x7 : Int32} {x8 : Int32} {x9 : Int32} {f : XS} (h : wbX0_round_164 b cs ad vs o K72 K170 Q x4 x5 x6 x7 x8 x9 f) : AX p l e R s m args below meth c D cs b 10 o z u (xI Q) 164 [(0, .ref o), (4, .int x4), (5, .int x5), (6, .int x6), (7, .int x7), (8, .int x8), (9, .int x9)] [] f := by
  have E1 := E.1
  refine ag_iincN E1 (lv' := fun x9_17 => [(9, .int x9_17), (0, .ref o), (4, .int x4), (5, .int x5), (6, .int x6), (7, .int x7), (8, .int x8)]) dX0_round_164 6 rfl ki_1 (Nat.lt_of_lt_of_le (Nat.le_refl _) (Nat.le_of_ble_eq_true rfl)) (fun _ => rfl) (fun x9_17 e_x9_17 => ?_)
  have h := h x9_17 e_x9_17
  refine ag_goto E1 (tgt := 72) dX0_round_167 (by decide) ?_
  refine ag_sub (lv' := [(0, .ref o), (4, .int x4), (5, .int x5), (6, .int x6), (7, .int x7), (8, .int x8), (9, .int x9_17)]) [1, 2, 3, 4, 5, 6, 0] rfl ?_
  exact hK72 _ _ _ _ _ _ _ h
theorem tbX0_round_72 (E : EX p R s m args meth c cX0_round 10 RX0 (some .int) D cs b H0 (XKd b H0 ad vs) [] 5 117 z u) {Q : Int32 → XS → Prop} {K72 : Int32 → Int32 → Int32 → Int32 → Int32 → Int32 → XS → Prop} (hK72 : ∀ (x4 : Int32) (x5 : Int32) (x6 : Int32) (x7 : Int32) (x8 : Int32) (x9 : Int32) (f : XS), K72 x4 x5 x6 x7 x8 x9 f → AX p l e R s m args below meth c D cs b 10 o z u (xI Q) 72 [(0, .ref o), (4, .int x4), (5, .int x5), (6, .int x6), (7, .int x7), (8, .int x8), (9, .int x9)] [] f) {K170 : Int32 → Int32 → Int32 → Int32 → Int32 → XS → Prop} (hK170 : ∀ (x4 : Int32) (x5 : Int32) (x7 : Int32) (x8 : Int32) (x9 : Int32) (f : XS), K170 x4 x5 x7 x8 x9 f → AX p l e R s m args below meth c D cs b 10 o z u (xI Q) 170 [(0, .ref o), (4, .int x4), (5, .int x5), (7, .int x7), (8, .int x8), (9, .int x9)] [] f) {x4 : Int32} {x5 : Int32} {x6 : Int32} {x7 : Int32} {x8 : Int32} {x9 : Int32} {f : XS} (h : wbX0_round_72 b cs ad vs o K72 K170 Q x4 x5 x6 x7 x8 x9 f) : AX p l e R s m args below meth c D cs b 10 o z u (xI Q) 72 [(0, .ref o), (4, .int x4), (5, .int x5), (6, .int x6), (7, .int x7), (8, .int x8), (9, .int x9)] [] f := by
  have E1 := E.1
  refine ag_aload_n E1 dX0_round_72 rfl 0 rfl ?_
  refine ax_geta E 5 (i := 6) (by decide) rfl rfl q671 dX0_round_73 ?_
  refine ag_bipush E1 dX0_round_76 kb_6 ?_
  refine ag_iload E1 dX0_round_78 3 rfl ?_
  refine ag_imul E1 dX0_round_80 ?_
  refine ag_iload E1 dX0_round_81 6 rfl ?_
  refine ag_iadd E1 dX0_round_83 ?_
  obtain ⟨hin, h⟩ := h
  refine ax_iald E 5 rfl rfl rfl (by decide) hin dX0_round_84 ?_
  refine ag_iload E1 dX0_round_85 1 rfl ?_
  refine ag_icmp_gt E1 (tgt := 164) dX0_round_87 (by decide) (fun c_87 => ?_) (fun c_87 => ?_)
  · have h := h.1 c_87
    exact tbX0_round_164 E hK72 hK170 h
  · have h := h.2 c_87
    refine ag_aload_n E1 dX0_round_90 rfl 0 rfl ?_
    refine ag_iload E1 dX0_round_91 5 rfl ?_
    refine ag_iconst E1 dX0_round_93 ki_1 ?_
    refine ag_iadd E1 dX0_round_94 ?_
    refine ag_iload E1 dX0_round_95 6 rfl ?_
    refine ag_iload E1 dX0_round_97 4 rfl ?_
    refine ag_aload_n E1 dX0_round_99 rfl 0 rfl ?_
    refine ag_iload E1 dX0_round_100 6 rfl ?_
    refine ag_iload E1 dX0_round_102 5 rfl ?_
    refine ag_iload E1 dX0_round_104 4 rfl ?_
    refine ax_callVi E [.int x9, .int x8, .int x7] (kX0_sells _ _ _ _ _ _ _ _ _ _ _ _ _ h) (lw_V q1255 q1257 qs42 q83 q1258) hdX0_sells (Nat.le_of_ble_eq_true rfl) (Nat.le_of_ble_eq_true rfl) rfl (Nat.le_of_ble_eq_true rfl) dX0_round_106 rfl (fun r_19 f_18 h => ?_)
    refine ag_isub E1 dX0_round_109 ?_
    refine ax_callVi E [.int (x8 + (1 : Int32)), .int x9, .int (x7 - r_19)] (kX0_most _ _ _ _ _ _ _ _ _ _ _ _ _ h) (lw_V q1259 q1261 qs43 q83 q1262) hdX0_most (Nat.le_of_ble_eq_true rfl) (Nat.le_of_ble_eq_true rfl) rfl (Nat.le_of_ble_eq_true rfl) dX0_round_110 rfl (fun r_21 f_20 h => ?_)
    refine ag_iconst E1 dX0_round_113 ki_m1 ?_
    refine ag_icmp_eq E1 (tgt := 164) dX0_round_114 (by decide) (fun c_114 => ?_) (fun c_114 => ?_)
    · have h := h.1 c_114
      exact tbX0_round_164 E hK72 hK170 h
    · have h := h.2 c_114
      refine ag_aload_n E1 dX0_round_117 rfl 0 rfl ?_
      refine ag_iload E1 dX0_round_118 6 rfl ?_
      refine ag_iload E1 dX0_round_120 5 rfl ?_
      refine ag_iload E1 dX0_round_122 4 rfl ?_
      refine ax_callVi E [.int x9, .int x8, .int x7] (kX0_sells _ _ _ _ _ _ _ _ _ _ _ _ _ h) (lw_V q1255 q1257 qs42 q83 q1258) hdX0_sells (Nat.le_of_ble_eq_true rfl) (Nat.le_of_ble_eq_true rfl) rfl (Nat.le_of_ble_eq_true rfl) dX0_round_124 rfl (fun r_23 f_22 h => ?_)
      refine ag_aload_n E1 dX0_round_127 rfl 0 rfl ?_
      refine ag_iload E1 dX0_round_128 5 rfl ?_
      refine ag_iconst E1 dX0_round_130 ki_1 ?_
      refine ag_iadd E1 dX0_round_131 ?_
      refine ag_iload E1 dX0_round_132 6 rfl ?_
      refine ag_iload E1 dX0_round_134 4 rfl ?_
      refine ag_aload_n E1 dX0_round_136 rfl 0 rfl ?_
      refine ag_iload E1 dX0_round_137 6 rfl ?_
      refine ag_iload E1 dX0_round_139 5 rfl ?_
      refine ag_iload E1 dX0_round_141 4 rfl ?_
      refine ax_callVi E [.int x9, .int x8, .int x7] (kX0_sells _ _ _ _ _ _ _ _ _ _ _ _ _ h) (lw_V q1255 q1257 qs42 q83 q1258) hdX0_sells (Nat.le_of_ble_eq_true rfl) (Nat.le_of_ble_eq_true rfl) rfl (Nat.le_of_ble_eq_true rfl) dX0_round_143 rfl (fun r_25 f_24 h => ?_)
      refine ag_isub E1 dX0_round_146 ?_
      refine ax_callVi E [.int (x8 + (1 : Int32)), .int x9, .int (x7 - r_25)] (kX0_most _ _ _ _ _ _ _ _ _ _ _ _ _ h) (lw_V q1259 q1261 qs43 q83 q1262) hdX0_most (Nat.le_of_ble_eq_true rfl) (Nat.le_of_ble_eq_true rfl) rfl (Nat.le_of_ble_eq_true rfl) dX0_round_147 rfl (fun r_27 f_26 h => ?_)
      refine ag_iadd E1 dX0_round_150 ?_
      refine ag_aload_n E1 dX0_round_151 rfl 0 rfl ?_
      refine ag_iload E1 dX0_round_152 5 rfl ?_
      refine ag_iload E1 dX0_round_154 3 rfl ?_
      refine ag_iload E1 dX0_round_156 4 rfl ?_
      refine ax_callVi E [.int x8, .int x6, .int x7] (kX0_most _ _ _ _ _ _ _ _ _ _ _ _ _ h) (lw_V q1259 q1261 qs43 q83 q1262) hdX0_most (Nat.le_of_ble_eq_true rfl) (Nat.le_of_ble_eq_true rfl) rfl (Nat.le_of_ble_eq_true rfl) dX0_round_158 rfl (fun r_29 f_28 h => ?_)
      refine ag_icmp_eq E1 (tgt := 170) dX0_round_161 (by decide) (fun c_161 => ?_) (fun c_161 => ?_)
      · have h := h.1 c_161
        refine ag_sub (lv' := [(0, .ref o), (4, .int x4), (5, .int x5), (7, .int x7), (8, .int x8), (9, .int x9)]) [0, 1, 2, 4, 5, 6] rfl ?_
        exact hK170 _ _ _ _ _ _ h
      · have h := h.2 c_161
        exact tbX0_round_164 E hK72 hK170 h
theorem tlX0_round_72 (E : EX p R s m args meth c cX0_round 10 RX0 (some .int) D cs b H0 (XKd b H0 ad vs) [] 5 117 z u) {Q : Int32 → XS → Prop} {K170 : Int32 → Int32 → Int32 → Int32 → Int32 → XS → Prop} (hK170 : ∀ (x4 : Int32) (x5 : Int32) (x7 : Int32) (x8 : Int32) (x9 : Int32) (f : XS), K170 x4 x5 x7 x8 x9 f → AX p l e R s m args below meth c D cs b 10 o z u (xI Q) 170 [(0, .ref o), (4, .int x4), (5, .int x5), (7, .int x7), (8, .int x8), (9, .int x9)] [] f) : ∀ (n : Nat) (x4 : Int32) (x5 : Int32) (x6 : Int32) (x7 : Int32) (x8 : Int32) (x9 : Int32) (f : XS), wlX0_round_72 b cs ad vs o K170 Q n x4 x5 x6 x7 x8 x9 f → AX p l e R s m args below meth c D cs b 10 o z u (xI Q) 72 [(0, .ref o), (4, .int x4), (5, .int x5), (6, .int x6), (7, .int x7), (8, .int x8), (9, .int x9)] [] f := by
  intro n
  induction n with
  | zero => intro _ _ _ _ _ _ _ h; exact h.elim
  | succ n ih => intro x4 x5 x6 x7 x8 x9 f h; exact tbX0_round_72 E ih hK170 h
theorem tbX0_round_60 (E : EX p R s m args meth c cX0_round 10 RX0 (some .int) D cs b H0 (XKd b H0 ad vs) [] 5 117 z u) {Q : Int32 → XS → Prop} {K60 : Int32 → Int32 → Int32 → Int32 → Int32 → XS → Prop} (hK60 : ∀ (x4 : Int32) (x5 : Int32) (x6 : Int32) (x7 : Int32) (x8 : Int32) (f : XS), K60 x4 x5 x6 x7 x8 f → AX p l e R s m args below meth c D cs b 10 o z u (xI Q) 60 [(0, .ref o), (4, .int x4), (5, .int x5), (6, .int x6), (7, .int x7), (8, .int x8)] [] f) {x4 : Int32} {x5 : Int32} {x6 : Int32} {x7 : Int32} {x8 : Int32} {f : XS} (h : wbX0_round_60 b cs ad vs o K60 Q x4 x5 x6 x7 x8 f) : AX p l e R s m args below meth c D cs b 10 o z u (xI Q) 60 [(0, .ref o), (4, .int x4), (5, .int x5), (6, .int x6), (7, .int x7), (8, .int x8)] [] f := by
  have E1 := E.1
  refine ag_iload E1 dX0_round_60 5 rfl ?_
  refine ag_aload_n E1 dX0_round_62 rfl 0 rfl ?_
  refine ax_geti E 7 (by decide) rfl q673 dX0_round_63 ?_
  refine ag_icmp_ge E1 (tgt := 204) dX0_round_66 (by decide) (fun c_66 => ?_) (fun c_66 => ?_)
  · have h := h.1 c_66
    refine ag_iload E1 dX0_round_204 2 rfl ?_
    refine ag_iload E1 dX0_round_206 4 rfl ?_
    refine ag_isub E1 dX0_round_208 ?_
    exact ax_iret E rfl ⟨_, rfl, h⟩ dX0_round_209
  · have h := h.2 c_66
    refine ag_iconst E1 dX0_round_69 ki_0 ?_
    refine ag_istore E1 (lv' := [(9, .int (0 : Int32)), (0, .ref o), (4, .int x4), (5, .int x5), (6, .int x6), (7, .int x7), (8, .int x8)]) dX0_round_70 (Nat.lt_of_lt_of_le (Nat.le_refl _) (Nat.le_of_ble_eq_true rfl)) rfl ?_
    refine ag_sub (lv' := [(0, .ref o), (4, .int x4), (5, .int x5), (6, .int x6), (7, .int x7), (8, .int x8), (9, .int (0 : Int32))]) [1, 2, 3, 4, 5, 6, 0] rfl ?_
    obtain ⟨n, h⟩ := h
    refine tlX0_round_72 E ?_ n _ _ _ _ _ _ _ h
    · intro x4 x5 x7 x8 x9 f h
      refine ag_iload E1 dX0_round_170 3 rfl ?_
      refine ag_aload_n E1 dX0_round_172 rfl 0 rfl ?_
      refine ag_iload E1 dX0_round_173 5 rfl ?_
      refine ag_iload E1 dX0_round_175 4 rfl ?_
      refine ag_iload E1 dX0_round_177 3 rfl ?_
      refine ax_callVi E [.int x9, .int x8, .int x7] (kX0_sells _ _ _ _ _ _ _ _ _ _ _ _ _ h) (lw_V q1255 q1257 qs42 q83 q1258) hdX0_sells (Nat.le_of_ble_eq_true rfl) (Nat.le_of_ble_eq_true rfl) rfl (Nat.le_of_ble_eq_true rfl) dX0_round_179 rfl (fun r_31 f_30 h => ?_)
      refine ag_isub E1 dX0_round_182 ?_
      refine ag_topi (fun x7_32 e_x7_32 => ?_)
      have h := h x7_32 e_x7_32
      refine ag_istore E1 (lv' := [(7, .int x7_32), (0, .ref o), (4, .int x4), (5, .int x5), (8, .int x8), (9, .int x9)]) dX0_round_183 (Nat.lt_of_lt_of_le (Nat.le_refl _) (Nat.le_of_ble_eq_true rfl)) rfl ?_
      refine ag_aload_n E1 dX0_round_185 rfl 1 rfl ?_
      refine ax_geta E 29 (i := 17) (by decide) rfl rfl q695 dX0_round_186 ?_
      refine ag_iload E1 dX0_round_189 4 rfl ?_
      refine ag_iload E1 dX0_round_191 5 rfl ?_
      obtain ⟨hin, h⟩ := h
      refine ax_iast E 29 rfl rfl rfl (by decide) hin dX0_round_193 (fun f_33 e_f_33 => ?_)
      have h := h f_33 e_f_33
      refine ag_iload E1 dX0_round_194 5 rfl ?_
      refine ag_istore E1 (lv' := [(6, .int x9), (7, .int x7_32), (0, .ref o), (4, .int x4), (5, .int x5), (8, .int x8), (9, .int x9)]) dX0_round_196 (Nat.lt_of_lt_of_le (Nat.le_refl _) (Nat.le_of_ble_eq_true rfl)) rfl ?_
      refine ag_iincN E1 (lv' := fun x8_34 => [(8, .int x8_34), (6, .int x9), (7, .int x7_32), (0, .ref o), (4, .int x4), (5, .int x5), (9, .int x9)]) dX0_round_198 5 rfl ki_1 (Nat.lt_of_lt_of_le (Nat.le_refl _) (Nat.le_of_ble_eq_true rfl)) (fun _ => rfl) (fun x8_34 e_x8_34 => ?_)
      have h := h x8_34 e_x8_34
      refine ag_goto E1 (tgt := 60) dX0_round_201 (by decide) ?_
      refine ag_sub (lv' := [(0, .ref o), (4, .int x4), (5, .int x5), (6, .int x9), (7, .int x7_32), (8, .int x8_34)]) [3, 4, 5, 1, 2, 0] rfl ?_
      exact hK60 _ _ _ _ _ _ h
theorem tlX0_round_60 (E : EX p R s m args meth c cX0_round 10 RX0 (some .int) D cs b H0 (XKd b H0 ad vs) [] 5 117 z u) {Q : Int32 → XS → Prop}  : ∀ (n : Nat) (x4 : Int32) (x5 : Int32) (x6 : Int32) (x7 : Int32) (x8 : Int32) (f : XS), wlX0_round_60 b cs ad vs o  Q n x4 x5 x6 x7 x8 f → AX p l e R s m args below meth c D cs b 10 o z u (xI Q) 60 [(0, .ref o), (4, .int x4), (5, .int x5), (6, .int x6), (7, .int x7), (8, .int x8)] [] f := by
  intro n
  induction n with
  | zero => intro _ _ _ _ _ _ h; exact h.elim
  | succ n ih => intro x4 x5 x6 x7 x8 f h; exact tbX0_round_60 E ih h
theorem kX0_round (l : Launch) (D : va_G) (cs : Nat → ClassId) (b : Nat) (H0 : Heap) (ad : Nat → Nat) (vs : Nat → Option Nat) (o : Nat) (f : XS) (x1 : Int32) (x2 : Int32) (x3 : Int32) (x4 : Int32) (x5 : Int32) (Q : Int32 → XS → Prop) (h : wX0_round b cs ad vs o f x1 x2 x3 x4 x5 Q) : CX l D cs b H0 (XKd b H0 ad vs) o yX0_round cX0_round 10 (some .int) 5 117 [.ref o, .int x1, .int x2, .int x3, .int x4, .int x5] f (xI Q) := by
  refine cx_of (by decide) (Nat.le_of_ble_eq_true rfl) (fun p e R s m below meth c E => ?_)
  have E1 := E.1
  refine ag_sub (lv' := [(0, .ref o), (1, .int x1), (2, .int x2), (3, .int x3), (4, .int x4), (5, .int x5)]) [0, 1, 2, 3, 4, 5] rfl ?_
  refine ag_aload_n E1 dX0_round_0 rfl 0 rfl ?_
  refine ag_iload_n E1 dX0_round_1 rfl 1 rfl ?_
  refine ag_iload_n E1 dX0_round_2 rfl 2 rfl ?_
  refine ag_iload_n E1 dX0_round_3 rfl 3 rfl ?_
  refine ag_iload E1 dX0_round_4 4 rfl ?_
  refine ag_iload E1 dX0_round_6 5 rfl ?_
  refine ax_callVi E [.int x1, .int x2, .int x3, .int x4, .int x5] (kX0_isRound _ _ _ _ _ _ _ _ _ _ _ _ _ _ _ h) (lw_V q1242 q1244 qs39 q83 q1245) hdX0_isRound (Nat.le_of_ble_eq_true rfl) (Nat.le_of_ble_eq_true rfl) rfl (Nat.le_of_ble_eq_true rfl) dX0_round_8 rfl (fun r_2 f_1 h => ?_)
  refine ag_if_ne E1 (tgt := 17) dX0_round_11 (by decide) (fun c_11 => ?_) (fun c_11 => ?_)
  · have h := h.1 c_11
    refine ag_aload_n E1 dX0_round_17 rfl 0 rfl ?_
    refine ag_aload_n E1 dX0_round_18 rfl 0 rfl ?_
    refine ax_geto E 11 (i := 9) (by decide) rfl (fun _ => rfl) q677 dX0_round_19 ?_
    refine ag_iload_n E1 dX0_round_22 rfl 1 rfl ?_
    obtain ⟨hF_4, h⟩ := h
    obtain ⟨y_5, v_6, y_7, hP_8_z, h⟩ := h
    have hP_8 := (wX_at (cs := cs) hF_4).trans hP_8_z
    refine ag_callV E1 (ci := 16) (C := RJ2) (T0 := TJ2) (n2 := 3) hP_8 rfl (kJ2_get _ _ _ _ _ _ _ _ _ _ _ h) (lw_V q1054 q1055 q1056 q86 q1057) ⟨rfl, hdJ2_get⟩ (Nat.le_of_ble_eq_true rfl) (Nat.le_of_ble_eq_true rfl) (As := [.int x1]) rfl (Nat.le_of_ble_eq_true rfl) dX0_round_23 (fun v_ f_3_w hv => ?_) rfl
    obtain ⟨r_9, rfl, f_3, rfl, h⟩ := hv
    obtain ⟨ci_10, cV_11, hv_12, ho_13, h⟩ := h
    refine ag_castO E1 hv_12 (gOk_ok ho_13) q909 dX0_round_26 ?_
    refine ag_iload_n E1 dX0_round_29 rfl 2 rfl ?_
    refine ax_callVv E [.ref r_9, .int x2] (kX0_looks _ _ _ _ _ _ _ _ _ _ _ _ h) (lw_V q1105 q1107 qs24 q83 q1108) hdX0_looks (Nat.le_of_ble_eq_true rfl) (Nat.le_of_ble_eq_true rfl) rfl (Nat.le_of_ble_eq_true rfl) dX0_round_30 rfl (fun f_14 h => ?_)
    refine ag_aload_n E1 dX0_round_33 rfl 0 rfl ?_
    refine ag_iload_n E1 dX0_round_34 rfl 3 rfl ?_
    refine ag_iload E1 dX0_round_35 4 rfl ?_
    refine ag_iload E1 dX0_round_37 5 rfl ?_
    refine ax_callVv E [.int x3, .int x4, .int x5] (kX0_rounds _ _ _ _ _ _ _ _ _ _ _ _ _ h) (lw_V q1247 q1249 qs40 q83 q1250) hdX0_rounds (Nat.le_of_ble_eq_true rfl) (Nat.le_of_ble_eq_true rfl) rfl (Nat.le_of_ble_eq_true rfl) dX0_round_39 rfl (fun f_15 h => ?_)
    refine ag_aload_n E1 dX0_round_42 rfl 0 rfl ?_
    refine ag_aload_n E1 dX0_round_43 rfl 0 rfl ?_
    refine ax_geti E 7 (by decide) rfl q673 dX0_round_44 ?_
    refine ax_puti E 28 (by decide) rfl q694 rfl (ty := .int) (by decide +kernel) rfl rfl dX0_round_47 (fun f_16 e_f_16 => ?_)
    have h := h f_16 e_f_16
    refine ag_iload_n E1 dX0_round_50 rfl 3 rfl ?_
    refine ag_istore E1 (lv' := [(6, .int x3), (0, .ref o), (1, .int x1), (2, .int x2), (3, .int x3), (4, .int x4), (5, .int x5)]) dX0_round_51 (Nat.lt_of_lt_of_le (Nat.le_refl _) (Nat.le_of_ble_eq_true rfl)) rfl ?_
    refine ag_iload E1 dX0_round_53 6 rfl ?_
    refine ag_istore E1 (lv' := [(7, .int x5), (6, .int x3), (0, .ref o), (1, .int x1), (2, .int x2), (3, .int x3), (4, .int x4), (5, .int x5)]) dX0_round_55 (Nat.lt_of_lt_of_le (Nat.le_refl _) (Nat.le_of_ble_eq_true rfl)) rfl ?_
    refine ag_iconst E1 dX0_round_57 ki_0 ?_
    refine ag_istore E1 (lv' := [(8, .int (0 : Int32)), (7, .int x5), (6, .int x3), (0, .ref o), (1, .int x1), (2, .int x2), (3, .int x3), (4, .int x4), (5, .int x5)]) dX0_round_58 (Nat.lt_of_lt_of_le (Nat.le_refl _) (Nat.le_of_ble_eq_true rfl)) rfl ?_
    refine ag_sub (lv' := [(0, .ref o), (4, .int x4), (5, .int x5), (6, .int x3), (7, .int x5), (8, .int (0 : Int32))]) [3, 7, 8, 2, 1, 0] rfl ?_
    obtain ⟨n, h⟩ := h
    exact tlX0_round_60 E  n _ _ _ _ _ _ h
  · have h := h.2 c_11
    refine ag_bipush E1 dX0_round_14 kb_m2 ?_
    exact ax_iret E rfl ⟨_, rfl, h⟩ dX0_round_16
theorem hdX0_round : yX0_round.cls = RX0 ∧ yX0_round.cls ≠ "java/lang/invoke/MethodHandle" ∧ yX0_round.cls ≠ "java/lang/invoke/VarHandle" ∧ (parseMethodDescriptor yX0_round.desc).map (fun d => d.parameters.length) = some 5 := by decide +kernel
theorem kX0_roundTold (l : Launch) (D : va_G) (cs : Nat → ClassId) (b : Nat) (H0 : Heap) (ad : Nat → Nat) (vs : Nat → Option Nat) (o : Nat) (f : XS) (x1 : Int32) (Q : Int32 → XS → Prop) (h : wX0_roundTold b cs ad vs o f x1 Q) : CX l D cs b H0 (XKd b H0 ad vs) o yX0_roundTold cX0_roundTold 2 (some .int) 1 25 [.ref o, .int x1] f (xI Q) := by
  refine cx_of (by decide) (Nat.le_of_ble_eq_true rfl) (fun p e R s m below meth c E => ?_)
  have E1 := E.1
  refine ag_sub (lv' := [(0, .ref o), (1, .int x1)]) [0, 1] rfl ?_
  refine ag_iload_n E1 dX0_roundTold_0 rfl 1 rfl ?_
  refine ag_i2l E1 dX0_roundTold_1 ?_
  refine ag_lconst E1 (v := 0) dX0_roundTold_2 rfl ?_
  refine ag_aload_n E1 dX0_roundTold_3 rfl 0 rfl ?_
  refine ax_geti E 28 (by decide) rfl q694 dX0_roundTold_4 ?_
  refine ag_iconst E1 dX0_roundTold_7 ki_1 ?_
  refine ag_isub E1 dX0_roundTold_8 ?_
  refine ag_i2l E1 dX0_roundTold_9 ?_
  refine ag_callPi E1 (As := [.long (Int32.toInt64 x1), .long (0 : Int64), .long (Int32.toInt64 ((f.1 99 28) - (1 : Int32)))]) (kX0_in _ _ _ _ _ _ _ _ _ _ _ _ h) (lw_S q801 q280 q83 q281) hdX0_in (Nat.le_of_ble_eq_true rfl) (Nat.le_of_ble_eq_true rfl) rfl (Nat.le_of_ble_eq_true rfl) dX0_roundTold_10 rfl (fun r_1 h => ?_)
  refine ag_if_eq E1 (tgt := 25) dX0_roundTold_13 (by decide) (fun c_13 => ?_) (fun c_13 => ?_)
  · have h := h.1 c_13
    refine ag_iconst E1 dX0_roundTold_25 ki_m1 ?_
    exact ax_iret E rfl ⟨_, rfl, h⟩ dX0_roundTold_26
  · have h := h.2 c_13
    refine ag_aload_n E1 dX0_roundTold_16 rfl 0 rfl ?_
    refine ax_geta E 29 (i := 17) (by decide) rfl rfl q695 dX0_roundTold_17 ?_
    refine ag_iload_n E1 dX0_roundTold_20 rfl 1 rfl ?_
    obtain ⟨hin, h⟩ := h
    refine ax_iald E 29 rfl rfl rfl (by decide) hin dX0_roundTold_21 ?_
    refine ag_goto E1 (tgt := 26) dX0_roundTold_22 (by decide) ?_
    exact ax_iret E rfl ⟨_, rfl, h⟩ dX0_roundTold_26
theorem hdX0_roundTold : yX0_roundTold.cls = RX0 ∧ yX0_roundTold.cls ≠ "java/lang/invoke/MethodHandle" ∧ yX0_roundTold.cls ≠ "java/lang/invoke/VarHandle" ∧ (parseMethodDescriptor yX0_roundTold.desc).map (fun d => d.parameters.length) = some 1 := by decide +kernel
theorem tbX0_walk_62 (E : EX p R s m args meth c cX0_walk 11 RX0 (some .int) D cs b H0 (XKd b H0 ad vs) [] 5 117 z u) {Q : Int32 → XS → Prop} {K62 : Int32 → Int32 → Int32 → Int32 → Nat → Int32 → XS → Prop} (hK62 : ∀ (x1 : Int32) (x2 : Int32) (x3 : Int32) (x4 : Int32) (x6 : Nat) (x7 : Int32) (f : XS), K62 x1 x2 x3 x4 x6 x7 f → AX p l e R s m args below meth c D cs b 11 o z u (xI Q) 62 [(0, .ref o), (1, .int x1), (2, .int x2), (3, .int x3), (4, .int x4), (6, .ref (o + 25 + 2 * x6)), (7, .int x7)] [] f) {K95 : Int32 → Int32 → Int32 → Int32 → Nat → XS → Prop} (hK95 : ∀ (x1 : Int32) (x2 : Int32) (x3 : Int32) (x4 : Int32) (x6 : Nat) (f : XS), K95 x1 x2 x3 x4 x6 f → AX p l e R s m args below meth c D cs b 11 o z u (xI Q) 95 [(0, .ref o), (1, .int x1), (2, .int x2), (3, .int x3), (4, .int x4), (6, .ref (o + 25 + 2 * x6))] [] f) {x1 : Int32} {x2 : Int32} {x3 : Int32} {x4 : Int32} {x6 : Nat} {x7 : Int32} {f : XS} (h : wbX0_walk_62 b cs ad vs o K62 K95 Q x1 x2 x3 x4 x6 x7 f) : AX p l e R s m args below meth c D cs b 11 o z u (xI Q) 62 [(0, .ref o), (1, .int x1), (2, .int x2), (3, .int x3), (4, .int x4), (6, .ref (o + 25 + 2 * x6)), (7, .int x7)] [] f := by
  have E1 := E.1
  refine ag_iload E1 dX0_walk_62 6 rfl ?_
  refine ag_aload_n E1 dX0_walk_64 rfl 0 rfl ?_
  refine ax_geti E 7 (by decide) rfl q673 dX0_walk_65 ?_
  refine ag_icmp_ge E1 (tgt := 95) dX0_walk_68 (by decide) (fun c_68 => ?_) (fun c_68 => ?_)
  · have h := h.1 c_68
    refine ag_sub (lv' := [(0, .ref o), (1, .int x1), (2, .int x2), (3, .int x3), (4, .int x4), (6, .ref (o + 25 + 2 * x6))]) [0, 1, 2, 3, 4, 5] rfl ?_
    exact hK95 _ _ _ _ _ _ h
  · have h := h.2 c_68
    refine ag_aload_n E1 dX0_walk_71 rfl 0 rfl ?_
    refine ag_aload E1 dX0_walk_72 5 rfl ?_
    obtain ⟨ht_7, h⟩ := h
    refine ag_get E1 (ci := 2) (C := RX1) (T := TX1) (N := 3) (k := 2) (v := .ref (o + 26 + 2 * x6)) rfl in_X1 (by decide) q169 (fun _ h => h) dX0_walk_74 (wX_sheet ht_7) rfl ?_
    refine ag_iload E1 dX0_walk_77 6 rfl ?_
    obtain ⟨ht_8, h⟩ := h
    obtain ⟨hin_9, h⟩ := h
    refine ag_iald E1 (t0 := 0) (wX_cells ht_8) rfl hin_9 dX0_walk_79 ?_
    refine ax_callVi E [.int (f.1 (70 + x6) (Int32.toNatClampNeg x7))] (kX0_isTown _ _ _ _ _ _ _ _ _ _ _ h) (lw_V q811 q813 qs14 q83 q814) hdX0_isTown (Nat.le_of_ble_eq_true rfl) (Nat.le_of_ble_eq_true rfl) rfl (Nat.le_of_ble_eq_true rfl) dX0_walk_80 rfl (fun r_11 f_10 h => ?_)
    refine ag_if_ne E1 (tgt := 89) dX0_walk_83 (by decide) (fun c_83 => ?_) (fun c_83 => ?_)
    · have h := h.1 c_83
      refine ag_iincN E1 (lv' := fun x7_12 => [(7, .int x7_12), (0, .ref o), (1, .int x1), (2, .int x2), (3, .int x3), (4, .int x4), (6, .ref (o + 25 + 2 * x6))]) dX0_walk_89 6 rfl ki_1 (Nat.lt_of_lt_of_le (Nat.le_refl _) (Nat.le_of_ble_eq_true rfl)) (fun _ => rfl) (fun x7_12 e_x7_12 => ?_)
      have h := h x7_12 e_x7_12
      refine ag_goto E1 (tgt := 62) dX0_walk_92 (by decide) ?_
      refine ag_sub (lv' := [(0, .ref o), (1, .int x1), (2, .int x2), (3, .int x3), (4, .int x4), (6, .ref (o + 25 + 2 * x6)), (7, .int x7_12)]) [1, 2, 3, 4, 5, 6, 0] rfl ?_
      exact hK62 _ _ _ _ _ _ _ h
    · have h := h.2 c_83
      refine ag_bipush E1 dX0_walk_86 kb_m2 ?_
      exact ax_iret E rfl ⟨_, rfl, h⟩ dX0_walk_88
theorem tlX0_walk_62 (E : EX p R s m args meth c cX0_walk 11 RX0 (some .int) D cs b H0 (XKd b H0 ad vs) [] 5 117 z u) {Q : Int32 → XS → Prop} {K95 : Int32 → Int32 → Int32 → Int32 → Nat → XS → Prop} (hK95 : ∀ (x1 : Int32) (x2 : Int32) (x3 : Int32) (x4 : Int32) (x6 : Nat) (f : XS), K95 x1 x2 x3 x4 x6 f → AX p l e R s m args below meth c D cs b 11 o z u (xI Q) 95 [(0, .ref o), (1, .int x1), (2, .int x2), (3, .int x3), (4, .int x4), (6, .ref (o + 25 + 2 * x6))] [] f) : ∀ (n : Nat) (x1 : Int32) (x2 : Int32) (x3 : Int32) (x4 : Int32) (x6 : Nat) (x7 : Int32) (f : XS), wlX0_walk_62 b cs ad vs o K95 Q n x1 x2 x3 x4 x6 x7 f → AX p l e R s m args below meth c D cs b 11 o z u (xI Q) 62 [(0, .ref o), (1, .int x1), (2, .int x2), (3, .int x3), (4, .int x4), (6, .ref (o + 25 + 2 * x6)), (7, .int x7)] [] f := by
  intro n
  induction n with
  | zero => intro _ _ _ _ _ _ _ h; exact h.elim
  | succ n ih => intro x1 x2 x3 x4 x6 x7 f h; exact tbX0_walk_62 E ih hK95 h
theorem tbX0_walk_121 (E : EX p R s m args meth c cX0_walk 11 RX0 (some .int) D cs b H0 (XKd b H0 ad vs) [] 5 117 z u) {Q : Int32 → XS → Prop} {K121 : Int32 → Int32 → Nat → Int32 → Int32 → Int32 → XS → Prop} (hK121 : ∀ (x3 : Int32) (x4 : Int32) (x6 : Nat) (x7 : Int32) (x8 : Int32) (x9 : Int32) (f : XS), K121 x3 x4 x6 x7 x8 x9 f → AX p l e R s m args below meth c D cs b 11 o z u (xI Q) 121 [(0, .ref o), (3, .int x3), (4, .int x4), (6, .ref (o + 25 + 2 * x6)), (7, .int x7), (8, .int x8), (9, .int x9)] [] f) {K189 : Int32 → Int32 → Int32 → XS → Prop} (hK189 : ∀ (x3 : Int32) (x7 : Int32) (x8 : Int32) (f : XS), K189 x3 x7 x8 f → AX p l e R s m args below meth c D cs b 11 o z u (xI Q) 189 [(3, .int x3), (7, .int x7), (8, .int x8)] [] f) {x3 : Int32} {x4 : Int32} {x6 : Nat} {x7 : Int32} {x8 : Int32} {x9 : Int32} {f : XS} (h : wbX0_walk_121 b cs ad vs o K121 K189 Q x3 x4 x6 x7 x8 x9 f) : AX p l e R s m args below meth c D cs b 11 o z u (xI Q) 121 [(0, .ref o), (3, .int x3), (4, .int x4), (6, .ref (o + 25 + 2 * x6)), (7, .int x7), (8, .int x8), (9, .int x9)] [] f := by
  have E1 := E.1
  refine ag_iload E1 dX0_walk_121 6 rfl ?_
  refine ag_aload_n E1 dX0_walk_123 rfl 0 rfl ?_
  refine ax_geti E 7 (by decide) rfl q673 dX0_walk_124 ?_
  refine ag_icmp_ge E1 (tgt := 189) dX0_walk_127 (by decide) (fun c_127 => ?_) (fun c_127 => ?_)
  · have h := h.1 c_127
    refine ag_sub (lv' := [(3, .int x3), (7, .int x7), (8, .int x8)]) [1, 4, 5] rfl ?_
    exact hK189 _ _ _ _ h
  · have h := h.2 c_127
    refine ag_aload E1 dX0_walk_130 3 rfl ?_
    obtain ⟨ht_25, h⟩ := h
    refine ag_get E1 (ci := 2) (C := RX1) (T := TX1) (N := 3) (k := 2) (v := .ref (o + 26 + 2 * x6)) rfl in_X1 (by decide) q169 (fun _ h => h) dX0_walk_132 (wX_sheet ht_25) rfl ?_
    refine ag_iload E1 dX0_walk_135 6 rfl ?_
    obtain ⟨ht_26, h⟩ := h
    obtain ⟨hin_27, h⟩ := h
    refine ag_iald E1 (t0 := 0) (wX_cells ht_26) rfl hin_27 dX0_walk_137 ?_
    refine ag_topi (fun x10_28 e_x10_28 => ?_)
    have h := h x10_28 e_x10_28
    refine ag_istore E1 (lv' := [(10, .int x10_28), (0, .ref o), (3, .int x3), (4, .int x4), (6, .ref (o + 25 + 2 * x6)), (7, .int x7), (8, .int x8), (9, .int x9)]) dX0_walk_138 (Nat.lt_of_lt_of_le (Nat.le_refl _) (Nat.le_of_ble_eq_true rfl)) rfl ?_
    refine ag_aload_n E1 dX0_walk_140 rfl 1 rfl ?_
    refine ax_geta E 5 (i := 6) (by decide) rfl rfl q671 dX0_walk_141 ?_
    refine ag_bipush E1 dX0_walk_144 kb_6 ?_
    refine ag_iload E1 dX0_walk_146 5 rfl ?_
    refine ag_imul E1 dX0_walk_148 ?_
    refine ag_iload E1 dX0_walk_149 0 rfl ?_
    refine ag_iadd E1 dX0_walk_151 ?_
    obtain ⟨hin, h⟩ := h
    refine ax_iald E 5 rfl rfl rfl (by decide) hin dX0_walk_152 ?_
    refine ag_iload E1 dX0_walk_153 3 rfl ?_
    refine ag_icmp_le E1 (tgt := 164) dX0_walk_155 (by decide) (fun c_155 => ?_) (fun c_155 => ?_)
    · have h := h.1 c_155
      refine ag_iload E1 dX0_walk_164 6 rfl ?_
      refine ag_aload_n E1 dX0_walk_166 rfl 1 rfl ?_
      refine ag_iload E1 dX0_walk_167 0 rfl ?_
      refine ag_iload E1 dX0_walk_169 7 rfl ?_
      refine ag_iload E1 dX0_walk_171 6 rfl ?_
      refine ax_callVi E [.int x10_28, .int x9, .int x8] (kX0_sells _ _ _ _ _ _ _ _ _ _ _ _ _ h) (lw_V q1255 q1257 qs42 q83 q1258) hdX0_sells (Nat.le_of_ble_eq_true rfl) (Nat.le_of_ble_eq_true rfl) rfl (Nat.le_of_ble_eq_true rfl) dX0_walk_173 rfl (fun r_30 f_29 h => ?_)
      refine ag_isub E1 dX0_walk_176 ?_
      refine ag_topi (fun x8_31 e_x8_31 => ?_)
      have h := h x8_31 e_x8_31
      refine ag_istore E1 (lv' := [(8, .int x8_31), (10, .int x10_28), (0, .ref o), (3, .int x3), (4, .int x4), (6, .ref (o + 25 + 2 * x6)), (7, .int x7), (9, .int x9)]) dX0_walk_177 (Nat.lt_of_lt_of_le (Nat.le_refl _) (Nat.le_of_ble_eq_true rfl)) rfl ?_
      refine ag_iload E1 dX0_walk_179 1 rfl ?_
      refine ag_istore E1 (lv' := [(7, .int x10_28), (8, .int x8_31), (10, .int x10_28), (0, .ref o), (3, .int x3), (4, .int x4), (6, .ref (o + 25 + 2 * x6)), (9, .int x9)]) dX0_walk_181 (Nat.lt_of_lt_of_le (Nat.le_refl _) (Nat.le_of_ble_eq_true rfl)) rfl ?_
      refine ag_iincN E1 (lv' := fun x9_32 => [(9, .int x9_32), (7, .int x10_28), (8, .int x8_31), (10, .int x10_28), (0, .ref o), (3, .int x3), (4, .int x4), (6, .ref (o + 25 + 2 * x6))]) dX0_walk_183 7 rfl ki_1 (Nat.lt_of_lt_of_le (Nat.le_refl _) (Nat.le_of_ble_eq_true rfl)) (fun _ => rfl) (fun x9_32 e_x9_32 => ?_)
      have h := h x9_32 e_x9_32
      refine ag_goto E1 (tgt := 121) dX0_walk_186 (by decide) ?_
      refine ag_sub (lv' := [(0, .ref o), (3, .int x3), (4, .int x4), (6, .ref (o + 25 + 2 * x6)), (7, .int x10_28), (8, .int x8_31), (9, .int x9_32)]) [4, 5, 6, 7, 1, 2, 0] rfl ?_
      exact hK121 _ _ _ _ _ _ _ h
    · have h := h.2 c_155
      refine ag_bipush E1 dX0_walk_158 kb_m20 ?_
      refine ag_iload E1 dX0_walk_160 7 rfl ?_
      refine ag_isub E1 dX0_walk_162 ?_
      exact ax_iret E rfl ⟨_, rfl, h⟩ dX0_walk_163
theorem tlX0_walk_121 (E : EX p R s m args meth c cX0_walk 11 RX0 (some .int) D cs b H0 (XKd b H0 ad vs) [] 5 117 z u) {Q : Int32 → XS → Prop} {K189 : Int32 → Int32 → Int32 → XS → Prop} (hK189 : ∀ (x3 : Int32) (x7 : Int32) (x8 : Int32) (f : XS), K189 x3 x7 x8 f → AX p l e R s m args below meth c D cs b 11 o z u (xI Q) 189 [(3, .int x3), (7, .int x7), (8, .int x8)] [] f) : ∀ (n : Nat) (x3 : Int32) (x4 : Int32) (x6 : Nat) (x7 : Int32) (x8 : Int32) (x9 : Int32) (f : XS), wlX0_walk_121 b cs ad vs o K189 Q n x3 x4 x6 x7 x8 x9 f → AX p l e R s m args below meth c D cs b 11 o z u (xI Q) 121 [(0, .ref o), (3, .int x3), (4, .int x4), (6, .ref (o + 25 + 2 * x6)), (7, .int x7), (8, .int x8), (9, .int x9)] [] f := by
  intro n
  induction n with
  | zero => intro _ _ _ _ _ _ _ h; exact h.elim
  | succ n ih => intro x3 x4 x6 x7 x8 x9 f h; exact tbX0_walk_121 E ih hK189 h
theorem kX0_walk (l : Launch) (D : va_G) (cs : Nat → ClassId) (b : Nat) (H0 : Heap) (ad : Nat → Nat) (vs : Nat → Option Nat) (o : Nat) (f : XS) (x1 : Int32) (x2 : Int32) (x3 : Int32) (x4 : Int32) (x5 : Int32) (Q : Int32 → XS → Prop) (h : wX0_walk b cs ad vs o f x1 x2 x3 x4 x5 Q) : CX l D cs b H0 (XKd b H0 ad vs) o yX0_walk cX0_walk 11 (some .int) 5 117 [.ref o, .int x1, .int x2, .int x3, .int x4, .int x5] f (xI Q) := by
  refine cx_of (by decide) (Nat.le_of_ble_eq_true rfl) (fun p e R s m below meth c E => ?_)
  have E1 := E.1
  refine ag_sub (lv' := [(0, .ref o), (1, .int x1), (2, .int x2), (3, .int x3), (4, .int x4), (5, .int x5)]) [0, 1, 2, 3, 4, 5] rfl ?_
  refine ag_aload_n E1 dX0_walk_0 rfl 0 rfl ?_
  refine ag_iload_n E1 dX0_walk_1 rfl 1 rfl ?_
  refine ag_iload_n E1 dX0_walk_2 rfl 2 rfl ?_
  refine ag_iload_n E1 dX0_walk_3 rfl 3 rfl ?_
  refine ag_iload E1 dX0_walk_4 4 rfl ?_
  refine ag_iconst E1 dX0_walk_6 ki_0 ?_
  refine ax_callVi E [.int x1, .int x2, .int x3, .int x4, .int (0 : Int32)] (kX0_isRound _ _ _ _ _ _ _ _ _ _ _ _ _ _ _ h) (lw_V q1242 q1244 qs39 q83 q1245) hdX0_isRound (Nat.le_of_ble_eq_true rfl) (Nat.le_of_ble_eq_true rfl) rfl (Nat.le_of_ble_eq_true rfl) dX0_walk_7 rfl (fun r_2 f_1 h => ?_)
  refine ag_if_eq E1 (tgt := 21) dX0_walk_10 (by decide) (fun c_10 => ?_) (fun c_10 => ?_)
  · have h := h.1 c_10
    refine ag_bipush E1 dX0_walk_21 kb_m2 ?_
    exact ax_iret E rfl ⟨_, rfl, h⟩ dX0_walk_23
  · have h := h.2 c_10
    refine ag_iload E1 dX0_walk_13 5 rfl ?_
    refine ag_callPi E1 (As := [.int x5]) (kX0_isSheet _ _ _ _ _ _ _ _ _ _ h) (lw_S q898 q899 q83 q900) hdX0_isSheet (Nat.le_of_ble_eq_true rfl) (Nat.le_of_ble_eq_true rfl) rfl (Nat.le_of_ble_eq_true rfl) dX0_walk_15 rfl (fun r_3 h => ?_)
    refine ag_if_ne E1 (tgt := 24) dX0_walk_18 (by decide) (fun c_18 => ?_) (fun c_18 => ?_)
    · have h := h.1 c_18
      refine ag_aload_n E1 dX0_walk_24 rfl 0 rfl ?_
      refine ax_geto E 42 (i := 24) (by decide) rfl (fun _ => rfl) q708 dX0_walk_25 ?_
      refine ag_iload E1 dX0_walk_28 5 rfl ?_
      obtain ⟨hin_4, h⟩ := h
      refine ag_aald E1 (t0 := 7) wX_sheets rfl rfl hin_4 dX0_walk_30 (v := .ref (o + 25 + 2 * (Int32.toNatClampNeg x5))) rfl ?_
      refine ag_astore E1 (lv' := [(6, .ref (o + 25 + 2 * (Int32.toNatClampNeg x5))), (0, .ref o), (1, .int x1), (2, .int x2), (3, .int x3), (4, .int x4), (5, .int x5)]) dX0_walk_31 (Nat.lt_of_lt_of_le (Nat.le_refl _) (Nat.le_of_ble_eq_true rfl)) rfl ?_
      refine ag_aload E1 dX0_walk_33 0 rfl ?_
      obtain ⟨ht_5, h⟩ := h
      refine ag_get E1 (ci := 2) (C := RX1) (T := TX1) (N := 3) (k := 0) (v := .int (f_1.1 (60 + (Int32.toNatClampNeg x5)) 0)) rfl in_X1 (by decide) q165 (fun _ h => h) dX0_walk_35 (wX_sheet ht_5) rfl ?_
      refine ag_if_ge E1 (tgt := 44) dX0_walk_38 (by decide) (fun c_38 => ?_) (fun c_38 => ?_)
      · have h := h.1 c_38
        refine ag_aload E1 dX0_walk_44 0 rfl ?_
        obtain ⟨ht_6, h⟩ := h
        refine ag_get E1 (ci := 2) (C := RX1) (T := TX1) (N := 3) (k := 1) (v := .int (f_1.1 (60 + (Int32.toNatClampNeg x5)) 1)) rfl in_X1 (by decide) q167 (fun _ h => h) dX0_walk_46 (wX_sheet ht_6) rfl ?_
        refine ag_aload_n E1 dX0_walk_49 rfl 1 rfl ?_
        refine ax_geti E 7 (by decide) rfl q673 dX0_walk_50 ?_
        refine ag_icmp_eq E1 (tgt := 59) dX0_walk_53 (by decide) (fun c_53 => ?_) (fun c_53 => ?_)
        · have h := h.1 c_53
          refine ag_iconst E1 dX0_walk_59 ki_0 ?_
          refine ag_istore E1 (lv' := [(7, .int (0 : Int32)), (6, .ref (o + 25 + 2 * (Int32.toNatClampNeg x5))), (0, .ref o), (1, .int x1), (2, .int x2), (3, .int x3), (4, .int x4), (5, .int x5)]) dX0_walk_60 (Nat.lt_of_lt_of_le (Nat.le_refl _) (Nat.le_of_ble_eq_true rfl)) rfl ?_
          refine ag_sub (lv' := [(0, .ref o), (1, .int x1), (2, .int x2), (3, .int x3), (4, .int x4), (6, .ref (o + 25 + 2 * (Int32.toNatClampNeg x5))), (7, .int (0 : Int32))]) [2, 3, 4, 5, 6, 1, 0] rfl ?_
          obtain ⟨n, h⟩ := h
          refine tlX0_walk_62 E ?_ n _ _ _ _ _ _ _ h
          · intro x1 x2 x3 x4 x6 f h
            refine ag_aload_n E1 dX0_walk_95 rfl 0 rfl ?_
            refine ag_aload_n E1 dX0_walk_96 rfl 0 rfl ?_
            refine ax_geto E 11 (i := 9) (by decide) rfl (fun _ => rfl) q677 dX0_walk_97 ?_
            refine ag_iload_n E1 dX0_walk_100 rfl 1 rfl ?_
            obtain ⟨hF_14, h⟩ := h
            obtain ⟨y_15, v_16, y_17, hP_18_z, h⟩ := h
            have hP_18 := (wX_at (cs := cs) hF_14).trans hP_18_z
            refine ag_callV E1 (ci := 16) (C := RJ2) (T0 := TJ2) (n2 := 3) hP_18 rfl (kJ2_get _ _ _ _ _ _ _ _ _ _ _ h) (lw_V q1054 q1055 q1056 q86 q1057) ⟨rfl, hdJ2_get⟩ (Nat.le_of_ble_eq_true rfl) (Nat.le_of_ble_eq_true rfl) (As := [.int x1]) rfl (Nat.le_of_ble_eq_true rfl) dX0_walk_101 (fun v_ f_13_w hv => ?_) rfl
            obtain ⟨r_19, rfl, f_13, rfl, h⟩ := hv
            obtain ⟨ci_20, cV_21, hv_22, ho_23, h⟩ := h
            refine ag_castO E1 hv_22 (gOk_ok ho_23) q909 dX0_walk_104 ?_
            refine ag_iload_n E1 dX0_walk_107 rfl 2 rfl ?_
            refine ax_callVv E [.ref r_19, .int x2] (kX0_looks _ _ _ _ _ _ _ _ _ _ _ _ h) (lw_V q1105 q1107 qs24 q83 q1108) hdX0_looks (Nat.le_of_ble_eq_true rfl) (Nat.le_of_ble_eq_true rfl) rfl (Nat.le_of_ble_eq_true rfl) dX0_walk_108 rfl (fun f_24 h => ?_)
            refine ag_iload_n E1 dX0_walk_111 rfl 3 rfl ?_
            refine ag_istore E1 (lv' := [(7, .int x3), (0, .ref o), (1, .int x1), (2, .int x2), (3, .int x3), (4, .int x4), (6, .ref (o + 25 + 2 * x6))]) dX0_walk_112 (Nat.lt_of_lt_of_le (Nat.le_refl _) (Nat.le_of_ble_eq_true rfl)) rfl ?_
            refine ag_bipush E1 dX0_walk_114 kb_40 ?_
            refine ag_istore E1 (lv' := [(8, .int (40 : Int32)), (7, .int x3), (0, .ref o), (1, .int x1), (2, .int x2), (3, .int x3), (4, .int x4), (6, .ref (o + 25 + 2 * x6))]) dX0_walk_116 (Nat.lt_of_lt_of_le (Nat.le_refl _) (Nat.le_of_ble_eq_true rfl)) rfl ?_
            refine ag_iconst E1 dX0_walk_118 ki_0 ?_
            refine ag_istore E1 (lv' := [(9, .int (0 : Int32)), (8, .int (40 : Int32)), (7, .int x3), (0, .ref o), (1, .int x1), (2, .int x2), (3, .int x3), (4, .int x4), (6, .ref (o + 25 + 2 * x6))]) dX0_walk_119 (Nat.lt_of_lt_of_le (Nat.le_refl _) (Nat.le_of_ble_eq_true rfl)) rfl ?_
            refine ag_sub (lv' := [(0, .ref o), (3, .int x3), (4, .int x4), (6, .ref (o + 25 + 2 * x6)), (7, .int x3), (8, .int (40 : Int32)), (9, .int (0 : Int32))]) [3, 6, 7, 8, 2, 1, 0] rfl ?_
            obtain ⟨n, h⟩ := h
            refine tlX0_walk_121 E ?_ n _ _ _ _ _ _ _ h
            · intro x3 x7 x8 f h
              refine ag_iload E1 dX0_walk_189 1 rfl ?_
              refine ag_iload_n E1 dX0_walk_191 rfl 0 rfl ?_
              refine ag_icmp_ne E1 (tgt := 203) dX0_walk_192 (by decide) (fun c_192 => ?_) (fun c_192 => ?_)
              · have h := h.1 c_192
                refine ag_bipush E1 dX0_walk_203 kb_m100 ?_
                exact ax_iret E rfl ⟨_, rfl, h⟩ dX0_walk_205
              · have h := h.2 c_192
                refine ag_bipush E1 dX0_walk_195 kb_40 ?_
                refine ag_iload E1 dX0_walk_197 2 rfl ?_
                refine ag_isub E1 dX0_walk_199 ?_
                refine ag_goto E1 (tgt := 205) dX0_walk_200 (by decide) ?_
                exact ax_iret E rfl ⟨_, rfl, h⟩ dX0_walk_205
        · have h := h.2 c_53
          refine ag_bipush E1 dX0_walk_56 kb_m2 ?_
          exact ax_iret E rfl ⟨_, rfl, h⟩ dX0_walk_58
      · have h := h.2 c_38
        refine ag_bipush E1 dX0_walk_41 kb_m11 ?_
        exact ax_iret E rfl ⟨_, rfl, h⟩ dX0_walk_43
    · have h := h.2 c_18
      refine ag_bipush E1 dX0_walk_21 kb_m2 ?_
      exact ax_iret E rfl ⟨_, rfl, h⟩ dX0_walk_23
theorem hdX0_walk : yX0_walk.cls = RX0 ∧ yX0_walk.cls ≠ "java/lang/invoke/MethodHandle" ∧ yX0_walk.cls ≠ "java/lang/invoke/VarHandle" ∧ (parseMethodDescriptor yX0_walk.desc).map (fun d => d.parameters.length) = some 5 := by decide +kernel
theorem kX0_givingTold (l : Launch) (D : va_G) (cs : Nat → ClassId) (b : Nat) (H0 : Heap) (ad : Nat → Nat) (vs : Nat → Option Nat) (o : Nat) (f : XS) (x1 : Int32) (x2 : Int32) (Q : Int32 → XS → Prop) (h : wX0_givingTold b cs ad vs o f x1 x2 Q) : CX l D cs b H0 (XKd b H0 ad vs) o yX0_givingTold cX0_givingTold 4 (some .int) 3 64 [.ref o, .int x1, .int x2] f (xI Q) := by
  refine cx_of (by decide) (Nat.le_of_ble_eq_true rfl) (fun p e R s m below meth c E => ?_)
  have E1 := E.1
  refine ag_sub (lv' := [(0, .ref o), (1, .int x1), (2, .int x2)]) [0, 1, 2] rfl ?_
  refine ag_aload_n E1 dX0_givingTold_0 rfl 0 rfl ?_
  refine ag_iload_n E1 dX0_givingTold_1 rfl 1 rfl ?_
  refine ax_callVi E [.int x1] (kX0_isGiving _ _ _ _ _ _ _ _ _ _ _ h) (lw_V q1050 q1052 qs22 q83 q1053) hdX0_isGiving (Nat.le_of_ble_eq_true rfl) (Nat.le_of_ble_eq_true rfl) rfl (Nat.le_of_ble_eq_true rfl) dX0_givingTold_2 rfl (fun r_2 f_1 h => ?_)
  refine ag_if_ne E1 (tgt := 11) dX0_givingTold_5 (by decide) (fun c_5 => ?_) (fun c_5 => ?_)
  · have h := h.1 c_5
    refine ag_aload_n E1 dX0_givingTold_11 rfl 0 rfl ?_
    refine ax_geto E 11 (i := 9) (by decide) rfl (fun _ => rfl) q677 dX0_givingTold_12 ?_
    refine ag_iload_n E1 dX0_givingTold_15 rfl 1 rfl ?_
    obtain ⟨hF_4, h⟩ := h
    obtain ⟨y_5, v_6, y_7, hP_8_z, h⟩ := h
    have hP_8 := (wX_at (cs := cs) hF_4).trans hP_8_z
    refine ag_callV E1 (ci := 16) (C := RJ2) (T0 := TJ2) (n2 := 3) hP_8 rfl (kJ2_get _ _ _ _ _ _ _ _ _ _ _ h) (lw_V q1054 q1055 q1056 q86 q1057) ⟨rfl, hdJ2_get⟩ (Nat.le_of_ble_eq_true rfl) (Nat.le_of_ble_eq_true rfl) (As := [.int x1]) rfl (Nat.le_of_ble_eq_true rfl) dX0_givingTold_16 (fun v_ f_3_w hv => ?_) rfl
    obtain ⟨r_9, rfl, f_3, rfl, h⟩ := hv
    obtain ⟨ci_10, cV_11, hv_12, ho_13, h⟩ := h
    refine ag_castO E1 hv_12 (gOk_ok ho_13) q909 dX0_givingTold_19 ?_
    refine ag_astore_n E1 (lv' := [(3, .ref r_9), (0, .ref o), (1, .int x1), (2, .int x2)]) dX0_givingTold_22 rfl (Nat.lt_of_lt_of_le (Nat.le_refl _) (Nat.le_of_ble_eq_true rfl)) rfl ?_
    refine ag_iload_n E1 dX0_givingTold_23 rfl 3 rfl ?_
    rcases Classical.em (x2 = (0 : Int32)) with c_24_0 | c_24_0
    · have h := h.1 c_24_0
      refine ag_tableIn E1 (tgt := 52) (off := 28) dX0_givingTold_24 (by rw [c_24_0]; decide) (by rw [c_24_0]; decide) (by rw [c_24_0]; decide) (by decide) ?_
      refine ag_aload_n E1 dX0_givingTold_52 rfl 0 rfl ?_
      refine av_kind E1 h q1275 (Nat.le_of_ble_eq_true rfl) (Nat.le_of_ble_eq_true rfl) (Nat.le_of_ble_eq_true rfl) dX0_givingTold_53 (fun r_14 f_15_w h => ?_)
      obtain ⟨f_15, rfl, h⟩ := h
      exact ax_iret E rfl ⟨_, rfl, h⟩ dX0_givingTold_56
    · have h := h.2 c_24_0
      have n_0 := lv_neT c_24_0 (show (0 : Int32).toInt = 0 by decide)
      rcases Classical.em (x2 = (1 : Int32)) with c_24_1 | c_24_1
      · have h := h.1 c_24_1
        refine ag_tableIn E1 (tgt := 57) (off := 33) dX0_givingTold_24 (by rw [c_24_1]; decide) (by rw [c_24_1]; decide) (by rw [c_24_1]; decide) (by decide) ?_
        refine ag_aload_n E1 dX0_givingTold_57 rfl 0 rfl ?_
        obtain ⟨hF_16, h⟩ := h
        obtain ⟨ci_17, y_18, y_19, v_20, hz_21, ho_22, h⟩ := h
        refine ag_givf E1 1 (by decide) ho_22 q918 dX0_givingTold_58 ((wX_at hF_16).trans hz_21) rfl ?_
        exact ax_iret E rfl ⟨_, rfl, h⟩ dX0_givingTold_61
      · have h := h.2 c_24_1
        have n_1 := lv_neT c_24_1 (show (1 : Int32).toInt = 1 by decide)
        rcases Classical.em (x2 = (2 : Int32)) with c_24_2 | c_24_2
        · have h := h.1 c_24_2
          refine ag_tableIn E1 (tgt := 62) (off := 38) dX0_givingTold_24 (by rw [c_24_2]; decide) (by rw [c_24_2]; decide) (by rw [c_24_2]; decide) (by decide) ?_
          refine ag_aload_n E1 dX0_givingTold_62 rfl 0 rfl ?_
          refine av_moves E1 h q1089 (Nat.le_of_ble_eq_true rfl) (Nat.le_of_ble_eq_true rfl) (Nat.le_of_ble_eq_true rfl) dX0_givingTold_63 (fun r_23 f_24_w h => ?_)
          obtain ⟨f_24, rfl, h⟩ := h
          refine ag_if_eq E1 (tgt := 73) dX0_givingTold_66 (by decide) (fun c_66 => ?_) (fun c_66 => ?_)
          · have h := h.1 c_66
            refine ag_iconst E1 dX0_givingTold_73 ki_0 ?_
            exact ax_iret E rfl ⟨_, rfl, h⟩ dX0_givingTold_74
          · have h := h.2 c_66
            refine ag_iconst E1 dX0_givingTold_69 ki_1 ?_
            refine ag_goto E1 (tgt := 74) dX0_givingTold_70 (by decide) ?_
            exact ax_iret E rfl ⟨_, rfl, h⟩ dX0_givingTold_74
        · have h := h.2 c_24_2
          have n_2 := lv_neT c_24_2 (show (2 : Int32).toInt = 2 by decide)
          refine ag_tableOut E1 (tgt := 75) dX0_givingTold_24 (by omega) (by decide) ?_
          refine ag_bipush E1 dX0_givingTold_75 kb_m7 ?_
          exact ax_iret E rfl ⟨_, rfl, h⟩ dX0_givingTold_77
  · have h := h.2 c_5
    refine ag_bipush E1 dX0_givingTold_8 kb_m5 ?_
    exact ax_iret E rfl ⟨_, rfl, h⟩ dX0_givingTold_10
theorem hdX0_givingTold : yX0_givingTold.cls = RX0 ∧ yX0_givingTold.cls ≠ "java/lang/invoke/MethodHandle" ∧ yX0_givingTold.cls ≠ "java/lang/invoke/VarHandle" ∧ (parseMethodDescriptor yX0_givingTold.desc).map (fun d => d.parameters.length) = some 2 := by decide +kernel
theorem kX0_count (l : Launch) (D : va_G) (cs : Nat → ClassId) (b : Nat) (H0 : Heap) (ad : Nat → Nat) (vs : Nat → Option Nat) (o : Nat) (f : XS) (x1 : Int32) (Q : Int32 → XS → Prop) (h : wX0_count b cs ad vs o f x1 Q) : CX l D cs b H0 (XKd b H0 ad vs) o yX0_count cX0_count 2 (some .int) 1 20 [.ref o, .int x1] f (xI Q) := by
  refine cx_of (by decide) (Nat.le_of_ble_eq_true rfl) (fun p e R s m below meth c E => ?_)
  have E1 := E.1
  refine ag_sub (lv' := [(0, .ref o), (1, .int x1)]) [0, 1] rfl ?_
  refine ag_iload_n E1 dX0_count_0 rfl 1 rfl ?_
  rcases Classical.em (x1 = (0 : Int32)) with c_1_0 | c_1_0
  · have h := h.1 c_1_0
    refine ag_tableIn E1 (tgt := 44) (off := 43) dX0_count_1 (by rw [c_1_0]; decide) (by rw [c_1_0]; decide) (by rw [c_1_0]; decide) (by decide) ?_
    refine ag_aload_n E1 dX0_count_44 rfl 0 rfl ?_
    refine ax_geti E 6 (by decide) rfl q672 dX0_count_45 ?_
    exact ax_iret E rfl ⟨_, rfl, h⟩ dX0_count_48
  · have h := h.2 c_1_0
    have n_0 := lv_neT c_1_0 (show (0 : Int32).toInt = 0 by decide)
    rcases Classical.em (x1 = (1 : Int32)) with c_1_1 | c_1_1
    · have h := h.1 c_1_1
      refine ag_tableIn E1 (tgt := 49) (off := 48) dX0_count_1 (by rw [c_1_1]; decide) (by rw [c_1_1]; decide) (by rw [c_1_1]; decide) (by decide) ?_
      refine ag_aload_n E1 dX0_count_49 rfl 0 rfl ?_
      refine ax_geti E 7 (by decide) rfl q673 dX0_count_50 ?_
      exact ax_iret E rfl ⟨_, rfl, h⟩ dX0_count_53
    · have h := h.2 c_1_1
      have n_1 := lv_neT c_1_1 (show (1 : Int32).toInt = 1 by decide)
      rcases Classical.em (x1 = (2 : Int32)) with c_1_2 | c_1_2
      · have h := h.1 c_1_2
        refine ag_tableIn E1 (tgt := 54) (off := 53) dX0_count_1 (by rw [c_1_2]; decide) (by rw [c_1_2]; decide) (by rw [c_1_2]; decide) (by decide) ?_
        refine ag_aload_n E1 dX0_count_54 rfl 0 rfl ?_
        refine ax_geti E 10 (by decide) rfl q676 dX0_count_55 ?_
        exact ax_iret E rfl ⟨_, rfl, h⟩ dX0_count_58
      · have h := h.2 c_1_2
        have n_2 := lv_neT c_1_2 (show (2 : Int32).toInt = 2 by decide)
        rcases Classical.em (x1 = (3 : Int32)) with c_1_3 | c_1_3
        · have h := h.1 c_1_3
          refine ag_tableIn E1 (tgt := 59) (off := 58) dX0_count_1 (by rw [c_1_3]; decide) (by rw [c_1_3]; decide) (by rw [c_1_3]; decide) (by decide) ?_
          refine ag_aload_n E1 dX0_count_59 rfl 0 rfl ?_
          refine ax_geto E 11 (i := 9) (by decide) rfl (fun _ => rfl) q677 dX0_count_60 ?_
          obtain ⟨hF_2, h⟩ := h
          obtain ⟨y_3, v_4, y_5, hP_6_z, h⟩ := h
          have hP_6 := (wX_at (cs := cs) hF_2).trans hP_6_z
          refine ag_callV E1 (ci := 16) (C := RJ2) (T0 := TJ2) (n2 := 3) hP_6 rfl (kJ2_size _ _ _ _ _ _ _ _ _ _ h) (lw_V q902 q903 q904 q86 q905) ⟨rfl, hdJ2_size⟩ (Nat.le_of_ble_eq_true rfl) (Nat.le_of_ble_eq_true rfl) (As := []) rfl (Nat.le_of_ble_eq_true rfl) dX0_count_63 (fun v_ f_1_w hv => ?_) rfl
          obtain ⟨r_7, rfl, f_1, rfl, h⟩ := hv
          exact ax_iret E rfl ⟨_, rfl, h⟩ dX0_count_66
        · have h := h.2 c_1_3
          have n_3 := lv_neT c_1_3 (show (3 : Int32).toInt = 3 by decide)
          rcases Classical.em (x1 = (4 : Int32)) with c_1_4 | c_1_4
          · have h := h.1 c_1_4
            refine ag_tableIn E1 (tgt := 67) (off := 66) dX0_count_1 (by rw [c_1_4]; decide) (by rw [c_1_4]; decide) (by rw [c_1_4]; decide) (by decide) ?_
            refine ag_aload_n E1 dX0_count_67 rfl 0 rfl ?_
            refine ax_geti E 39 (by decide) rfl q705 dX0_count_68 ?_
            exact ax_iret E rfl ⟨_, rfl, h⟩ dX0_count_71
          · have h := h.2 c_1_4
            have n_4 := lv_neT c_1_4 (show (4 : Int32).toInt = 4 by decide)
            rcases Classical.em (x1 = (5 : Int32)) with c_1_5 | c_1_5
            · have h := h.1 c_1_5
              refine ag_tableIn E1 (tgt := 72) (off := 71) dX0_count_1 (by rw [c_1_5]; decide) (by rw [c_1_5]; decide) (by rw [c_1_5]; decide) (by decide) ?_
              refine ag_aload_n E1 dX0_count_72 rfl 0 rfl ?_
              refine ax_geti E 13 (by decide) rfl q679 dX0_count_73 ?_
              exact ax_iret E rfl ⟨_, rfl, h⟩ dX0_count_76
            · have h := h.2 c_1_5
              have n_5 := lv_neT c_1_5 (show (5 : Int32).toInt = 5 by decide)
              rcases Classical.em (x1 = (6 : Int32)) with c_1_6 | c_1_6
              · have h := h.1 c_1_6
                refine ag_tableIn E1 (tgt := 77) (off := 76) dX0_count_1 (by rw [c_1_6]; decide) (by rw [c_1_6]; decide) (by rw [c_1_6]; decide) (by decide) ?_
                refine ag_aload_n E1 dX0_count_77 rfl 0 rfl ?_
                refine ax_geti E 41 (by decide) rfl q707 dX0_count_78 ?_
                exact ax_iret E rfl ⟨_, rfl, h⟩ dX0_count_81
              · have h := h.2 c_1_6
                have n_6 := lv_neT c_1_6 (show (6 : Int32).toInt = 6 by decide)
                refine ag_tableOut E1 (tgt := 82) dX0_count_1 (by omega) (by decide) ?_
                refine ag_bipush E1 dX0_count_82 kb_m2 ?_
                exact ax_iret E rfl ⟨_, rfl, h⟩ dX0_count_84
theorem hdX0_count : yX0_count.cls = RX0 ∧ yX0_count.cls ≠ "java/lang/invoke/MethodHandle" ∧ yX0_count.cls ≠ "java/lang/invoke/VarHandle" ∧ (parseMethodDescriptor yX0_count.desc).map (fun d => d.parameters.length) = some 1 := by decide +kernel
theorem kX0_image (l : Launch) (D : va_G) (cs : Nat → ClassId) (b : Nat) (H0 : Heap) (ad : Nat → Nat) (vs : Nat → Option Nat) (o : Nat) (f : XS)  (Q : Int32 → XS → Prop) (h : wX0_image b cs ad vs o f  Q) : CX l D cs b H0 (XKd b H0 ad vs) o yX0_image cX0_image 1 (some .int) 1 40 [.ref o] f (xI Q) := by
  refine cx_of (by decide) (Nat.le_of_ble_eq_true rfl) (fun p e R s m below meth c E => ?_)
  have E1 := E.1
  refine ag_sub (lv' := [(0, .ref o)]) [0] rfl ?_
  refine ag_aload_n E1 dX0_image_0 rfl 0 rfl ?_
  refine ax_geta E 1 (i := 2) (by decide) rfl rfl q667 dX0_image_1 ?_
  refine ag_iconst E1 dX0_image_4 ki_0 ?_
  refine ag_aload_n E1 dX0_image_5 rfl 0 rfl ?_
  refine ax_geta E 30 (i := 18) (by decide) rfl rfl q696 dX0_image_6 ?_
  refine ag_iconst E1 dX0_image_9 ki_0 ?_
  refine ag_bipush E1 dX0_image_10 kb_6 ?_
  obtain ⟨hc_1, hc_2, hc_3, hc_4, hc_5, h⟩ := h
  refine ag_copyi E1 (t0 := 0) q1198 q360 q359 q98 (wX_arr (k := 1) rfl rfl rfl rfl (by decide)) (wX_arr (k := 30) rfl rfl rfl rfl (by decide)) rfl rfl hc_1 hc_2 hc_3 hc_4 hc_5 (fun _ _ => rfl) (Nat.le_of_ble_eq_true rfl) (Nat.le_of_ble_eq_true rfl) (Nat.le_of_ble_eq_true rfl) dX0_image_12 (fun f_6_w e_7_w => ?_)
  refine ag_eqX (e_7_w.trans (wX_row (k := 30) rfl rfl rfl rfl (by decide))) (fun f_6 e_7 => ?_)
  have h := h f_6 e_7
  refine ag_aload_n E1 dX0_image_15 rfl 0 rfl ?_
  refine ax_geta E 2 (i := 3) (by decide) rfl rfl q668 dX0_image_16 ?_
  refine ag_iconst E1 dX0_image_19 ki_0 ?_
  refine ag_aload_n E1 dX0_image_20 rfl 0 rfl ?_
  refine ax_geta E 31 (i := 19) (by decide) rfl rfl q697 dX0_image_21 ?_
  refine ag_iconst E1 dX0_image_24 ki_0 ?_
  refine ag_bipush E1 dX0_image_25 kb_6 ?_
  obtain ⟨hc_8, hc_9, hc_10, hc_11, hc_12, h⟩ := h
  refine ag_copyi E1 (t0 := 0) q1198 q360 q359 q98 (wX_arr (k := 2) rfl rfl rfl rfl (by decide)) (wX_arr (k := 31) rfl rfl rfl rfl (by decide)) rfl rfl hc_8 hc_9 hc_10 hc_11 hc_12 (fun _ _ => rfl) (Nat.le_of_ble_eq_true rfl) (Nat.le_of_ble_eq_true rfl) (Nat.le_of_ble_eq_true rfl) dX0_image_27 (fun f_13_w e_14_w => ?_)
  refine ag_eqX (e_14_w.trans (wX_row (k := 31) rfl rfl rfl rfl (by decide))) (fun f_13 e_14 => ?_)
  have h := h f_13 e_14
  refine ag_aload_n E1 dX0_image_30 rfl 0 rfl ?_
  refine ax_geta E 3 (i := 4) (by decide) rfl rfl q669 dX0_image_31 ?_
  refine ag_iconst E1 dX0_image_34 ki_0 ?_
  refine ag_aload_n E1 dX0_image_35 rfl 0 rfl ?_
  refine ax_geta E 32 (i := 20) (by decide) rfl rfl q698 dX0_image_36 ?_
  refine ag_iconst E1 dX0_image_39 ki_0 ?_
  refine ag_bipush E1 dX0_image_40 kb_6 ?_
  obtain ⟨hc_15, hc_16, hc_17, hc_18, hc_19, h⟩ := h
  refine ag_copyi E1 (t0 := 0) q1198 q360 q359 q98 (wX_arr (k := 3) rfl rfl rfl rfl (by decide)) (wX_arr (k := 32) rfl rfl rfl rfl (by decide)) rfl rfl hc_15 hc_16 hc_17 hc_18 hc_19 (fun _ _ => rfl) (Nat.le_of_ble_eq_true rfl) (Nat.le_of_ble_eq_true rfl) (Nat.le_of_ble_eq_true rfl) dX0_image_42 (fun f_20_w e_21_w => ?_)
  refine ag_eqX (e_21_w.trans (wX_row (k := 32) rfl rfl rfl rfl (by decide))) (fun f_20 e_21 => ?_)
  have h := h f_20 e_21
  refine ag_aload_n E1 dX0_image_45 rfl 0 rfl ?_
  refine ax_geta E 4 (i := 5) (by decide) rfl rfl q670 dX0_image_46 ?_
  refine ag_iconst E1 dX0_image_49 ki_0 ?_
  refine ag_aload_n E1 dX0_image_50 rfl 0 rfl ?_
  refine ax_geta E 33 (i := 21) (by decide) rfl rfl q699 dX0_image_51 ?_
  refine ag_iconst E1 dX0_image_54 ki_0 ?_
  refine ag_aload_n E1 dX0_image_55 rfl 0 rfl ?_
  refine ax_geta E 4 (i := 5) (by decide) rfl rfl q670 dX0_image_56 ?_
  refine ag_alen E1 (t0 := 0) (v := (36 : Int32)) (wX_arr (k := 4) rfl rfl rfl rfl (by decide)) rfl rfl dX0_image_59 ?_
  obtain ⟨hc_22, hc_23, hc_24, hc_25, hc_26, h⟩ := h
  refine ag_copyi E1 (t0 := 0) q1198 q360 q359 q98 (wX_arr (k := 4) rfl rfl rfl rfl (by decide)) (wX_arr (k := 33) rfl rfl rfl rfl (by decide)) rfl rfl hc_22 hc_23 hc_24 hc_25 hc_26 (fun _ _ => rfl) (Nat.le_of_ble_eq_true rfl) (Nat.le_of_ble_eq_true rfl) (Nat.le_of_ble_eq_true rfl) dX0_image_60 (fun f_27_w e_28_w => ?_)
  refine ag_eqX (e_28_w.trans (wX_row (k := 33) rfl rfl rfl rfl (by decide))) (fun f_27 e_28 => ?_)
  have h := h f_27 e_28
  refine ag_aload_n E1 dX0_image_63 rfl 0 rfl ?_
  refine ag_aload_n E1 dX0_image_64 rfl 0 rfl ?_
  refine ax_geti E 6 (by decide) rfl q672 dX0_image_65 ?_
  refine ax_puti E 34 (by decide) rfl q700 rfl (ty := .int) (by decide +kernel) rfl rfl dX0_image_68 (fun f_29 e_f_29 => ?_)
  have h := h f_29 e_f_29
  refine ag_aload_n E1 dX0_image_71 rfl 0 rfl ?_
  refine ag_aload_n E1 dX0_image_72 rfl 0 rfl ?_
  refine ax_geti E 7 (by decide) rfl q673 dX0_image_73 ?_
  refine ax_puti E 35 (by decide) rfl q701 rfl (ty := .int) (by decide +kernel) rfl rfl dX0_image_76 (fun f_30 e_f_30 => ?_)
  have h := h f_30 e_f_30
  refine ag_aload_n E1 dX0_image_79 rfl 0 rfl ?_
  refine ag_aload_n E1 dX0_image_80 rfl 0 rfl ?_
  refine ax_geti E 10 (by decide) rfl q676 dX0_image_81 ?_
  refine ax_puti E 36 (by decide) rfl q702 rfl (ty := .int) (by decide +kernel) rfl rfl dX0_image_84 (fun f_31 e_f_31 => ?_)
  have h := h f_31 e_f_31
  refine ag_aload_n E1 dX0_image_87 rfl 0 rfl ?_
  refine ag_aload_n E1 dX0_image_88 rfl 0 rfl ?_
  refine ax_geti E 13 (by decide) rfl q679 dX0_image_89 ?_
  refine ax_puti E 37 (by decide) rfl q703 rfl (ty := .int) (by decide +kernel) rfl rfl dX0_image_92 (fun f_32 e_f_32 => ?_)
  have h := h f_32 e_f_32
  refine ag_aload_n E1 dX0_image_95 rfl 0 rfl ?_
  refine ax_geti E 6 (by decide) rfl q672 dX0_image_96 ?_
  exact ax_iret E rfl ⟨_, rfl, h⟩ dX0_image_99
theorem hdX0_image : yX0_image.cls = RX0 ∧ yX0_image.cls ≠ "java/lang/invoke/MethodHandle" ∧ yX0_image.cls ≠ "java/lang/invoke/VarHandle" ∧ (parseMethodDescriptor yX0_image.desc).map (fun d => d.parameters.length) = some 0 := by decide +kernel
theorem tbX0_back_120 (E : EX p R s m args meth c cX0_back 3 RX0 (some .int) D cs b H0 (XKd b H0 ad vs) [] 2 44 z u) {Q : Int32 → XS → Prop} {K74 : Int32 → Int32 → XS → Prop} (hK74 : ∀ (x1 : Int32) (x2 : Int32) (f : XS), K74 x1 x2 f → AX p l e R s m args below meth c D cs b 3 o z u (xI Q) 74 [(0, .ref o), (1, .int x1), (2, .int x2)] [] f) {K126 : Int32 → XS → Prop} (hK126 : ∀ (x1 : Int32) (f : XS), K126 x1 f → AX p l e R s m args below meth c D cs b 3 o z u (xI Q) 126 [(0, .ref o), (1, .int x1)] [] f) {x1 : Int32} {x2 : Int32} {f : XS} (h : wbX0_back_120 b cs ad vs o K74 K126 Q x1 x2 f) : AX p l e R s m args below meth c D cs b 3 o z u (xI Q) 120 [(0, .ref o), (1, .int x1), (2, .int x2)] [] f := by
  have E1 := E.1
  refine ag_iincN E1 (lv' := fun x2_23 => [(2, .int x2_23), (0, .ref o), (1, .int x1)]) dX0_back_120 2 rfl ki_1 (Nat.lt_of_lt_of_le (Nat.le_refl _) (Nat.le_of_ble_eq_true rfl)) (fun _ => rfl) (fun x2_23 e_x2_23 => ?_)
  have h := h x2_23 e_x2_23
  refine ag_goto E1 (tgt := 74) dX0_back_123 (by decide) ?_
  refine ag_sub (lv' := [(0, .ref o), (1, .int x1), (2, .int x2_23)]) [1, 2, 0] rfl ?_
  exact hK74 _ _ _ h
theorem tbX0_back_98 (E : EX p R s m args meth c cX0_back 3 RX0 (some .int) D cs b H0 (XKd b H0 ad vs) [] 2 44 z u) {Q : Int32 → XS → Prop} {K74 : Int32 → Int32 → XS → Prop} (hK74 : ∀ (x1 : Int32) (x2 : Int32) (f : XS), K74 x1 x2 f → AX p l e R s m args below meth c D cs b 3 o z u (xI Q) 74 [(0, .ref o), (1, .int x1), (2, .int x2)] [] f) {K126 : Int32 → XS → Prop} (hK126 : ∀ (x1 : Int32) (f : XS), K126 x1 f → AX p l e R s m args below meth c D cs b 3 o z u (xI Q) 126 [(0, .ref o), (1, .int x1)] [] f) {x1 : Int32} {x2 : Int32} {f : XS} (h : wbX0_back_98 b cs ad vs o K74 K126 Q x1 x2 f) : AX p l e R s m args below meth c D cs b 3 o z u (xI Q) 98 [(0, .ref o), (1, .int x1), (2, .int x2)] [] f := by
  have E1 := E.1
  refine ag_aload_n E1 dX0_back_98 rfl 0 rfl ?_
  refine ax_geta E 4 (i := 5) (by decide) rfl rfl q670 dX0_back_99 ?_
  refine ag_bipush E1 dX0_back_102 kb_6 ?_
  refine ag_iload_n E1 dX0_back_104 rfl 1 rfl ?_
  refine ag_imul E1 dX0_back_105 ?_
  refine ag_iload_n E1 dX0_back_106 rfl 2 rfl ?_
  refine ag_iadd E1 dX0_back_107 ?_
  refine ag_aload_n E1 dX0_back_108 rfl 0 rfl ?_
  refine ax_geta E 33 (i := 21) (by decide) rfl rfl q699 dX0_back_109 ?_
  refine ag_bipush E1 dX0_back_112 kb_6 ?_
  refine ag_iload_n E1 dX0_back_114 rfl 1 rfl ?_
  refine ag_imul E1 dX0_back_115 ?_
  refine ag_iload_n E1 dX0_back_116 rfl 2 rfl ?_
  refine ag_iadd E1 dX0_back_117 ?_
  obtain ⟨hin, h⟩ := h
  refine ax_iald E 33 rfl rfl rfl (by decide) hin dX0_back_118 ?_
  obtain ⟨hin, h⟩ := h
  refine ax_iast E 4 rfl rfl rfl (by decide) hin dX0_back_119 (fun f_22 e_f_22 => ?_)
  have h := h f_22 e_f_22
  exact tbX0_back_120 E hK74 hK126 h
theorem tbX0_back_74 (E : EX p R s m args meth c cX0_back 3 RX0 (some .int) D cs b H0 (XKd b H0 ad vs) [] 2 44 z u) {Q : Int32 → XS → Prop} {K74 : Int32 → Int32 → XS → Prop} (hK74 : ∀ (x1 : Int32) (x2 : Int32) (f : XS), K74 x1 x2 f → AX p l e R s m args below meth c D cs b 3 o z u (xI Q) 74 [(0, .ref o), (1, .int x1), (2, .int x2)] [] f) {K126 : Int32 → XS → Prop} (hK126 : ∀ (x1 : Int32) (f : XS), K126 x1 f → AX p l e R s m args below meth c D cs b 3 o z u (xI Q) 126 [(0, .ref o), (1, .int x1)] [] f) {x1 : Int32} {x2 : Int32} {f : XS} (h : wbX0_back_74 b cs ad vs o K74 K126 Q x1 x2 f) : AX p l e R s m args below meth c D cs b 3 o z u (xI Q) 74 [(0, .ref o), (1, .int x1), (2, .int x2)] [] f := by
  have E1 := E.1
  refine ag_iload_n E1 dX0_back_74 rfl 2 rfl ?_
  refine ag_aload_n E1 dX0_back_75 rfl 0 rfl ?_
  refine ax_geti E 6 (by decide) rfl q672 dX0_back_76 ?_
  refine ag_icmp_ge E1 (tgt := 126) dX0_back_79 (by decide) (fun c_79 => ?_) (fun c_79 => ?_)
  · have h := h.1 c_79
    refine ag_sub (lv' := [(0, .ref o), (1, .int x1)]) [0, 1] rfl ?_
    exact hK126 _ _ h
  · have h := h.2 c_79
    refine ag_iload_n E1 dX0_back_82 rfl 1 rfl ?_
    refine ag_aload_n E1 dX0_back_83 rfl 0 rfl ?_
    refine ax_geti E 34 (by decide) rfl q700 dX0_back_84 ?_
    refine ag_icmp_lt E1 (tgt := 98) dX0_back_87 (by decide) (fun c_87 => ?_) (fun c_87 => ?_)
    · have h := h.1 c_87
      exact tbX0_back_98 E hK74 hK126 h
    · have h := h.2 c_87
      refine ag_iload_n E1 dX0_back_90 rfl 2 rfl ?_
      refine ag_aload_n E1 dX0_back_91 rfl 0 rfl ?_
      refine ax_geti E 34 (by decide) rfl q700 dX0_back_92 ?_
      refine ag_icmp_ge E1 (tgt := 120) dX0_back_95 (by decide) (fun c_95 => ?_) (fun c_95 => ?_)
      · have h := h.1 c_95
        exact tbX0_back_120 E hK74 hK126 h
      · have h := h.2 c_95
        exact tbX0_back_98 E hK74 hK126 h
theorem tlX0_back_74 (E : EX p R s m args meth c cX0_back 3 RX0 (some .int) D cs b H0 (XKd b H0 ad vs) [] 2 44 z u) {Q : Int32 → XS → Prop} {K126 : Int32 → XS → Prop} (hK126 : ∀ (x1 : Int32) (f : XS), K126 x1 f → AX p l e R s m args below meth c D cs b 3 o z u (xI Q) 126 [(0, .ref o), (1, .int x1)] [] f) : ∀ (n : Nat) (x1 : Int32) (x2 : Int32) (f : XS), wlX0_back_74 b cs ad vs o K126 Q n x1 x2 f → AX p l e R s m args below meth c D cs b 3 o z u (xI Q) 74 [(0, .ref o), (1, .int x1), (2, .int x2)] [] f := by
  intro n
  induction n with
  | zero => intro _ _ _ h; exact h.elim
  | succ n ih => intro x1 x2 f h; exact tbX0_back_74 E ih hK126 h
theorem tbX0_back_64 (E : EX p R s m args meth c cX0_back 3 RX0 (some .int) D cs b H0 (XKd b H0 ad vs) [] 2 44 z u) {Q : Int32 → XS → Prop} {K64 : Int32 → XS → Prop} (hK64 : ∀ (x1 : Int32) (f : XS), K64 x1 f → AX p l e R s m args below meth c D cs b 3 o z u (xI Q) 64 [(0, .ref o), (1, .int x1)] [] f) {K132 : XS → Prop} (hK132 : ∀  (f : XS), K132  f → AX p l e R s m args below meth c D cs b 3 o z u (xI Q) 132 [(0, .ref o)] [] f) {x1 : Int32} {f : XS} (h : wbX0_back_64 b cs ad vs o K64 K132 Q x1 f) : AX p l e R s m args below meth c D cs b 3 o z u (xI Q) 64 [(0, .ref o), (1, .int x1)] [] f := by
  have E1 := E.1
  refine ag_iload_n E1 dX0_back_64 rfl 1 rfl ?_
  refine ag_aload_n E1 dX0_back_65 rfl 0 rfl ?_
  refine ax_geti E 6 (by decide) rfl q672 dX0_back_66 ?_
  refine ag_icmp_ge E1 (tgt := 132) dX0_back_69 (by decide) (fun c_69 => ?_) (fun c_69 => ?_)
  · have h := h.1 c_69
    refine ag_sub (lv' := [(0, .ref o)]) [0] rfl ?_
    exact hK132  _ h
  · have h := h.2 c_69
    refine ag_iconst E1 dX0_back_72 ki_0 ?_
    refine ag_istore_n E1 (lv' := [(2, .int (0 : Int32)), (0, .ref o), (1, .int x1)]) dX0_back_73 rfl (Nat.lt_of_lt_of_le (Nat.le_refl _) (Nat.le_of_ble_eq_true rfl)) rfl ?_
    refine ag_sub (lv' := [(0, .ref o), (1, .int x1), (2, .int (0 : Int32))]) [1, 2, 0] rfl ?_
    obtain ⟨n, h⟩ := h
    refine tlX0_back_74 E ?_ n _ _ _ h
    · intro x1 f h
      refine ag_iincN E1 (lv' := fun x1_24 => [(1, .int x1_24), (0, .ref o)]) dX0_back_126 1 rfl ki_1 (Nat.lt_of_lt_of_le (Nat.le_refl _) (Nat.le_of_ble_eq_true rfl)) (fun _ => rfl) (fun x1_24 e_x1_24 => ?_)
      have h := h x1_24 e_x1_24
      refine ag_goto E1 (tgt := 64) dX0_back_129 (by decide) ?_
      refine ag_sub (lv' := [(0, .ref o), (1, .int x1_24)]) [1, 0] rfl ?_
      exact hK64 _ _ h
theorem tlX0_back_64 (E : EX p R s m args meth c cX0_back 3 RX0 (some .int) D cs b H0 (XKd b H0 ad vs) [] 2 44 z u) {Q : Int32 → XS → Prop} {K132 : XS → Prop} (hK132 : ∀  (f : XS), K132  f → AX p l e R s m args below meth c D cs b 3 o z u (xI Q) 132 [(0, .ref o)] [] f) : ∀ (n : Nat) (x1 : Int32) (f : XS), wlX0_back_64 b cs ad vs o K132 Q n x1 f → AX p l e R s m args below meth c D cs b 3 o z u (xI Q) 64 [(0, .ref o), (1, .int x1)] [] f := by
  intro n
  induction n with
  | zero => intro _ _ h; exact h.elim
  | succ n ih => intro x1 f h; exact tbX0_back_64 E ih hK132 h
theorem kX0_back (l : Launch) (D : va_G) (cs : Nat → ClassId) (b : Nat) (H0 : Heap) (ad : Nat → Nat) (vs : Nat → Option Nat) (o : Nat) (f : XS)  (Q : Int32 → XS → Prop) (h : wX0_back b cs ad vs o f  Q) : CX l D cs b H0 (XKd b H0 ad vs) o yX0_back cX0_back 3 (some .int) 2 44 [.ref o] f (xI Q) := by
  refine cx_of (by decide) (Nat.le_of_ble_eq_true rfl) (fun p e R s m below meth c E => ?_)
  have E1 := E.1
  refine ag_sub (lv' := [(0, .ref o)]) [0] rfl ?_
  refine ag_aload_n E1 dX0_back_0 rfl 0 rfl ?_
  refine ax_geti E 34 (by decide) rfl q700 dX0_back_1 ?_
  refine ag_iconst E1 dX0_back_4 ki_m1 ?_
  refine ag_icmp_ne E1 (tgt := 11) dX0_back_5 (by decide) (fun c_5 => ?_) (fun c_5 => ?_)
  · have h := h.1 c_5
    refine ag_aload_n E1 dX0_back_11 rfl 0 rfl ?_
    refine ax_geta E 30 (i := 18) (by decide) rfl rfl q696 dX0_back_12 ?_
    refine ag_iconst E1 dX0_back_15 ki_0 ?_
    refine ag_aload_n E1 dX0_back_16 rfl 0 rfl ?_
    refine ax_geta E 1 (i := 2) (by decide) rfl rfl q667 dX0_back_17 ?_
    refine ag_iconst E1 dX0_back_20 ki_0 ?_
    refine ag_aload_n E1 dX0_back_21 rfl 0 rfl ?_
    refine ax_geti E 34 (by decide) rfl q700 dX0_back_22 ?_
    obtain ⟨hc_1, hc_2, hc_3, hc_4, hc_5, h⟩ := h
    refine ag_copyi E1 (t0 := 0) q1198 q360 q359 q98 (wX_arr (k := 30) rfl rfl rfl rfl (by decide)) (wX_arr (k := 1) rfl rfl rfl rfl (by decide)) rfl rfl hc_1 hc_2 hc_3 hc_4 hc_5 (fun _ _ => rfl) (Nat.le_of_ble_eq_true rfl) (Nat.le_of_ble_eq_true rfl) (Nat.le_of_ble_eq_true rfl) dX0_back_25 (fun f_6_w e_7_w => ?_)
    refine ag_eqX (e_7_w.trans (wX_row (k := 1) rfl rfl rfl rfl (by decide))) (fun f_6 e_7 => ?_)
    have h := h f_6 e_7
    refine ag_aload_n E1 dX0_back_28 rfl 0 rfl ?_
    refine ax_geta E 31 (i := 19) (by decide) rfl rfl q697 dX0_back_29 ?_
    refine ag_iconst E1 dX0_back_32 ki_0 ?_
    refine ag_aload_n E1 dX0_back_33 rfl 0 rfl ?_
    refine ax_geta E 2 (i := 3) (by decide) rfl rfl q668 dX0_back_34 ?_
    refine ag_iconst E1 dX0_back_37 ki_0 ?_
    refine ag_aload_n E1 dX0_back_38 rfl 0 rfl ?_
    refine ax_geti E 34 (by decide) rfl q700 dX0_back_39 ?_
    obtain ⟨hc_8, hc_9, hc_10, hc_11, hc_12, h⟩ := h
    refine ag_copyi E1 (t0 := 0) q1198 q360 q359 q98 (wX_arr (k := 31) rfl rfl rfl rfl (by decide)) (wX_arr (k := 2) rfl rfl rfl rfl (by decide)) rfl rfl hc_8 hc_9 hc_10 hc_11 hc_12 (fun _ _ => rfl) (Nat.le_of_ble_eq_true rfl) (Nat.le_of_ble_eq_true rfl) (Nat.le_of_ble_eq_true rfl) dX0_back_42 (fun f_13_w e_14_w => ?_)
    refine ag_eqX (e_14_w.trans (wX_row (k := 2) rfl rfl rfl rfl (by decide))) (fun f_13 e_14 => ?_)
    have h := h f_13 e_14
    refine ag_aload_n E1 dX0_back_45 rfl 0 rfl ?_
    refine ax_geta E 32 (i := 20) (by decide) rfl rfl q698 dX0_back_46 ?_
    refine ag_iconst E1 dX0_back_49 ki_0 ?_
    refine ag_aload_n E1 dX0_back_50 rfl 0 rfl ?_
    refine ax_geta E 3 (i := 4) (by decide) rfl rfl q669 dX0_back_51 ?_
    refine ag_iconst E1 dX0_back_54 ki_0 ?_
    refine ag_aload_n E1 dX0_back_55 rfl 0 rfl ?_
    refine ax_geti E 34 (by decide) rfl q700 dX0_back_56 ?_
    obtain ⟨hc_15, hc_16, hc_17, hc_18, hc_19, h⟩ := h
    refine ag_copyi E1 (t0 := 0) q1198 q360 q359 q98 (wX_arr (k := 32) rfl rfl rfl rfl (by decide)) (wX_arr (k := 3) rfl rfl rfl rfl (by decide)) rfl rfl hc_15 hc_16 hc_17 hc_18 hc_19 (fun _ _ => rfl) (Nat.le_of_ble_eq_true rfl) (Nat.le_of_ble_eq_true rfl) (Nat.le_of_ble_eq_true rfl) dX0_back_59 (fun f_20_w e_21_w => ?_)
    refine ag_eqX (e_21_w.trans (wX_row (k := 3) rfl rfl rfl rfl (by decide))) (fun f_20 e_21 => ?_)
    have h := h f_20 e_21
    refine ag_iconst E1 dX0_back_62 ki_0 ?_
    refine ag_istore_n E1 (lv' := [(1, .int (0 : Int32)), (0, .ref o)]) dX0_back_63 rfl (Nat.lt_of_lt_of_le (Nat.le_refl _) (Nat.le_of_ble_eq_true rfl)) rfl ?_
    refine ag_sub (lv' := [(0, .ref o), (1, .int (0 : Int32))]) [1, 0] rfl ?_
    obtain ⟨n, h⟩ := h
    refine tlX0_back_64 E ?_ n _ _ h
    · intro f h
      refine ag_aload_n E1 dX0_back_132 rfl 0 rfl ?_
      refine ag_aload_n E1 dX0_back_133 rfl 0 rfl ?_
      refine ax_geti E 35 (by decide) rfl q701 dX0_back_134 ?_
      refine ax_puti E 7 (by decide) rfl q673 rfl (ty := .int) (by decide +kernel) rfl rfl dX0_back_137 (fun f_25 e_f_25 => ?_)
      have h := h f_25 e_f_25
      refine ag_aload_n E1 dX0_back_140 rfl 0 rfl ?_
      refine ag_aload_n E1 dX0_back_141 rfl 0 rfl ?_
      refine ax_geti E 36 (by decide) rfl q702 dX0_back_142 ?_
      refine ax_puti E 10 (by decide) rfl q676 rfl (ty := .int) (by decide +kernel) rfl rfl dX0_back_145 (fun f_26 e_f_26 => ?_)
      have h := h f_26 e_f_26
      refine ag_aload_n E1 dX0_back_148 rfl 0 rfl ?_
      refine ag_aload_n E1 dX0_back_149 rfl 0 rfl ?_
      refine ax_geti E 37 (by decide) rfl q703 dX0_back_150 ?_
      refine ax_puti E 13 (by decide) rfl q679 rfl (ty := .int) (by decide +kernel) rfl rfl dX0_back_153 (fun f_27 e_f_27 => ?_)
      have h := h f_27 e_f_27
      refine ag_aload_n E1 dX0_back_156 rfl 0 rfl ?_
      refine ax_callVv E [] (kX0_ways _ _ _ _ _ _ _ _ _  _ h) (lw_V q802 q804 qs13 q83 q805) hdX0_ways (Nat.le_of_ble_eq_true rfl) (Nat.le_of_ble_eq_true rfl) rfl (Nat.le_of_ble_eq_true rfl) dX0_back_157 rfl (fun f_28 h => ?_)
      refine ag_aload_n E1 dX0_back_160 rfl 0 rfl ?_
      refine ax_geti E 6 (by decide) rfl q672 dX0_back_161 ?_
      exact ax_iret E rfl ⟨_, rfl, h⟩ dX0_back_164
  · have h := h.2 c_5
    refine ag_bipush E1 dX0_back_8 kb_m3 ?_
    exact ax_iret E rfl ⟨_, rfl, h⟩ dX0_back_10
theorem hdX0_back : yX0_back.cls = RX0 ∧ yX0_back.cls ≠ "java/lang/invoke/MethodHandle" ∧ yX0_back.cls ≠ "java/lang/invoke/VarHandle" ∧ (parseMethodDescriptor yX0_back.desc).map (fun d => d.parameters.length) = some 0 := by decide +kernel
theorem tbX0_feed_35 (E : EX p R s m args meth c cX0_feed 5 RX0 (some .int) D cs b H0 (XKd b H0 ad vs) [] 1 25 z u) {Q : Int32 → XS → Prop} {K35 : Int64 → Int32 → XS → Prop} (hK35 : ∀ (x1 : Int64) (x4 : Int32) (f : XS), K35 x1 x4 f → AX p l e R s m args below meth c D cs b 5 o z u (xI Q) 35 [(0, .ref o), (1, .long x1), (4, .int x4)] [] f) {x1 : Int64} {x4 : Int32} {f : XS} (h : wbX0_feed_35 b cs ad vs o K35 Q x1 x4 f) : AX p l e R s m args below meth c D cs b 5 o z u (xI Q) 35 [(0, .ref o), (1, .long x1), (4, .int x4)] [] f := by
  have E1 := E.1
  refine ag_iload E1 dX0_feed_35 2 rfl ?_
  refine ag_if_lt E1 (tgt := 74) dX0_feed_37 (by decide) (fun c_37 => ?_) (fun c_37 => ?_)
  · have h := h.1 c_37
    refine ag_aload_n E1 dX0_feed_74 rfl 0 rfl ?_
    refine ax_geti E 41 (by decide) rfl q707 dX0_feed_75 ?_
    exact ax_iret E rfl ⟨_, rfl, h⟩ dX0_feed_78
  · have h := h.2 c_37
    refine ag_aload_n E1 dX0_feed_40 rfl 0 rfl ?_
    refine ax_geta E 40 (i := 23) (by decide) rfl rfl q706 dX0_feed_41 ?_
    refine ag_aload_n E1 dX0_feed_44 rfl 0 rfl ?_
    refine ax_geti E 41 (by decide) rfl q707 dX0_feed_45 ?_
    refine ag_lload_n E1 dX0_feed_48 rfl 1 rfl ?_
    refine ag_bipush E1 dX0_feed_49 kb_8 ?_
    refine ag_iload E1 dX0_feed_51 2 rfl ?_
    refine ag_imul E1 dX0_feed_53 ?_
    refine ag_lshr E1 dX0_feed_54 ?_
    refine ag_l2i E1 dX0_feed_55 ?_
    refine ag_i2b E1 dX0_feed_56 ?_
    obtain ⟨hin, h⟩ := h
    refine ax_bast E 40 rfl rfl rfl (by decide) hin dX0_feed_57 (fun f_3 e_f_3 => ?_)
    have h := h f_3 e_f_3
    refine ag_aload_n E1 dX0_feed_58 rfl 0 rfl ?_
    refine ag_dup E1 dX0_feed_59 rfl ?_
    refine ax_geti E 41 (by decide) rfl q707 dX0_feed_60 ?_
    refine ag_iconst E1 dX0_feed_63 ki_1 ?_
    refine ag_iadd E1 dX0_feed_64 ?_
    refine ax_puti E 41 (by decide) rfl q707 rfl (ty := .int) (by decide +kernel) rfl rfl dX0_feed_65 (fun f_4 e_f_4 => ?_)
    have h := h f_4 e_f_4
    refine ag_iincN E1 (lv' := fun x4_5 => [(4, .int x4_5), (0, .ref o), (1, .long x1)]) dX0_feed_68 2 rfl ki_m1 (Nat.lt_of_lt_of_le (Nat.le_refl _) (Nat.le_of_ble_eq_true rfl)) (fun _ => rfl) (fun x4_5 e_x4_5 => ?_)
    have h := h x4_5 e_x4_5
    refine ag_goto E1 (tgt := 35) dX0_feed_71 (by decide) ?_
    refine ag_sub (lv' := [(0, .ref o), (1, .long x1), (4, .int x4_5)]) [1, 2, 0] rfl ?_
    exact hK35 _ _ _ h
theorem tlX0_feed_35 (E : EX p R s m args meth c cX0_feed 5 RX0 (some .int) D cs b H0 (XKd b H0 ad vs) [] 1 25 z u) {Q : Int32 → XS → Prop}  : ∀ (n : Nat) (x1 : Int64) (x4 : Int32) (f : XS), wlX0_feed_35 b cs ad vs o  Q n x1 x4 f → AX p l e R s m args below meth c D cs b 5 o z u (xI Q) 35 [(0, .ref o), (1, .long x1), (4, .int x4)] [] f := by
  intro n
  induction n with
  | zero => intro _ _ _ h; exact h.elim
  | succ n ih => intro x1 x4 f h; exact tbX0_feed_35 E ih h
theorem kX0_feed (l : Launch) (D : va_G) (cs : Nat → ClassId) (b : Nat) (H0 : Heap) (ad : Nat → Nat) (vs : Nat → Option Nat) (o : Nat) (f : XS) (x1 : Int64) (x3 : Int32) (Q : Int32 → XS → Prop) (h : wX0_feed b cs ad vs o f x1 x3 Q) : CX l D cs b H0 (XKd b H0 ad vs) o yX0_feed cX0_feed 5 (some .int) 1 25 [.ref o, .long x1, .int x3] f (xI Q) := by
  refine cx_of (by decide) (Nat.le_of_ble_eq_true rfl) (fun p e R s m below meth c E => ?_)
  have E1 := E.1
  refine ag_sub (lv' := [(0, .ref o), (1, .long x1), (3, .int x3)]) [0, 1, 2] rfl ?_
  refine ag_iload_n E1 dX0_feed_0 rfl 2 rfl ?_
  refine ag_i2l E1 dX0_feed_1 ?_
  refine ag_lconst E1 (v := 1) dX0_feed_2 rfl ?_
  refine ag_ldc2 E1 q1313 dX0_feed_3 ?_
  refine ag_callPi E1 (As := [.long (Int32.toInt64 x3), .long (1 : Int64), .long (8 : Int64)]) (kX0_in _ _ _ _ _ _ _ _ _ _ _ _ h) (lw_S q801 q280 q83 q281) hdX0_in (Nat.le_of_ble_eq_true rfl) (Nat.le_of_ble_eq_true rfl) rfl (Nat.le_of_ble_eq_true rfl) dX0_feed_6 rfl (fun r_1 h => ?_)
  refine ag_if_ne E1 (tgt := 15) dX0_feed_9 (by decide) (fun c_9 => ?_) (fun c_9 => ?_)
  · have h := h.1 c_9
    refine ag_aload_n E1 dX0_feed_15 rfl 0 rfl ?_
    refine ax_geti E 41 (by decide) rfl q707 dX0_feed_16 ?_
    refine ag_iload_n E1 dX0_feed_19 rfl 2 rfl ?_
    refine ag_iadd E1 dX0_feed_20 ?_
    refine ag_sipush E1 dX0_feed_21 ks_160 ?_
    refine ag_icmp_le E1 (tgt := 30) dX0_feed_24 (by decide) (fun c_24 => ?_) (fun c_24 => ?_)
    · have h := h.1 c_24
      refine ag_iload_n E1 dX0_feed_30 rfl 2 rfl ?_
      refine ag_iconst E1 dX0_feed_31 ki_1 ?_
      refine ag_isub E1 dX0_feed_32 ?_
      refine ag_topi (fun x4_2 e_x4_2 => ?_)
      have h := h x4_2 e_x4_2
      refine ag_istore E1 (lv' := [(4, .int x4_2), (0, .ref o), (1, .long x1), (3, .int x3)]) dX0_feed_33 (Nat.lt_of_lt_of_le (Nat.le_refl _) (Nat.le_of_ble_eq_true rfl)) rfl ?_
      refine ag_sub (lv' := [(0, .ref o), (1, .long x1), (4, .int x4_2)]) [1, 2, 0] rfl ?_
      obtain ⟨n, h⟩ := h
      exact tlX0_feed_35 E  n _ _ _ h
    · have h := h.2 c_24
      refine ag_bipush E1 dX0_feed_27 kb_m4 ?_
      exact ax_iret E rfl ⟨_, rfl, h⟩ dX0_feed_29
  · have h := h.2 c_9
    refine ag_bipush E1 dX0_feed_12 kb_m2 ?_
    exact ax_iret E rfl ⟨_, rfl, h⟩ dX0_feed_14
theorem hdX0_feed : yX0_feed.cls = RX0 ∧ yX0_feed.cls ≠ "java/lang/invoke/MethodHandle" ∧ yX0_feed.cls ≠ "java/lang/invoke/VarHandle" ∧ (parseMethodDescriptor yX0_feed.desc).map (fun d => d.parameters.length) = some 2 := by decide +kernel
theorem kX0_text (l : Launch) (D : va_G) (cs : Nat → ClassId) (b : Nat) (H0 : Heap) (ad : Nat → Nat) (vs : Nat → Option Nat) (o : Nat) (f : XS)  (Q : Int32 → XS → Prop) (h : wX0_text b cs ad vs o f  Q) : CXW l D cs b H0 (XKd b H0 ad vs) o yX0_text cX0_text 4 (some .int) [(12, 39, 47, 409), (12, 39, 63, 0), (47, 56, 63, 0)] 76 2828 [.ref o] f (xI Q) := by
  refine conw_of (by decide) (Nat.le_of_ble_eq_true rfl) (fun p e R s m below meth c E1 h0 hin0 => ?_)
  have E : EX p R s m ([.ref o] : List Value).toArray meth c cX0_text 4 RX0 (some .int) D cs b H0 (XKd b H0 ad vs) [(12, 39, 47, 409), (12, 39, 63, 0), (47, 56, 63, 0)] 76 2828 f.2.2.2.1 f.2.2.2.2 := ⟨E1, h0⟩
  refine ag_xret ?_
  refine ag_sub (lv' := [(0, .ref o)]) [0] rfl ?_
  refine ag_aload_n E1 dX0_text_0 rfl 0 rfl ?_
  refine ax_geti E 39 (by decide) rfl q705 dX0_text_1 ?_
  refine ag_bipush E1 dX0_text_4 kb_6 ?_
  refine ag_icmp_ne E1 (tgt := 12) dX0_text_6 (by decide) (fun c_6 => ?_) (fun c_6 => ?_)
  · have h := h.1 c_6
    refine ag_aload_n E1 dX0_text_12 rfl 0 rfl ?_
    refine ax_geto E 38 (i := 22) (by decide) rfl (fun _ => rfl) q704 dX0_text_13 ?_
    refine ag_aload_n E1 dX0_text_16 rfl 0 rfl ?_
    refine ax_geti E 39 (by decide) rfl q705 dX0_text_17 ?_
    obtain ⟨hb_3, hF_6_0, h⟩ := h
    refine ag_new E1 (ci := 12) (C := RX2) (T := TX2) (N := 8) (fs := [.null, .int (0 : Int32), .int (0 : Int32), .int (0 : Int32), .int (0 : Int32), .null, .int (0 : Int32), .int (0 : Int32)]) tyX2 tyX2_ok in_X2 q230 q231 q92 rfl rfl hb_3 dX0_text_20 (fun a_1 f_2_w e_4 e_5_w => ?_)
    refine ag_eqX (e_5_w.trans (wX_new hF_6_0)) (fun f_2 e_5 => ?_)
    have h := h a_1 f_2 e_4 e_5
    have hF_6 : xF o a_1 := by rw [e_4]; exact hF_6_0
    have hP_7 : (wX o cs f_2).1 a_1 = some (.inr (12, vp_V [.null, .int (0 : Int32), .int (0 : Int32), .int (0 : Int32), .int (0 : Int32), .null, .int (0 : Int32), .int (0 : Int32)])) := (wX_at hF_6).trans (by rw [e_5, e_4]; exact xNew_s)
    refine ag_dup E1 dX0_text_23 rfl ?_
    refine ag_aload_n E1 dX0_text_24 rfl 0 rfl ?_
    refine ax_geta E 40 (i := 23) (by decide) rfl rfl q706 dX0_text_25 ?_
    refine ag_aload_n E1 dX0_text_28 rfl 0 rfl ?_
    refine ax_geti E 41 (by decide) rfl q707 dX0_text_29 ?_
    refine ag_callI E1 (kX2_init _ _ _ _ _ _ _ _ _ _ _ _ h) q234 q92 q232 q233 rfl hdX2_init (Nat.le_of_ble_eq_true rfl) (Nat.le_of_ble_eq_true rfl) (As := [.ref (o + 23), .int (f_2.1 99 41)]) rfl (Nat.le_of_ble_eq_true rfl) dX0_text_32 (fun v_ f_8_w hv => ?_) rfl
    obtain ⟨rfl, f_8, rfl, h⟩ := hv
    obtain ⟨v_10, y_11, y_12, y_13, y_14, v_15, y_16, y_17, hP_18_z, h⟩ := h
    have hP_18 := (wX_at (cs := cs) hF_6).trans hP_18_z
    refine ag_callVX E1 (ci := 12) (C := RX2) (T0 := TX2) (n2 := 8) hP_18 rfl (kX2_parts _ _ _ _ _ _ _ _ _ _ _ h) (lw_V q261 q262 q263 q92 q264) ⟨rfl, hdX2_parts⟩ (Nat.le_of_ble_eq_true rfl) (Nat.le_of_ble_eq_true rfl) (As := []) rfl (Nat.le_of_ble_eq_true rfl) dX0_text_35 rfl (fun v_ f_9_w hv => ?_) (fun a_20 f_19_w hx => ?_)
    rotate_left
    · obtain ⟨f_19, rfl, h⟩ := hx
      obtain ⟨hF_21, h⟩ := h
      obtain ⟨v_22, v_23, v_24, v_25, v_26, y_27, y_28, hP_29_z, h⟩ := h
      have hP_29 := (wX_at (cs := cs) hF_21).trans hP_29_z
      refine th_catch E1 [] [(12, 39, 63, 0), (47, 56, 63, 0)] (12, 39, 47, 409) (ci := 13) (C := RX3) (T0 := TX3) (n2 := 7) rfl (by decide) (by decide) (by decide) q1318 rfl hP_29 ?_
      refine ag_astore_n E1 (lv' := [(1, .ref a_20), (0, .ref o)]) dX0_text_47 rfl (Nat.lt_of_lt_of_le (Nat.le_refl _) (Nat.le_of_ble_eq_true rfl)) rfl ?_
      refine ag_bipush E1 dX0_text_48 kb_m100 ?_
      refine ag_aload_n E1 dX0_text_50 rfl 0 rfl ?_
      refine ag_getL E1 6 (ci := 13) (C := RX3) (T := TX3) (N := 7) rfl in_X3 (by decide) q503 (fun _ h => h) dX0_text_51 hP_29 rfl ?_
      refine ag_isub E1 dX0_text_54 ?_
      refine ag_topi (fun x2_30 e_x2_30 => ?_)
      have h := h x2_30 e_x2_30
      refine ag_istore_n E1 (lv' := [(2, .int x2_30), (1, .ref a_20), (0, .ref o)]) dX0_text_55 rfl (Nat.lt_of_lt_of_le (Nat.le_refl _) (Nat.le_of_ble_eq_true rfl)) rfl ?_
      refine ag_aload_n E1 dX0_text_56 rfl 2 rfl ?_
      refine ag_iconst E1 dX0_text_57 ki_0 ?_
      refine ax_puti E 41 (by decide) rfl q707 rfl (ty := .int) (by decide +kernel) rfl rfl dX0_text_58 (fun f_31 e_f_31 => ?_)
      have h := h f_31 e_f_31
      refine ag_iload_n E1 dX0_text_61 rfl 0 rfl ?_
      exact ax_iret E rfl ⟨_, rfl, h⟩ dX0_text_62
    obtain ⟨r_32, rfl, f_9, rfl, h⟩ := hv
    obtain ⟨hF_33, h⟩ := h
    obtain ⟨n_34, c_35, hP_36_z, h⟩ := h
    have hP_36 := (wX_at (cs := cs) hF_33).trans hP_36_z
    obtain ⟨hin_37, h⟩ := h
    obtain ⟨hF_38, h⟩ := h
    obtain ⟨n_39, c_40, hP_41_z, h⟩ := h
    have hP_41 := (wX_at (cs := cs) hF_38).trans hP_41_z
    refine ag_aastA E1 (t0 := 6) (t1 := 5) hP_36 rfl hP_41 rfl rfl (xk_over q156) hin_37 dX0_text_38 (fun f_42_w e_43_w => ?_)
    refine ag_eqX (e_43_w.trans (wX_upd hF_33)) (fun f_42 e_43 => ?_)
    have h := h f_42 e_43
    refine ag_aload_n E1 dX0_text_39 rfl 0 rfl ?_
    refine ag_iconst E1 dX0_text_40 ki_0 ?_
    refine ax_puti E 41 (by decide) rfl q707 rfl (ty := .int) (by decide +kernel) rfl rfl dX0_text_41 (fun f_44 e_f_44 => ?_)
    have h := h f_44 e_f_44
    refine ag_goto E1 (tgt := 71) dX0_text_44 (by decide) ?_
    refine ag_aload_n E1 dX0_text_71 rfl 0 rfl ?_
    refine ag_dup E1 dX0_text_72 rfl ?_
    refine ax_geti E 39 (by decide) rfl q705 dX0_text_73 ?_
    refine ag_iconst E1 dX0_text_76 ki_1 ?_
    refine ag_iadd E1 dX0_text_77 ?_
    refine ax_puti E 39 (by decide) rfl q705 rfl (ty := .int) (by decide +kernel) rfl rfl dX0_text_78 (fun f_45 e_f_45 => ?_)
    have h := h f_45 e_f_45
    refine ag_aload_n E1 dX0_text_81 rfl 0 rfl ?_
    refine ax_geti E 39 (by decide) rfl q705 dX0_text_82 ?_
    refine ag_iconst E1 dX0_text_85 ki_1 ?_
    refine ag_isub E1 dX0_text_86 ?_
    exact ax_iret E rfl ⟨_, rfl, h⟩ dX0_text_87
  · have h := h.2 c_6
    refine ag_bipush E1 dX0_text_9 kb_m4 ?_
    exact ax_iret E rfl ⟨_, rfl, h⟩ dX0_text_11
theorem hdX0_text : yX0_text.cls = RX0 ∧ yX0_text.cls ≠ "java/lang/invoke/MethodHandle" ∧ yX0_text.cls ≠ "java/lang/invoke/VarHandle" ∧ (parseMethodDescriptor yX0_text.desc).map (fun d => d.parameters.length) = some 0 := by decide +kernel
theorem kX0_force (l : Launch) (D : va_G) (cs : Nat → ClassId) (b : Nat) (H0 : Heap) (ad : Nat → Nat) (vs : Nat → Option Nat) (o : Nat) (f : XS) (x1 : Int32) (Q : Int32 → XS → Prop) (h : wX0_force b cs ad vs o f x1 Q) : CX l D cs b H0 (XKd b H0 ad vs) o yX0_force cX0_force 3 (some .int) 1 25 [.ref o, .int x1] f (xI Q) := by
  refine cx_of (by decide) (Nat.le_of_ble_eq_true rfl) (fun p e R s m below meth c E => ?_)
  have E1 := E.1
  refine ag_sub (lv' := [(0, .ref o), (1, .int x1)]) [0, 1] rfl ?_
  refine ag_iload_n E1 dX0_force_0 rfl 1 rfl ?_
  refine ag_i2l E1 dX0_force_1 ?_
  refine ag_lconst E1 (v := 0) dX0_force_2 rfl ?_
  refine ag_aload_n E1 dX0_force_3 rfl 0 rfl ?_
  refine ax_geti E 39 (by decide) rfl q705 dX0_force_4 ?_
  refine ag_i2l E1 dX0_force_7 ?_
  refine ag_lconst E1 (v := 1) dX0_force_8 rfl ?_
  refine ag_lsub E1 dX0_force_9 ?_
  refine ag_callPi E1 (As := [.long (Int32.toInt64 x1), .long (0 : Int64), .long ((Int32.toInt64 (f.1 99 39)) - (1 : Int64))]) (kX0_in _ _ _ _ _ _ _ _ _ _ _ _ h) (lw_S q801 q280 q83 q281) hdX0_in (Nat.le_of_ble_eq_true rfl) (Nat.le_of_ble_eq_true rfl) rfl (Nat.le_of_ble_eq_true rfl) dX0_force_10 rfl (fun r_1 h => ?_)
  refine ag_if_ne E1 (tgt := 19) dX0_force_13 (by decide) (fun c_13 => ?_) (fun c_13 => ?_)
  · have h := h.1 c_13
    refine ag_aload_n E1 dX0_force_19 rfl 0 rfl ?_
    refine ax_geti E 13 (by decide) rfl q679 dX0_force_20 ?_
    refine ag_topi (fun x2_2 e_x2_2 => ?_)
    have h := h x2_2 e_x2_2
    refine ag_istore_n E1 (lv' := [(2, .int x2_2), (0, .ref o), (1, .int x1)]) dX0_force_23 rfl (Nat.lt_of_lt_of_le (Nat.le_refl _) (Nat.le_of_ble_eq_true rfl)) rfl ?_
    refine ag_aload_n E1 dX0_force_24 rfl 1 rfl ?_
    refine ag_iload_n E1 dX0_force_25 rfl 2 rfl ?_
    refine ax_puti E 13 (by decide) rfl q679 rfl (ty := .int) (by decide +kernel) rfl rfl dX0_force_26 (fun f_3 e_f_3 => ?_)
    have h := h f_3 e_f_3
    refine ag_iload_n E1 dX0_force_29 rfl 0 rfl ?_
    exact ax_iret E rfl ⟨_, rfl, h⟩ dX0_force_30
  · have h := h.2 c_13
    refine ag_bipush E1 dX0_force_16 kb_m2 ?_
    exact ax_iret E rfl ⟨_, rfl, h⟩ dX0_force_18
theorem hdX0_force : yX0_force.cls = RX0 ∧ yX0_force.cls ≠ "java/lang/invoke/MethodHandle" ∧ yX0_force.cls ≠ "java/lang/invoke/VarHandle" ∧ (parseMethodDescriptor yX0_force.desc).map (fun d => d.parameters.length) = some 1 := by decide +kernel
theorem tbX0_sheet_70 (E : EX p R s m args meth c cX0_sheet 4 RX0 (some .int) D cs b H0 (XKd b H0 ad vs) [] 2 45 z u) {Q : Int32 → XS → Prop}  {x1 : Int32} {t0 : Int32} {t1 : Nat} {f : XS} (h : wbX0_sheet_70 b cs ad vs o  Q x1 t0 t1 f) : AX p l e R s m args below meth c D cs b 4 o z u (xI Q) 70 [(0, .ref o), (1, .int x1)] [.int t0, .ref (o + 25 + 2 * t1)] f := by
  have E1 := E.1
  obtain ⟨ht_8, h⟩ := h
  refine ag_named_put (ag_put E1 (ci := 2) (C := RX1) (T := TX1) (N := 3) (k := 1) (ty := .int) tyX1 tyX1_ok nmX1 rfl in_X1 (by decide) q167 (fun _ h => h) rfl (by decide +kernel) rfl rfl dX0_sheet_70 (wX_sheet ht_8)) (wX_putS ht_8 (by decide)) (fun f_9 e_10 => ?_)
  have h := h f_9 e_10
  refine ag_aload_n E1 dX0_sheet_73 rfl 0 rfl ?_
  refine ax_geto E 42 (i := 24) (by decide) rfl (fun _ => rfl) q708 dX0_sheet_74 ?_
  refine ag_iload_n E1 dX0_sheet_77 rfl 1 rfl ?_
  obtain ⟨hin_11, h⟩ := h
  refine ag_aald E1 (t0 := 7) wX_sheets rfl rfl hin_11 dX0_sheet_78 (v := .ref (o + 25 + 2 * (Int32.toNatClampNeg x1))) rfl ?_
  obtain ⟨ht_12, h⟩ := h
  refine ag_get E1 (ci := 2) (C := RX1) (T := TX1) (N := 3) (k := 2) (v := .ref (o + 26 + 2 * (Int32.toNatClampNeg x1))) rfl in_X1 (by decide) q169 (fun _ h => h) dX0_sheet_79 (wX_sheet ht_12) rfl ?_
  refine ag_iconst E1 dX0_sheet_82 ki_0 ?_
  refine ag_callS E1 (kJ11_fill _ _ _ _ _ _ _ _ _ _ _ h) (lw_S q1175 q1176 q97 q1177) hdJ11_fill (Nat.le_of_ble_eq_true rfl) (Nat.le_of_ble_eq_true rfl) (As := [.ref (o + 26 + 2 * (Int32.toNatClampNeg x1)), .int (0 : Int32)]) rfl (Nat.le_of_ble_eq_true rfl) dX0_sheet_83 (fun v_ f_13_w hv => ?_) rfl
  obtain ⟨rfl, f_13, rfl, h⟩ := hv
  refine ag_iconst E1 dX0_sheet_86 ki_1 ?_
  exact ax_iret E rfl ⟨_, rfl, h⟩ dX0_sheet_87
theorem tbX0_sheet_45 (E : EX p R s m args meth c cX0_sheet 4 RX0 (some .int) D cs b H0 (XKd b H0 ad vs) [] 2 45 z u) {Q : Int32 → XS → Prop}  {x1 : Int32} {x2 : Int32} {x3 : Int32} {f : XS} (h : wbX0_sheet_45 b cs ad vs o  Q x1 x2 x3 f) : AX p l e R s m args below meth c D cs b 4 o z u (xI Q) 45 [(0, .ref o), (1, .int x1), (2, .int x2), (3, .int x3)] [] f := by
  have E1 := E.1
  refine ag_aload_n E1 dX0_sheet_45 rfl 0 rfl ?_
  refine ax_geto E 42 (i := 24) (by decide) rfl (fun _ => rfl) q708 dX0_sheet_46 ?_
  refine ag_iload_n E1 dX0_sheet_49 rfl 1 rfl ?_
  obtain ⟨hin_3, h⟩ := h
  refine ag_aald E1 (t0 := 7) wX_sheets rfl rfl hin_3 dX0_sheet_50 (v := .ref (o + 25 + 2 * (Int32.toNatClampNeg x1))) rfl ?_
  refine ag_iload_n E1 dX0_sheet_51 rfl 2 rfl ?_
  obtain ⟨ht_4, h⟩ := h
  refine ag_named_put (ag_put E1 (ci := 2) (C := RX1) (T := TX1) (N := 3) (k := 0) (ty := .int) tyX1 tyX1_ok nmX1 rfl in_X1 (by decide) q165 (fun _ h => h) rfl (by decide +kernel) rfl rfl dX0_sheet_52 (wX_sheet ht_4)) (wX_putS ht_4 (by decide)) (fun f_5 e_6 => ?_)
  have h := h f_5 e_6
  refine ag_aload_n E1 dX0_sheet_55 rfl 0 rfl ?_
  refine ax_geto E 42 (i := 24) (by decide) rfl (fun _ => rfl) q708 dX0_sheet_56 ?_
  refine ag_iload_n E1 dX0_sheet_59 rfl 1 rfl ?_
  obtain ⟨hin_7, h⟩ := h
  refine ag_aald E1 (t0 := 7) wX_sheets rfl rfl hin_7 dX0_sheet_60 (v := .ref (o + 25 + 2 * (Int32.toNatClampNeg x1))) rfl ?_
  refine ag_iload_n E1 dX0_sheet_61 rfl 2 rfl ?_
  refine ag_if_ge E1 (tgt := 69) dX0_sheet_62 (by decide) (fun c_62 => ?_) (fun c_62 => ?_)
  · have h := h.1 c_62
    refine ag_iload_n E1 dX0_sheet_69 rfl 3 rfl ?_
    refine ag_sub (lv' := [(0, .ref o), (1, .int x1)]) [0, 1] rfl ?_
    exact tbX0_sheet_70 E  h
  · have h := h.2 c_62
    refine ag_iconst E1 dX0_sheet_65 ki_0 ?_
    refine ag_goto E1 (tgt := 70) dX0_sheet_66 (by decide) ?_
    refine ag_sub (lv' := [(0, .ref o), (1, .int x1)]) [0, 1] rfl ?_
    exact tbX0_sheet_70 E  h
theorem tbX0_sheet_34 (E : EX p R s m args meth c cX0_sheet 4 RX0 (some .int) D cs b H0 (XKd b H0 ad vs) [] 2 45 z u) {Q : Int32 → XS → Prop}  {x1 : Int32} {x2 : Int32} {x3 : Int32} {f : XS} (h : wbX0_sheet_34 b cs ad vs o  Q x1 x2 x3 f) : AX p l e R s m args below meth c D cs b 4 o z u (xI Q) 34 [(0, .ref o), (1, .int x1), (2, .int x2), (3, .int x3)] [] f := by
  have E1 := E.1
  refine ag_iload_n E1 dX0_sheet_34 rfl 2 rfl ?_
  refine ag_if_lt E1 (tgt := 45) dX0_sheet_35 (by decide) (fun c_35 => ?_) (fun c_35 => ?_)
  · have h := h.1 c_35
    exact tbX0_sheet_45 E  h
  · have h := h.2 c_35
    refine ag_iload_n E1 dX0_sheet_38 rfl 3 rfl ?_
    refine ag_if_ge E1 (tgt := 45) dX0_sheet_39 (by decide) (fun c_39 => ?_) (fun c_39 => ?_)
    · have h := h.1 c_39
      exact tbX0_sheet_45 E  h
    · have h := h.2 c_39
      refine ag_bipush E1 dX0_sheet_42 kb_m14 ?_
      exact ax_iret E rfl ⟨_, rfl, h⟩ dX0_sheet_44
theorem kX0_sheet (l : Launch) (D : va_G) (cs : Nat → ClassId) (b : Nat) (H0 : Heap) (ad : Nat → Nat) (vs : Nat → Option Nat) (o : Nat) (f : XS) (x1 : Int32) (x2 : Int32) (x3 : Int32) (Q : Int32 → XS → Prop) (h : wX0_sheet b cs ad vs o f x1 x2 x3 Q) : CX l D cs b H0 (XKd b H0 ad vs) o yX0_sheet cX0_sheet 4 (some .int) 2 45 [.ref o, .int x1, .int x2, .int x3] f (xI Q) := by
  refine cx_of (by decide) (Nat.le_of_ble_eq_true rfl) (fun p e R s m below meth c E => ?_)
  have E1 := E.1
  refine ag_sub (lv' := [(0, .ref o), (1, .int x1), (2, .int x2), (3, .int x3)]) [0, 1, 2, 3] rfl ?_
  refine ag_iload_n E1 dX0_sheet_0 rfl 1 rfl ?_
  refine ag_callPi E1 (As := [.int x1]) (kX0_isSheet _ _ _ _ _ _ _ _ _ _ h) (lw_S q898 q899 q83 q900) hdX0_isSheet (Nat.le_of_ble_eq_true rfl) (Nat.le_of_ble_eq_true rfl) rfl (Nat.le_of_ble_eq_true rfl) dX0_sheet_1 rfl (fun r_1 h => ?_)
  refine ag_if_eq E1 (tgt := 31) dX0_sheet_4 (by decide) (fun c_4 => ?_) (fun c_4 => ?_)
  · have h := h.1 c_4
    refine ag_bipush E1 dX0_sheet_31 kb_m2 ?_
    exact ax_iret E rfl ⟨_, rfl, h⟩ dX0_sheet_33
  · have h := h.2 c_4
    refine ag_iload_n E1 dX0_sheet_7 rfl 2 rfl ?_
    refine ag_i2l E1 dX0_sheet_8 ?_
    refine ag_ldc2 E1 q830 dX0_sheet_9 ?_
    refine ag_ldc2 E1 q824 dX0_sheet_12 ?_
    refine ag_callPi E1 (As := [.long (Int32.toInt64 x2), .long (-1 : Int64), .long (2 : Int64)]) (kX0_in _ _ _ _ _ _ _ _ _ _ _ _ h) (lw_S q801 q280 q83 q281) hdX0_in (Nat.le_of_ble_eq_true rfl) (Nat.le_of_ble_eq_true rfl) rfl (Nat.le_of_ble_eq_true rfl) dX0_sheet_15 rfl (fun r_2 h => ?_)
    refine ag_if_eq E1 (tgt := 31) dX0_sheet_18 (by decide) (fun c_18 => ?_) (fun c_18 => ?_)
    · have h := h.1 c_18
      refine ag_bipush E1 dX0_sheet_31 kb_m2 ?_
      exact ax_iret E rfl ⟨_, rfl, h⟩ dX0_sheet_33
    · have h := h.2 c_18
      refine ag_iload_n E1 dX0_sheet_21 rfl 2 rfl ?_
      refine ag_if_lt E1 (tgt := 34) dX0_sheet_22 (by decide) (fun c_22 => ?_) (fun c_22 => ?_)
      · have h := h.1 c_22
        exact tbX0_sheet_34 E  h
      · have h := h.2 c_22
        refine ag_iload_n E1 dX0_sheet_25 rfl 3 rfl ?_
        refine ag_bipush E1 dX0_sheet_26 kb_40 ?_
        refine ag_icmp_le E1 (tgt := 34) dX0_sheet_28 (by decide) (fun c_28 => ?_) (fun c_28 => ?_)
        · have h := h.1 c_28
          exact tbX0_sheet_34 E  h
        · have h := h.2 c_28
          refine ag_bipush E1 dX0_sheet_31 kb_m2 ?_
          exact ax_iret E rfl ⟨_, rfl, h⟩ dX0_sheet_33
theorem hdX0_sheet : yX0_sheet.cls = RX0 ∧ yX0_sheet.cls ≠ "java/lang/invoke/MethodHandle" ∧ yX0_sheet.cls ≠ "java/lang/invoke/VarHandle" ∧ (parseMethodDescriptor yX0_sheet.desc).map (fun d => d.parameters.length) = some 3 := by decide +kernel
theorem kX0_there (l : Launch) (D : va_G) (cs : Nat → ClassId) (b : Nat) (H0 : Heap) (ad : Nat → Nat) (vs : Nat → Option Nat) (o : Nat) (f : XS) (x1 : Int32) (X Q : Nat → XS → Prop) (h : wX0_there b cs ad vs o f x1 X Q) : CXT l D cs b H0 (XKd b H0 ad vs) o yX0_there cX0_there 2 (some (.object "MarketDays$Sheet")) 5 113 [.ref o, .int x1] f (xH o Q) X := by
  refine conx_of (by decide) (Nat.le_of_ble_eq_true rfl) (fun p e R s m below meth c E1 h0 hin0 => ?_)
  have E : EX p R s m ([.ref o, .int x1] : List Value).toArray meth c cX0_there 2 RX0 (some (.object "MarketDays$Sheet")) D cs b H0 (XKd b H0 ad vs) [] 5 113 f.2.2.2.1 f.2.2.2.2 := ⟨E1, h0⟩
  refine ag_sub (lv' := [(0, .ref o), (1, .int x1)]) [0, 1] rfl ?_
  refine ag_aload_n E1 dX0_there_0 rfl 0 rfl ?_
  refine ag_geto E1 42 (i := 24) (by decide) rfl (fun _ => rfl) q708 dX0_there_1 ?_
  refine ag_iload_n E1 dX0_there_4 rfl 1 rfl ?_
  obtain ⟨hin_1, h⟩ := h
  refine ag_aald E1 (t0 := 7) wX_sheets rfl rfl hin_1 dX0_there_5 (v := .ref (o + 25 + 2 * (Int32.toNatClampNeg x1))) rfl ?_
  obtain ⟨ht_2, h⟩ := h
  refine ag_get E1 (ci := 2) (C := RX1) (T := TX1) (N := 3) (k := 0) (v := .int (f.1 (60 + (Int32.toNatClampNeg x1)) 0)) rfl in_X1 (by decide) q165 (fun _ h => h) dX0_there_6 (wX_sheet ht_2) rfl ?_
  refine ag_if_ge E1 (tgt := 22) dX0_there_9 (by decide) (fun c_9 => ?_) (fun c_9 => ?_)
  · have h := h.1 c_9
    refine ag_aload_n E1 dX0_there_22 rfl 0 rfl ?_
    refine ag_geto E1 42 (i := 24) (by decide) rfl (fun _ => rfl) q708 dX0_there_23 ?_
    refine ag_iload_n E1 dX0_there_26 rfl 1 rfl ?_
    obtain ⟨hin_3, h⟩ := h
    refine ag_aald E1 (t0 := 7) wX_sheets rfl rfl hin_3 dX0_there_27 (v := .ref (o + 25 + 2 * (Int32.toNatClampNeg x1))) rfl ?_
    exact ag_xret (ax_aret E rfl (Or.inl ⟨_, rfl⟩) (Or.inr ⟨_, rfl⟩) ⟨_, rfl, h⟩ dX0_there_28)
  · have h := h.2 c_9
    obtain ⟨hb_6, hF_9_0, h⟩ := h
    refine ag_new E1 (ci := 14) (C := RX14) (T := TX14) (N := 7) (fs := [.null, .null, .null, .null, .null, .int (0 : Int32), .int (0 : Int32)]) tyX14 tyX14_ok in_X14 q1331 q1336 q117 rfl rfl hb_6 dX0_there_12 (fun a_4 f_5_w e_7 e_8_w => ?_)
    refine ag_eqX (e_8_w.trans (wX_new hF_9_0)) (fun f_5 e_8 => ?_)
    have h := h a_4 f_5 e_7 e_8
    have hF_9 : xF o a_4 := by rw [e_7]; exact hF_9_0
    have hP_10 : (wX o cs f_5).1 a_4 = some (.inr (14, vp_V [.null, .null, .null, .null, .null, .int (0 : Int32), .int (0 : Int32)])) := (wX_at hF_9).trans (by rw [e_8, e_7]; exact xNew_s)
    refine ag_dup E1 dX0_there_15 rfl ?_
    refine ag_bipush E1 dX0_there_16 kb_m11 ?_
    refine ag_callI E1 (kX14_init _ _ _ _ _ _ _ _ _ _ _ h) q1346 q117 q1344 q1345 rfl hdX14_init (Nat.le_of_ble_eq_true rfl) (Nat.le_of_ble_eq_true rfl) (As := [.int (-11 : Int32)]) rfl (Nat.le_of_ble_eq_true rfl) dX0_there_18 (fun v_ f_11_w hv => ?_) rfl
    obtain ⟨rfl, f_11, rfl, h⟩ := hv
    exact gw_athrow E rfl ⟨_, rfl, h⟩ dX0_there_21
theorem hdX0_there : yX0_there.cls = RX0 ∧ yX0_there.cls ≠ "java/lang/invoke/MethodHandle" ∧ yX0_there.cls ≠ "java/lang/invoke/VarHandle" ∧ (parseMethodDescriptor yX0_there.desc).map (fun d => d.parameters.length) = some 1 := by decide +kernel
theorem kX0_cell (l : Launch) (D : va_G) (cs : Nat → ClassId) (b : Nat) (H0 : Heap) (ad : Nat → Nat) (vs : Nat → Option Nat) (o : Nat) (f : XS) (x1 : Int32) (x2 : Int32) (x3 : Int32) (Q : Int32 → XS → Prop) (h : wX0_cell b cs ad vs o f x1 x2 x3 Q) : CXW l D cs b H0 (XKd b H0 ad vs) o yX0_cell cX0_cell 5 (some .int) [(10, 44, 45, 414)] 6 134 [.ref o, .int x1, .int x2, .int x3] f (xI Q) := by
  refine conw_of (by decide) (Nat.le_of_ble_eq_true rfl) (fun p e R s m below meth c E1 h0 hin0 => ?_)
  have E : EX p R s m ([.ref o, .int x1, .int x2, .int x3] : List Value).toArray meth c cX0_cell 5 RX0 (some .int) D cs b H0 (XKd b H0 ad vs) [(10, 44, 45, 414)] 6 134 f.2.2.2.1 f.2.2.2.2 := ⟨E1, h0⟩
  refine ag_xret ?_
  refine ag_sub (lv' := [(0, .ref o), (1, .int x1), (2, .int x2), (3, .int x3)]) [0, 1, 2, 3] rfl ?_
  refine ag_iload_n E1 dX0_cell_0 rfl 1 rfl ?_
  refine ag_callPi E1 (As := [.int x1]) (kX0_isSheet _ _ _ _ _ _ _ _ _ _ h) (lw_S q898 q899 q83 q900) hdX0_isSheet (Nat.le_of_ble_eq_true rfl) (Nat.le_of_ble_eq_true rfl) rfl (Nat.le_of_ble_eq_true rfl) dX0_cell_1 rfl (fun r_1 h => ?_)
  refine ag_if_ne E1 (tgt := 10) dX0_cell_4 (by decide) (fun c_4 => ?_) (fun c_4 => ?_)
  · have h := h.1 c_4
    refine ag_aload_n E1 dX0_cell_10 rfl 0 rfl ?_
    refine ag_iload_n E1 dX0_cell_11 rfl 1 rfl ?_
    refine ag_callVX E1 (ci := 1) (C := RX0) (T0 := TX0) (n2 := 43) pX_obj rfl (kX0_there _ _ _ _ _ _ _ _ _ _ _ _ h) (lw_V q1332 q1334 qs44 q83 q1335) hdX0_there (Nat.le_of_ble_eq_true rfl) (Nat.le_of_ble_eq_true rfl) (As := [.int x1]) rfl (Nat.le_of_ble_eq_true rfl) dX0_cell_12 rfl (fun v_ f_13_w hv => ?_) (fun a_3 f_2_w hx => ?_)
    rotate_left
    · obtain ⟨f_2, rfl, h⟩ := hx
      obtain ⟨hF_4, h⟩ := h
      obtain ⟨v_5, v_6, v_7, v_8, v_9, y_10, y_11, hP_12_z, h⟩ := h
      have hP_12 := (wX_at (cs := cs) hF_4).trans hP_12_z
      refine th_catch E1 [] [] (10, 44, 45, 414) (ci := 14) (C := RX14) (T0 := TX14) (n2 := 7) rfl (by decide) (by decide) (by decide) q1331 rfl hP_12 ?_
      refine ag_astore E1 (lv' := [(4, .ref a_3), (0, .ref o), (1, .int x1), (2, .int x2), (3, .int x3)]) dX0_cell_45 (Nat.lt_of_lt_of_le (Nat.le_refl _) (Nat.le_of_ble_eq_true rfl)) rfl ?_
      refine ag_aload E1 dX0_cell_47 0 rfl ?_
      refine ag_getL E1 6 (ci := 14) (C := RX14) (T := TX14) (N := 7) rfl in_X14 (by decide) q1349 (fun _ h => h) dX0_cell_49 hP_12 rfl ?_
      exact ax_iret E rfl ⟨_, rfl, h⟩ dX0_cell_52
    obtain ⟨f_13, rfl, r_14, rfl, h⟩ := hv
    refine ag_astore E1 (lv' := [(4, .ref (o + 25 + 2 * r_14)), (0, .ref o), (1, .int x1), (2, .int x2), (3, .int x3)]) dX0_cell_15 (Nat.lt_of_lt_of_le (Nat.le_refl _) (Nat.le_of_ble_eq_true rfl)) rfl ?_
    refine ag_iload_n E1 dX0_cell_17 rfl 3 rfl ?_
    refine ag_i2l E1 dX0_cell_18 ?_
    refine ag_lconst E1 (v := 0) dX0_cell_19 rfl ?_
    refine ag_aload E1 dX0_cell_20 0 rfl ?_
    obtain ⟨ht_15, h⟩ := h
    refine ag_get E1 (ci := 2) (C := RX1) (T := TX1) (N := 3) (k := 1) (v := .int (f_13.1 (60 + r_14) 1)) rfl in_X1 (by decide) q167 (fun _ h => h) dX0_cell_22 (wX_sheet ht_15) rfl ?_
    refine ag_i2l E1 dX0_cell_25 ?_
    refine ag_lconst E1 (v := 1) dX0_cell_26 rfl ?_
    refine ag_lsub E1 dX0_cell_27 ?_
    refine ag_callPi E1 (As := [.long (Int32.toInt64 x2), .long (0 : Int64), .long ((Int32.toInt64 (f_13.1 (60 + r_14) 1)) - (1 : Int64))]) (kX0_in _ _ _ _ _ _ _ _ _ _ _ _ h) (lw_S q801 q280 q83 q281) hdX0_in (Nat.le_of_ble_eq_true rfl) (Nat.le_of_ble_eq_true rfl) rfl (Nat.le_of_ble_eq_true rfl) dX0_cell_28 rfl (fun r_16 h => ?_)
    refine ag_bipush E1 dX0_cell_31 kb_m12 ?_
    refine ag_callSX E1 (kX0_need _ _ _ _ _ _ _ _ _ _ _ _ h) (lw_S q1354 q1355 q83 q1356) hdX0_need (Nat.le_of_ble_eq_true rfl) (Nat.le_of_ble_eq_true rfl) (As := [.int r_16, .int (-12 : Int32)]) rfl (Nat.le_of_ble_eq_true rfl) dX0_cell_33 rfl (fun v_ f_17_w hv => ?_) (fun a_19 f_18_w hx => ?_)
    rotate_left
    · obtain ⟨f_18, rfl, h⟩ := hx
      obtain ⟨hF_20, h⟩ := h
      obtain ⟨v_21, v_22, v_23, v_24, v_25, y_26, y_27, hP_28_z, h⟩ := h
      have hP_28 := (wX_at (cs := cs) hF_20).trans hP_28_z
      refine th_catch E1 [] [] (10, 44, 45, 414) (ci := 14) (C := RX14) (T0 := TX14) (n2 := 7) rfl (by decide) (by decide) (by decide) q1331 rfl hP_28 ?_
      refine ag_astore E1 (lv' := [(4, .ref a_19), (0, .ref o), (1, .int x1), (2, .int x2), (3, .int x3)]) dX0_cell_45 (Nat.lt_of_lt_of_le (Nat.le_refl _) (Nat.le_of_ble_eq_true rfl)) rfl ?_
      refine ag_aload E1 dX0_cell_47 0 rfl ?_
      refine ag_getL E1 6 (ci := 14) (C := RX14) (T := TX14) (N := 7) rfl in_X14 (by decide) q1349 (fun _ h => h) dX0_cell_49 hP_28 rfl ?_
      exact ax_iret E rfl ⟨_, rfl, h⟩ dX0_cell_52
    obtain ⟨rfl, f_17, rfl, h⟩ := hv
    refine ag_aload E1 dX0_cell_36 0 rfl ?_
    refine ag_iload_n E1 dX0_cell_38 rfl 3 rfl ?_
    refine ag_iload_n E1 dX0_cell_39 rfl 4 rfl ?_
    obtain ⟨ht_30, h⟩ := h
    refine ag_callV E1 (ci := 2) (C := RX1) (T0 := TX1) (n2 := 3) (wX_sheet ht_30) rfl (kX1_put _ _ _ _ _ _ _ _ _ _ _ _ h) (lw_V q1357 q1358 q1359 q87 q1360) ⟨rfl, hdX1_put⟩ (Nat.le_of_ble_eq_true rfl) (Nat.le_of_ble_eq_true rfl) (As := [.int x2, .int x3]) rfl (Nat.le_of_ble_eq_true rfl) dX0_cell_40 (fun v_ f_29_w hv => ?_) rfl
    obtain ⟨rfl, f_29, rfl, h⟩ := hv
    refine ag_iconst E1 dX0_cell_43 ki_1 ?_
    exact ax_iret E rfl ⟨_, rfl, h⟩ dX0_cell_44
  · have h := h.2 c_4
    refine ag_bipush E1 dX0_cell_7 kb_m2 ?_
    exact ax_iret E rfl ⟨_, rfl, h⟩ dX0_cell_9
theorem hdX0_cell : yX0_cell.cls = RX0 ∧ yX0_cell.cls ≠ "java/lang/invoke/MethodHandle" ∧ yX0_cell.cls ≠ "java/lang/invoke/VarHandle" ∧ (parseMethodDescriptor yX0_cell.desc).map (fun d => d.parameters.length) = some 3 := by decide +kernel
theorem tbX0_copy_98 (E : EX p R s m args meth c cX0_copy 8 RX0 (some .int) D cs b H0 (XKd b H0 ad vs) [(17, 123, 124, 414)] 6 134 z u) {Q : Int32 → XS → Prop}  {x2 : Int32} {x4 : Int32} {x5 : Int32} {x6 : Nat} {x7 : Nat} {t0 : Int32} {f : XS} (h : wbX0_copy_98 b cs ad vs o  Q x2 x4 x5 x6 x7 t0 f) : AX p l e R s m args below meth c D cs b 8 o z u (xI Q) 98 [(2, .int x2), (4, .int x4), (5, .int x5), (6, .ref (o + 25 + 2 * x6)), (7, .ref (o + 25 + 2 * x7))] [.int t0] f := by
  have E1 := E.1
  refine ag_bipush E1 dX0_copy_98 kb_m12 ?_
  refine ag_callSX E1 (kX0_need _ _ _ _ _ _ _ _ _ _ _ _ h) (lw_S q1354 q1355 q83 q1356) hdX0_need (Nat.le_of_ble_eq_true rfl) (Nat.le_of_ble_eq_true rfl) (As := [.int t0, .int (-12 : Int32)]) rfl (Nat.le_of_ble_eq_true rfl) dX0_copy_100 rfl (fun v_ f_43_w hv => ?_) (fun a_45 f_44_w hx => ?_)
  rotate_left
  · obtain ⟨f_44, rfl, h⟩ := hx
    obtain ⟨hF_46, h⟩ := h
    obtain ⟨v_47, v_48, v_49, v_50, v_51, y_52, y_53, hP_54_z, h⟩ := h
    have hP_54 := (wX_at (cs := cs) hF_46).trans hP_54_z
    refine th_catch E1 [] [] (17, 123, 124, 414) (ci := 14) (C := RX14) (T0 := TX14) (n2 := 7) rfl (by decide) (by decide) (by decide) q1331 rfl hP_54 ?_
    refine ag_astore E1 (lv' := [(6, .ref a_45), (2, .int x2), (4, .int x4), (5, .int x5), (7, .ref (o + 25 + 2 * x7))]) dX0_copy_124 (Nat.lt_of_lt_of_le (Nat.le_refl _) (Nat.le_of_ble_eq_true rfl)) rfl ?_
    refine ag_aload E1 dX0_copy_126 0 rfl ?_
    refine ag_getL E1 6 (ci := 14) (C := RX14) (T := TX14) (N := 7) rfl in_X14 (by decide) q1349 (fun _ h => h) dX0_copy_128 hP_54 rfl ?_
    exact ax_iret E rfl ⟨_, rfl, h⟩ dX0_copy_131
  obtain ⟨rfl, f_43, rfl, h⟩ := hv
  refine ag_aload E1 dX0_copy_103 3 rfl ?_
  obtain ⟨ht_55, h⟩ := h
  refine ag_get E1 (ci := 2) (C := RX1) (T := TX1) (N := 3) (k := 2) (v := .ref (o + 26 + 2 * x6)) rfl in_X1 (by decide) q169 (fun _ h => h) dX0_copy_105 (wX_sheet ht_55) rfl ?_
  refine ag_iload_n E1 dX0_copy_108 rfl 0 rfl ?_
  refine ag_aload E1 dX0_copy_109 4 rfl ?_
  obtain ⟨ht_56, h⟩ := h
  refine ag_get E1 (ci := 2) (C := RX1) (T := TX1) (N := 3) (k := 2) (v := .ref (o + 26 + 2 * x7)) rfl in_X1 (by decide) q169 (fun _ h => h) dX0_copy_111 (wX_sheet ht_56) rfl ?_
  refine ag_iload E1 dX0_copy_114 1 rfl ?_
  refine ag_iload E1 dX0_copy_116 2 rfl ?_
  obtain ⟨ht_57, h⟩ := h
  obtain ⟨ht_58, h⟩ := h
  obtain ⟨hc_59, hc_60, hc_61, hc_62, hc_63, h⟩ := h
  refine ag_copyi E1 (t0 := 0) q1198 q360 q359 q98 (wX_cells ht_57) (wX_cells ht_58) rfl rfl hc_59 hc_60 hc_61 hc_62 hc_63 (fun _ _ => rfl) (Nat.le_of_ble_eq_true rfl) (Nat.le_of_ble_eq_true rfl) (Nat.le_of_ble_eq_true rfl) dX0_copy_118 (fun f_64_w e_65_w => ?_)
  refine ag_eqX (e_65_w.trans (wX_rowC ht_58)) (fun f_64 e_65 => ?_)
  have h := h f_64 e_65
  refine ag_iload E1 dX0_copy_121 2 rfl ?_
  exact ax_iret E rfl ⟨_, rfl, h⟩ dX0_copy_123
theorem tbX0_copy_97 (E : EX p R s m args meth c cX0_copy 8 RX0 (some .int) D cs b H0 (XKd b H0 ad vs) [(17, 123, 124, 414)] 6 134 z u) {Q : Int32 → XS → Prop}  {x2 : Int32} {x4 : Int32} {x5 : Int32} {x6 : Nat} {x7 : Nat} {f : XS} (h : wbX0_copy_97 b cs ad vs o  Q x2 x4 x5 x6 x7 f) : AX p l e R s m args below meth c D cs b 8 o z u (xI Q) 97 [(2, .int x2), (4, .int x4), (5, .int x5), (6, .ref (o + 25 + 2 * x6)), (7, .ref (o + 25 + 2 * x7))] [] f := by
  have E1 := E.1
  refine ag_iconst E1 dX0_copy_97 ki_0 ?_
  exact tbX0_copy_98 E  h
theorem tbX0_copy_49 (E : EX p R s m args meth c cX0_copy 8 RX0 (some .int) D cs b H0 (XKd b H0 ad vs) [(17, 123, 124, 414)] 6 134 z u) {Q : Int32 → XS → Prop}  {x2 : Int32} {x4 : Int32} {x5 : Int32} {x6 : Nat} {x7 : Nat} {t0 : Int32} {f : XS} (h : wbX0_copy_49 b cs ad vs o  Q x2 x4 x5 x6 x7 t0 f) : AX p l e R s m args below meth c D cs b 8 o z u (xI Q) 49 [(2, .int x2), (4, .int x4), (5, .int x5), (6, .ref (o + 25 + 2 * x6)), (7, .ref (o + 25 + 2 * x7))] [.int t0] f := by
  have E1 := E.1
  refine ag_bipush E1 dX0_copy_49 kb_m13 ?_
  refine ag_callSX E1 (kX0_need _ _ _ _ _ _ _ _ _ _ _ _ h) (lw_S q1354 q1355 q83 q1356) hdX0_need (Nat.le_of_ble_eq_true rfl) (Nat.le_of_ble_eq_true rfl) (As := [.int t0, .int (-13 : Int32)]) rfl (Nat.le_of_ble_eq_true rfl) dX0_copy_51 rfl (fun v_ f_31_w hv => ?_) (fun a_33 f_32_w hx => ?_)
  rotate_left
  · obtain ⟨f_32, rfl, h⟩ := hx
    obtain ⟨hF_34, h⟩ := h
    obtain ⟨v_35, v_36, v_37, v_38, v_39, y_40, y_41, hP_42_z, h⟩ := h
    have hP_42 := (wX_at (cs := cs) hF_34).trans hP_42_z
    refine th_catch E1 [] [] (17, 123, 124, 414) (ci := 14) (C := RX14) (T0 := TX14) (n2 := 7) rfl (by decide) (by decide) (by decide) q1331 rfl hP_42 ?_
    refine ag_astore E1 (lv' := [(6, .ref a_33), (2, .int x2), (4, .int x4), (5, .int x5), (7, .ref (o + 25 + 2 * x7))]) dX0_copy_124 (Nat.lt_of_lt_of_le (Nat.le_refl _) (Nat.le_of_ble_eq_true rfl)) rfl ?_
    refine ag_aload E1 dX0_copy_126 0 rfl ?_
    refine ag_getL E1 6 (ci := 14) (C := RX14) (T := TX14) (N := 7) rfl in_X14 (by decide) q1349 (fun _ h => h) dX0_copy_128 hP_42 rfl ?_
    exact ax_iret E rfl ⟨_, rfl, h⟩ dX0_copy_131
  obtain ⟨rfl, f_31, rfl, h⟩ := hv
  refine ag_iload E1 dX0_copy_54 2 rfl ?_
  refine ag_if_lt E1 (tgt := 97) dX0_copy_56 (by decide) (fun c_56 => ?_) (fun c_56 => ?_)
  · have h := h.1 c_56
    exact tbX0_copy_97 E  h
  · have h := h.2 c_56
    refine ag_iload_n E1 dX0_copy_59 rfl 0 rfl ?_
    refine ag_if_lt E1 (tgt := 97) dX0_copy_60 (by decide) (fun c_60 => ?_) (fun c_60 => ?_)
    · have h := h.1 c_60
      exact tbX0_copy_97 E  h
    · have h := h.2 c_60
      refine ag_iload E1 dX0_copy_63 1 rfl ?_
      refine ag_if_lt E1 (tgt := 97) dX0_copy_65 (by decide) (fun c_65 => ?_) (fun c_65 => ?_)
      · have h := h.1 c_65
        exact tbX0_copy_97 E  h
      · have h := h.2 c_65
        refine ag_iload_n E1 dX0_copy_68 rfl 0 rfl ?_
        refine ag_aload E1 dX0_copy_69 3 rfl ?_
        obtain ⟨ht_66, h⟩ := h
        refine ag_get E1 (ci := 2) (C := RX1) (T := TX1) (N := 3) (k := 1) (v := .int (f_31.1 (60 + x6) 1)) rfl in_X1 (by decide) q167 (fun _ h => h) dX0_copy_71 (wX_sheet ht_66) rfl ?_
        refine ag_iload E1 dX0_copy_74 2 rfl ?_
        refine ag_isub E1 dX0_copy_76 ?_
        refine ag_icmp_gt E1 (tgt := 97) dX0_copy_77 (by decide) (fun c_77 => ?_) (fun c_77 => ?_)
        · have h := h.1 c_77
          exact tbX0_copy_97 E  h
        · have h := h.2 c_77
          refine ag_iload E1 dX0_copy_80 1 rfl ?_
          refine ag_aload E1 dX0_copy_82 4 rfl ?_
          obtain ⟨ht_67, h⟩ := h
          refine ag_get E1 (ci := 2) (C := RX1) (T := TX1) (N := 3) (k := 1) (v := .int (f_31.1 (60 + x7) 1)) rfl in_X1 (by decide) q167 (fun _ h => h) dX0_copy_84 (wX_sheet ht_67) rfl ?_
          refine ag_iload E1 dX0_copy_87 2 rfl ?_
          refine ag_isub E1 dX0_copy_89 ?_
          refine ag_icmp_gt E1 (tgt := 97) dX0_copy_90 (by decide) (fun c_90 => ?_) (fun c_90 => ?_)
          · have h := h.1 c_90
            exact tbX0_copy_97 E  h
          · have h := h.2 c_90
            refine ag_iconst E1 dX0_copy_93 ki_1 ?_
            refine ag_goto E1 (tgt := 98) dX0_copy_94 (by decide) ?_
            exact tbX0_copy_98 E  h
theorem kX0_copy (l : Launch) (D : va_G) (cs : Nat → ClassId) (b : Nat) (H0 : Heap) (ad : Nat → Nat) (vs : Nat → Option Nat) (o : Nat) (f : XS) (x1 : Int32) (x2 : Int32) (x3 : Int32) (x4 : Int32) (x5 : Int32) (Q : Int32 → XS → Prop) (h : wX0_copy b cs ad vs o f x1 x2 x3 x4 x5 Q) : CXW l D cs b H0 (XKd b H0 ad vs) o yX0_copy cX0_copy 8 (some .int) [(17, 123, 124, 414)] 6 134 [.ref o, .int x1, .int x2, .int x3, .int x4, .int x5] f (xI Q) := by
  refine conw_of (by decide) (Nat.le_of_ble_eq_true rfl) (fun p e R s m below meth c E1 h0 hin0 => ?_)
  have E : EX p R s m ([.ref o, .int x1, .int x2, .int x3, .int x4, .int x5] : List Value).toArray meth c cX0_copy 8 RX0 (some .int) D cs b H0 (XKd b H0 ad vs) [(17, 123, 124, 414)] 6 134 f.2.2.2.1 f.2.2.2.2 := ⟨E1, h0⟩
  refine ag_xret ?_
  refine ag_sub (lv' := [(0, .ref o), (1, .int x1), (2, .int x2), (3, .int x3), (4, .int x4), (5, .int x5)]) [0, 1, 2, 3, 4, 5] rfl ?_
  refine ag_iload_n E1 dX0_copy_0 rfl 1 rfl ?_
  refine ag_callPi E1 (As := [.int x1]) (kX0_isSheet _ _ _ _ _ _ _ _ _ _ h) (lw_S q898 q899 q83 q900) hdX0_isSheet (Nat.le_of_ble_eq_true rfl) (Nat.le_of_ble_eq_true rfl) rfl (Nat.le_of_ble_eq_true rfl) dX0_copy_1 rfl (fun r_1 h => ?_)
  refine ag_if_eq E1 (tgt := 14) dX0_copy_4 (by decide) (fun c_4 => ?_) (fun c_4 => ?_)
  · have h := h.1 c_4
    refine ag_bipush E1 dX0_copy_14 kb_m2 ?_
    exact ax_iret E rfl ⟨_, rfl, h⟩ dX0_copy_16
  · have h := h.2 c_4
    refine ag_iload_n E1 dX0_copy_7 rfl 3 rfl ?_
    refine ag_callPi E1 (As := [.int x3]) (kX0_isSheet _ _ _ _ _ _ _ _ _ _ h) (lw_S q898 q899 q83 q900) hdX0_isSheet (Nat.le_of_ble_eq_true rfl) (Nat.le_of_ble_eq_true rfl) rfl (Nat.le_of_ble_eq_true rfl) dX0_copy_8 rfl (fun r_2 h => ?_)
    refine ag_if_ne E1 (tgt := 17) dX0_copy_11 (by decide) (fun c_11 => ?_) (fun c_11 => ?_)
    · have h := h.1 c_11
      refine ag_aload_n E1 dX0_copy_17 rfl 0 rfl ?_
      refine ag_iload_n E1 dX0_copy_18 rfl 1 rfl ?_
      refine ag_callVX E1 (ci := 1) (C := RX0) (T0 := TX0) (n2 := 43) pX_obj rfl (kX0_there _ _ _ _ _ _ _ _ _ _ _ _ h) (lw_V q1332 q1334 qs44 q83 q1335) hdX0_there (Nat.le_of_ble_eq_true rfl) (Nat.le_of_ble_eq_true rfl) (As := [.int x1]) rfl (Nat.le_of_ble_eq_true rfl) dX0_copy_19 rfl (fun v_ f_14_w hv => ?_) (fun a_4 f_3_w hx => ?_)
      rotate_left
      · obtain ⟨f_3, rfl, h⟩ := hx
        obtain ⟨hF_5, h⟩ := h
        obtain ⟨v_6, v_7, v_8, v_9, v_10, y_11, y_12, hP_13_z, h⟩ := h
        have hP_13 := (wX_at (cs := cs) hF_5).trans hP_13_z
        refine th_catch E1 [] [] (17, 123, 124, 414) (ci := 14) (C := RX14) (T0 := TX14) (n2 := 7) rfl (by decide) (by decide) (by decide) q1331 rfl hP_13 ?_
        refine ag_astore E1 (lv' := [(6, .ref a_4), (0, .ref o), (1, .int x1), (2, .int x2), (3, .int x3), (4, .int x4), (5, .int x5)]) dX0_copy_124 (Nat.lt_of_lt_of_le (Nat.le_refl _) (Nat.le_of_ble_eq_true rfl)) rfl ?_
        refine ag_aload E1 dX0_copy_126 0 rfl ?_
        refine ag_getL E1 6 (ci := 14) (C := RX14) (T := TX14) (N := 7) rfl in_X14 (by decide) q1349 (fun _ h => h) dX0_copy_128 hP_13 rfl ?_
        exact ax_iret E rfl ⟨_, rfl, h⟩ dX0_copy_131
      obtain ⟨f_14, rfl, r_15, rfl, h⟩ := hv
      refine ag_astore E1 (lv' := [(6, .ref (o + 25 + 2 * r_15)), (0, .ref o), (1, .int x1), (2, .int x2), (3, .int x3), (4, .int x4), (5, .int x5)]) dX0_copy_22 (Nat.lt_of_lt_of_le (Nat.le_refl _) (Nat.le_of_ble_eq_true rfl)) rfl ?_
      refine ag_aload_n E1 dX0_copy_24 rfl 1 rfl ?_
      refine ag_iload_n E1 dX0_copy_25 rfl 4 rfl ?_
      refine ag_callVX E1 (ci := 1) (C := RX0) (T0 := TX0) (n2 := 43) pX_obj rfl (kX0_there _ _ _ _ _ _ _ _ _ _ _ _ h) (lw_V q1332 q1334 qs44 q83 q1335) hdX0_there (Nat.le_of_ble_eq_true rfl) (Nat.le_of_ble_eq_true rfl) (As := [.int x3]) rfl (Nat.le_of_ble_eq_true rfl) dX0_copy_26 rfl (fun v_ f_27_w hv => ?_) (fun a_17 f_16_w hx => ?_)
      rotate_left
      · obtain ⟨f_16, rfl, h⟩ := hx
        obtain ⟨hF_18, h⟩ := h
        obtain ⟨v_19, v_20, v_21, v_22, v_23, y_24, y_25, hP_26_z, h⟩ := h
        have hP_26 := (wX_at (cs := cs) hF_18).trans hP_26_z
        refine th_catch E1 [] [] (17, 123, 124, 414) (ci := 14) (C := RX14) (T0 := TX14) (n2 := 7) rfl (by decide) (by decide) (by decide) q1331 rfl hP_26 ?_
        refine ag_astore E1 (lv' := [(6, .ref a_17), (0, .ref o), (1, .int x1), (2, .int x2), (3, .int x3), (4, .int x4), (5, .int x5)]) dX0_copy_124 (Nat.lt_of_lt_of_le (Nat.le_refl _) (Nat.le_of_ble_eq_true rfl)) rfl ?_
        refine ag_aload E1 dX0_copy_126 0 rfl ?_
        refine ag_getL E1 6 (ci := 14) (C := RX14) (T := TX14) (N := 7) rfl in_X14 (by decide) q1349 (fun _ h => h) dX0_copy_128 hP_26 rfl ?_
        exact ax_iret E rfl ⟨_, rfl, h⟩ dX0_copy_131
      obtain ⟨f_27, rfl, r_28, rfl, h⟩ := hv
      refine ag_astore E1 (lv' := [(7, .ref (o + 25 + 2 * r_28)), (6, .ref (o + 25 + 2 * r_15)), (0, .ref o), (1, .int x1), (2, .int x2), (3, .int x3), (4, .int x4), (5, .int x5)]) dX0_copy_29 (Nat.lt_of_lt_of_le (Nat.le_refl _) (Nat.le_of_ble_eq_true rfl)) rfl ?_
      refine ag_aload E1 dX0_copy_31 1 rfl ?_
      obtain ⟨ht_29, h⟩ := h
      refine ag_get E1 (ci := 2) (C := RX1) (T := TX1) (N := 3) (k := 0) (v := .int (f_27.1 (60 + r_15) 0)) rfl in_X1 (by decide) q165 (fun _ h => h) dX0_copy_33 (wX_sheet ht_29) rfl ?_
      refine ag_aload E1 dX0_copy_36 0 rfl ?_
      obtain ⟨ht_30, h⟩ := h
      refine ag_get E1 (ci := 2) (C := RX1) (T := TX1) (N := 3) (k := 0) (v := .int (f_27.1 (60 + r_28) 0)) rfl in_X1 (by decide) q165 (fun _ h => h) dX0_copy_38 (wX_sheet ht_30) rfl ?_
      refine ag_icmp_ne E1 (tgt := 48) dX0_copy_41 (by decide) (fun c_41 => ?_) (fun c_41 => ?_)
      · have h := h.1 c_41
        refine ag_iconst E1 dX0_copy_48 ki_0 ?_
        refine ag_sub (lv' := [(2, .int x2), (4, .int x4), (5, .int x5), (6, .ref (o + 25 + 2 * r_15)), (7, .ref (o + 25 + 2 * r_28))]) [4, 6, 7, 1, 0] rfl ?_
        exact tbX0_copy_49 E  h
      · have h := h.2 c_41
        refine ag_iconst E1 dX0_copy_44 ki_1 ?_
        refine ag_goto E1 (tgt := 49) dX0_copy_45 (by decide) ?_
        refine ag_sub (lv' := [(2, .int x2), (4, .int x4), (5, .int x5), (6, .ref (o + 25 + 2 * r_15)), (7, .ref (o + 25 + 2 * r_28))]) [4, 6, 7, 1, 0] rfl ?_
        exact tbX0_copy_49 E  h
    · have h := h.2 c_11
      refine ag_bipush E1 dX0_copy_14 kb_m2 ?_
      exact ax_iret E rfl ⟨_, rfl, h⟩ dX0_copy_16
theorem hdX0_copy : yX0_copy.cls = RX0 ∧ yX0_copy.cls ≠ "java/lang/invoke/MethodHandle" ∧ yX0_copy.cls ≠ "java/lang/invoke/VarHandle" ∧ (parseMethodDescriptor yX0_copy.desc).map (fun d => d.parameters.length) = some 5 := by decide +kernel
theorem tbX0_roads_150 (E : EX p R s m args meth c cX0_roads 9 RX0 (some .int) D cs b H0 (XKd b H0 ad vs) [(38, 158, 159, 414)] 6 134 z u) {Q : Int32 → XS → Prop} {K67 : Int32 → Int32 → Int32 → Nat → Int32 → XS → Prop} (hK67 : ∀ (x3 : Int32) (x4 : Int32) (x5 : Int32) (x6 : Nat) (x7 : Int32) (f : XS), K67 x3 x4 x5 x6 x7 f → AX p l e R s m args below meth c D cs b 9 o z u (xI Q) 67 [(0, .ref o), (3, .int x3), (4, .int x4), (5, .int x5), (6, .ref (o + 25 + 2 * x6)), (7, .int x7)] [] f) {x3 : Int32} {x4 : Int32} {x5 : Int32} {x6 : Nat} {x7 : Int32} {f : XS} (h : wbX0_roads_150 b cs ad vs o K67 Q x3 x4 x5 x6 x7 f) : AX p l e R s m args below meth c D cs b 9 o z u (xI Q) 150 [(0, .ref o), (3, .int x3), (4, .int x4), (5, .int x5), (6, .ref (o + 25 + 2 * x6)), (7, .int x7)] [] f := by
  have E1 := E.1
  refine ag_iincN E1 (lv' := fun x7_54 => [(7, .int x7_54), (0, .ref o), (3, .int x3), (4, .int x4), (5, .int x5), (6, .ref (o + 25 + 2 * x6))]) dX0_roads_150 5 rfl ki_1 (Nat.lt_of_lt_of_le (Nat.le_refl _) (Nat.le_of_ble_eq_true rfl)) (fun _ => rfl) (fun x7_54 e_x7_54 => ?_)
  have h := h x7_54 e_x7_54
  refine ag_goto E1 (tgt := 67) dX0_roads_153 (by decide) ?_
  refine ag_sub (lv' := [(0, .ref o), (3, .int x3), (4, .int x4), (5, .int x5), (6, .ref (o + 25 + 2 * x6)), (7, .int x7_54)]) [1, 2, 3, 4, 5, 0] rfl ?_
  exact hK67 _ _ _ _ _ _ h
theorem tbX0_roads_99 (E : EX p R s m args meth c cX0_roads 9 RX0 (some .int) D cs b H0 (XKd b H0 ad vs) [(38, 158, 159, 414)] 6 134 z u) {Q : Int32 → XS → Prop} {K67 : Int32 → Int32 → Int32 → Nat → Int32 → XS → Prop} (hK67 : ∀ (x3 : Int32) (x4 : Int32) (x5 : Int32) (x6 : Nat) (x7 : Int32) (f : XS), K67 x3 x4 x5 x6 x7 f → AX p l e R s m args below meth c D cs b 9 o z u (xI Q) 67 [(0, .ref o), (3, .int x3), (4, .int x4), (5, .int x5), (6, .ref (o + 25 + 2 * x6)), (7, .int x7)] [] f) {x3 : Int32} {x4 : Int32} {x5 : Int32} {x6 : Nat} {x7 : Int32} {t0 : Int32} {f : XS} (h : wbX0_roads_99 b cs ad vs o K67 Q x3 x4 x5 x6 x7 t0 f) : AX p l e R s m args below meth c D cs b 9 o z u (xI Q) 99 [(0, .ref o), (3, .int x3), (4, .int x4), (5, .int x5), (6, .ref (o + 25 + 2 * x6)), (7, .int x7)] [.int t0] f := by
  have E1 := E.1
  refine ag_bipush E1 dX0_roads_99 kb_m12 ?_
  refine ag_callSX E1 (kX0_need _ _ _ _ _ _ _ _ _ _ _ _ h) (lw_S q1354 q1355 q83 q1356) hdX0_need (Nat.le_of_ble_eq_true rfl) (Nat.le_of_ble_eq_true rfl) (As := [.int t0, .int (-12 : Int32)]) rfl (Nat.le_of_ble_eq_true rfl) dX0_roads_101 rfl (fun v_ f_30_w hv => ?_) (fun a_32 f_31_w hx => ?_)
  rotate_left
  · obtain ⟨f_31, rfl, h⟩ := hx
    obtain ⟨hF_33, h⟩ := h
    obtain ⟨v_34, v_35, v_36, v_37, v_38, y_39, y_40, hP_41_z, h⟩ := h
    have hP_41 := (wX_at (cs := cs) hF_33).trans hP_41_z
    refine th_catch E1 [] [] (38, 158, 159, 414) (ci := 14) (C := RX14) (T0 := TX14) (n2 := 7) rfl (by decide) (by decide) (by decide) q1331 rfl hP_41 ?_
    refine ag_astore E1 (lv' := [(6, .ref a_32), (0, .ref o), (3, .int x3), (4, .int x4), (5, .int x5), (7, .int x7)]) dX0_roads_159 (Nat.lt_of_lt_of_le (Nat.le_refl _) (Nat.le_of_ble_eq_true rfl)) rfl ?_
    refine ag_aload E1 dX0_roads_161 0 rfl ?_
    refine ag_getL E1 6 (ci := 14) (C := RX14) (T := TX14) (N := 7) rfl in_X14 (by decide) q1349 (fun _ h => h) dX0_roads_163 hP_41 rfl ?_
    exact ax_iret E rfl ⟨_, rfl, h⟩ dX0_roads_166
  obtain ⟨rfl, f_30, rfl, h⟩ := hv
  refine ag_iload_n E1 dX0_roads_104 rfl 1 rfl ?_
  refine ag_iconst E1 dX0_roads_105 ki_3 ?_
  refine ag_iload E1 dX0_roads_106 5 rfl ?_
  refine ag_imul E1 dX0_roads_108 ?_
  refine ag_iadd E1 dX0_roads_109 ?_
  refine ag_topi (fun x8_42 e_x8_42 => ?_)
  have h := h x8_42 e_x8_42
  refine ag_istore E1 (lv' := [(8, .int x8_42), (0, .ref o), (3, .int x3), (4, .int x4), (5, .int x5), (6, .ref (o + 25 + 2 * x6)), (7, .int x7)]) dX0_roads_110 (Nat.lt_of_lt_of_le (Nat.le_refl _) (Nat.le_of_ble_eq_true rfl)) rfl ?_
  refine ag_aload_n E1 dX0_roads_112 rfl 1 rfl ?_
  refine ag_aload E1 dX0_roads_113 5 rfl ?_
  obtain ⟨ht_43, h⟩ := h
  refine ag_get E1 (ci := 2) (C := RX1) (T := TX1) (N := 3) (k := 2) (v := .ref (o + 26 + 2 * x6)) rfl in_X1 (by decide) q169 (fun _ h => h) dX0_roads_115 (wX_sheet ht_43) rfl ?_
  refine ag_iload E1 dX0_roads_118 0 rfl ?_
  obtain ⟨ht_44, h⟩ := h
  obtain ⟨hin_45, h⟩ := h
  refine ag_iald E1 (t0 := 0) (wX_cells ht_44) rfl hin_45 dX0_roads_120 ?_
  refine ag_aload E1 dX0_roads_121 5 rfl ?_
  obtain ⟨ht_46, h⟩ := h
  refine ag_get E1 (ci := 2) (C := RX1) (T := TX1) (N := 3) (k := 2) (v := .ref (o + 26 + 2 * x6)) rfl in_X1 (by decide) q169 (fun _ h => h) dX0_roads_123 (wX_sheet ht_46) rfl ?_
  refine ag_iload E1 dX0_roads_126 0 rfl ?_
  refine ag_iconst E1 dX0_roads_128 ki_1 ?_
  refine ag_iadd E1 dX0_roads_129 ?_
  obtain ⟨ht_47, h⟩ := h
  obtain ⟨hin_48, h⟩ := h
  refine ag_iald E1 (t0 := 0) (wX_cells ht_47) rfl hin_48 dX0_roads_130 ?_
  refine ag_aload E1 dX0_roads_131 5 rfl ?_
  obtain ⟨ht_49, h⟩ := h
  refine ag_get E1 (ci := 2) (C := RX1) (T := TX1) (N := 3) (k := 2) (v := .ref (o + 26 + 2 * x6)) rfl in_X1 (by decide) q169 (fun _ h => h) dX0_roads_133 (wX_sheet ht_49) rfl ?_
  refine ag_iload E1 dX0_roads_136 0 rfl ?_
  refine ag_iconst E1 dX0_roads_138 ki_2 ?_
  refine ag_iadd E1 dX0_roads_139 ?_
  obtain ⟨ht_50, h⟩ := h
  obtain ⟨hin_51, h⟩ := h
  refine ag_iald E1 (t0 := 0) (wX_cells ht_50) rfl hin_51 dX0_roads_140 ?_
  refine ax_callVi E [.int (f_30.1 (70 + x6) (Int32.toNatClampNeg x8_42)), .int (f_30.1 (70 + x6) (Int32.toNatClampNeg (x8_42 + (1 : Int32)))), .int (f_30.1 (70 + x6) (Int32.toNatClampNeg (x8_42 + (2 : Int32))))] (kX0_road _ _ _ _ _ _ _ _ _ _ _ _ _ h) (lw_V q1370 q808 q809 q83 q810) hdX0_road (Nat.le_of_ble_eq_true rfl) (Nat.le_of_ble_eq_true rfl) rfl (Nat.le_of_ble_eq_true rfl) dX0_roads_141 rfl (fun r_53 f_52 h => ?_)
  refine ag_if_lt E1 (tgt := 150) dX0_roads_144 (by decide) (fun c_144 => ?_) (fun c_144 => ?_)
  · have h := h.1 c_144
    refine ag_sub (lv' := [(0, .ref o), (3, .int x3), (4, .int x4), (5, .int x5), (6, .ref (o + 25 + 2 * x6)), (7, .int x7)]) [1, 2, 3, 4, 5, 6] rfl ?_
    exact tbX0_roads_150 E hK67 h
  · have h := h.2 c_144
    refine ag_iincN E1 (lv' := fun x5_55 => [(5, .int x5_55), (8, .int x8_42), (0, .ref o), (3, .int x3), (4, .int x4), (6, .ref (o + 25 + 2 * x6)), (7, .int x7)]) dX0_roads_147 4 rfl ki_1 (Nat.lt_of_lt_of_le (Nat.le_refl _) (Nat.le_of_ble_eq_true rfl)) (fun _ => rfl) (fun x5_55 e_x5_55 => ?_)
    have h := h x5_55 e_x5_55
    refine ag_sub (lv' := [(0, .ref o), (3, .int x3), (4, .int x4), (5, .int x5_55), (6, .ref (o + 25 + 2 * x6)), (7, .int x7)]) [2, 3, 4, 0, 5, 6] rfl ?_
    exact tbX0_roads_150 E hK67 h
theorem tbX0_roads_98 (E : EX p R s m args meth c cX0_roads 9 RX0 (some .int) D cs b H0 (XKd b H0 ad vs) [(38, 158, 159, 414)] 6 134 z u) {Q : Int32 → XS → Prop} {K67 : Int32 → Int32 → Int32 → Nat → Int32 → XS → Prop} (hK67 : ∀ (x3 : Int32) (x4 : Int32) (x5 : Int32) (x6 : Nat) (x7 : Int32) (f : XS), K67 x3 x4 x5 x6 x7 f → AX p l e R s m args below meth c D cs b 9 o z u (xI Q) 67 [(0, .ref o), (3, .int x3), (4, .int x4), (5, .int x5), (6, .ref (o + 25 + 2 * x6)), (7, .int x7)] [] f) {x3 : Int32} {x4 : Int32} {x5 : Int32} {x6 : Nat} {x7 : Int32} {f : XS} (h : wbX0_roads_98 b cs ad vs o K67 Q x3 x4 x5 x6 x7 f) : AX p l e R s m args below meth c D cs b 9 o z u (xI Q) 98 [(0, .ref o), (3, .int x3), (4, .int x4), (5, .int x5), (6, .ref (o + 25 + 2 * x6)), (7, .int x7)] [] f := by
  have E1 := E.1
  refine ag_iconst E1 dX0_roads_98 ki_0 ?_
  exact tbX0_roads_99 E hK67 h
theorem tbX0_roads_67 (E : EX p R s m args meth c cX0_roads 9 RX0 (some .int) D cs b H0 (XKd b H0 ad vs) [(38, 158, 159, 414)] 6 134 z u) {Q : Int32 → XS → Prop} {K67 : Int32 → Int32 → Int32 → Nat → Int32 → XS → Prop} (hK67 : ∀ (x3 : Int32) (x4 : Int32) (x5 : Int32) (x6 : Nat) (x7 : Int32) (f : XS), K67 x3 x4 x5 x6 x7 f → AX p l e R s m args below meth c D cs b 9 o z u (xI Q) 67 [(0, .ref o), (3, .int x3), (4, .int x4), (5, .int x5), (6, .ref (o + 25 + 2 * x6)), (7, .int x7)] [] f) {x3 : Int32} {x4 : Int32} {x5 : Int32} {x6 : Nat} {x7 : Int32} {f : XS} (h : wbX0_roads_67 b cs ad vs o K67 Q x3 x4 x5 x6 x7 f) : AX p l e R s m args below meth c D cs b 9 o z u (xI Q) 67 [(0, .ref o), (3, .int x3), (4, .int x4), (5, .int x5), (6, .ref (o + 25 + 2 * x6)), (7, .int x7)] [] f := by
  have E1 := E.1
  refine ag_iload E1 dX0_roads_67 5 rfl ?_
  refine ag_iload E1 dX0_roads_69 2 rfl ?_
  refine ag_icmp_ge E1 (tgt := 156) dX0_roads_71 (by decide) (fun c_71 => ?_) (fun c_71 => ?_)
  · have h := h.1 c_71
    refine ag_iload E1 dX0_roads_156 3 rfl ?_
    exact ax_iret E rfl ⟨_, rfl, h⟩ dX0_roads_158
  · have h := h.2 c_71
    refine ag_iload_n E1 dX0_roads_74 rfl 1 rfl ?_
    refine ag_if_lt E1 (tgt := 98) dX0_roads_75 (by decide) (fun c_75 => ?_) (fun c_75 => ?_)
    · have h := h.1 c_75
      exact tbX0_roads_98 E hK67 h
    · have h := h.2 c_75
      refine ag_iload_n E1 dX0_roads_78 rfl 1 rfl ?_
      refine ag_aload E1 dX0_roads_79 4 rfl ?_
      obtain ⟨ht_56, h⟩ := h
      refine ag_get E1 (ci := 2) (C := RX1) (T := TX1) (N := 3) (k := 1) (v := .int (f.1 (60 + x6) 1)) rfl in_X1 (by decide) q167 (fun _ h => h) dX0_roads_81 (wX_sheet ht_56) rfl ?_
      refine ag_iconst E1 dX0_roads_84 ki_3 ?_
      refine ag_iload E1 dX0_roads_85 5 rfl ?_
      refine ag_imul E1 dX0_roads_87 ?_
      refine ag_isub E1 dX0_roads_88 ?_
      refine ag_iconst E1 dX0_roads_89 ki_3 ?_
      refine ag_isub E1 dX0_roads_90 ?_
      refine ag_icmp_gt E1 (tgt := 98) dX0_roads_91 (by decide) (fun c_91 => ?_) (fun c_91 => ?_)
      · have h := h.1 c_91
        exact tbX0_roads_98 E hK67 h
      · have h := h.2 c_91
        refine ag_iconst E1 dX0_roads_94 ki_1 ?_
        refine ag_goto E1 (tgt := 99) dX0_roads_95 (by decide) ?_
        exact tbX0_roads_99 E hK67 h
theorem tlX0_roads_67 (E : EX p R s m args meth c cX0_roads 9 RX0 (some .int) D cs b H0 (XKd b H0 ad vs) [(38, 158, 159, 414)] 6 134 z u) {Q : Int32 → XS → Prop}  : ∀ (n : Nat) (x3 : Int32) (x4 : Int32) (x5 : Int32) (x6 : Nat) (x7 : Int32) (f : XS), wlX0_roads_67 b cs ad vs o  Q n x3 x4 x5 x6 x7 f → AX p l e R s m args below meth c D cs b 9 o z u (xI Q) 67 [(0, .ref o), (3, .int x3), (4, .int x4), (5, .int x5), (6, .ref (o + 25 + 2 * x6)), (7, .int x7)] [] f := by
  intro n
  induction n with
  | zero => intro _ _ _ _ _ _ h; exact h.elim
  | succ n ih => intro x3 x4 x5 x6 x7 f h; exact tbX0_roads_67 E ih h
theorem tbX0_roads_59 (E : EX p R s m args meth c cX0_roads 9 RX0 (some .int) D cs b H0 (XKd b H0 ad vs) [(38, 158, 159, 414)] 6 134 z u) {Q : Int32 → XS → Prop}  {x3 : Int32} {x4 : Int32} {x5 : Int32} {x6 : Nat} {t0 : Int32} {f : XS} (h : wbX0_roads_59 b cs ad vs o  Q x3 x4 x5 x6 t0 f) : AX p l e R s m args below meth c D cs b 9 o z u (xI Q) 59 [(0, .ref o), (3, .int x3), (4, .int x4), (5, .int x5), (6, .ref (o + 25 + 2 * x6))] [.int t0] f := by
  have E1 := E.1
  refine ag_bipush E1 dX0_roads_59 kb_m13 ?_
  refine ag_callSX E1 (kX0_need _ _ _ _ _ _ _ _ _ _ _ _ h) (lw_S q1354 q1355 q83 q1356) hdX0_need (Nat.le_of_ble_eq_true rfl) (Nat.le_of_ble_eq_true rfl) (As := [.int t0, .int (-13 : Int32)]) rfl (Nat.le_of_ble_eq_true rfl) dX0_roads_61 rfl (fun v_ f_18_w hv => ?_) (fun a_20 f_19_w hx => ?_)
  rotate_left
  · obtain ⟨f_19, rfl, h⟩ := hx
    obtain ⟨hF_21, h⟩ := h
    obtain ⟨v_22, v_23, v_24, v_25, v_26, y_27, y_28, hP_29_z, h⟩ := h
    have hP_29 := (wX_at (cs := cs) hF_21).trans hP_29_z
    refine th_catch E1 [] [] (38, 158, 159, 414) (ci := 14) (C := RX14) (T0 := TX14) (n2 := 7) rfl (by decide) (by decide) (by decide) q1331 rfl hP_29 ?_
    refine ag_astore E1 (lv' := [(6, .ref a_20), (0, .ref o), (3, .int x3), (4, .int x4), (5, .int x5)]) dX0_roads_159 (Nat.lt_of_lt_of_le (Nat.le_refl _) (Nat.le_of_ble_eq_true rfl)) rfl ?_
    refine ag_aload E1 dX0_roads_161 0 rfl ?_
    refine ag_getL E1 6 (ci := 14) (C := RX14) (T := TX14) (N := 7) rfl in_X14 (by decide) q1349 (fun _ h => h) dX0_roads_163 hP_29 rfl ?_
    exact ax_iret E rfl ⟨_, rfl, h⟩ dX0_roads_166
  obtain ⟨rfl, f_18, rfl, h⟩ := hv
  refine ag_iconst E1 dX0_roads_64 ki_0 ?_
  refine ag_istore E1 (lv' := [(7, .int (0 : Int32)), (0, .ref o), (3, .int x3), (4, .int x4), (5, .int x5), (6, .ref (o + 25 + 2 * x6))]) dX0_roads_65 (Nat.lt_of_lt_of_le (Nat.le_refl _) (Nat.le_of_ble_eq_true rfl)) rfl ?_
  refine ag_sub (lv' := [(0, .ref o), (3, .int x3), (4, .int x4), (5, .int x5), (6, .ref (o + 25 + 2 * x6)), (7, .int (0 : Int32))]) [1, 2, 3, 4, 5, 0] rfl ?_
  obtain ⟨n, h⟩ := h
  exact tlX0_roads_67 E  n _ _ _ _ _ _ h
theorem kX0_roads (l : Launch) (D : va_G) (cs : Nat → ClassId) (b : Nat) (H0 : Heap) (ad : Nat → Nat) (vs : Nat → Option Nat) (o : Nat) (f : XS) (x1 : Int32) (x2 : Int32) (x3 : Int32) (x4 : Int32) (Q : Int32 → XS → Prop) (h : wX0_roads b cs ad vs o f x1 x2 x3 x4 Q) : CXW l D cs b H0 (XKd b H0 ad vs) o yX0_roads cX0_roads 9 (some .int) [(38, 158, 159, 414)] 6 134 [.ref o, .int x1, .int x2, .int x3, .int x4] f (xI Q) := by
  refine conw_of (by decide) (Nat.le_of_ble_eq_true rfl) (fun p e R s m below meth c E1 h0 hin0 => ?_)
  have E : EX p R s m ([.ref o, .int x1, .int x2, .int x3, .int x4] : List Value).toArray meth c cX0_roads 9 RX0 (some .int) D cs b H0 (XKd b H0 ad vs) [(38, 158, 159, 414)] 6 134 f.2.2.2.1 f.2.2.2.2 := ⟨E1, h0⟩
  refine ag_xret ?_
  refine ag_sub (lv' := [(0, .ref o), (1, .int x1), (2, .int x2), (3, .int x3), (4, .int x4)]) [0, 1, 2, 3, 4] rfl ?_
  refine ag_iload_n E1 dX0_roads_0 rfl 1 rfl ?_
  refine ag_callPi E1 (As := [.int x1]) (kX0_isSheet _ _ _ _ _ _ _ _ _ _ h) (lw_S q898 q899 q83 q900) hdX0_isSheet (Nat.le_of_ble_eq_true rfl) (Nat.le_of_ble_eq_true rfl) rfl (Nat.le_of_ble_eq_true rfl) dX0_roads_1 rfl (fun r_1 h => ?_)
  refine ag_if_eq E1 (tgt := 32) dX0_roads_4 (by decide) (fun c_4 => ?_) (fun c_4 => ?_)
  · have h := h.1 c_4
    refine ag_bipush E1 dX0_roads_32 kb_m2 ?_
    exact ax_iret E rfl ⟨_, rfl, h⟩ dX0_roads_34
  · have h := h.2 c_4
    refine ag_iload_n E1 dX0_roads_7 rfl 2 rfl ?_
    refine ag_i2l E1 dX0_roads_8 ?_
    refine ag_lconst E1 (v := 0) dX0_roads_9 rfl ?_
    refine ag_ldc2 E1 q824 dX0_roads_10 ?_
    refine ag_callPi E1 (As := [.long (Int32.toInt64 x2), .long (0 : Int64), .long (2 : Int64)]) (kX0_in _ _ _ _ _ _ _ _ _ _ _ _ h) (lw_S q801 q280 q83 q281) hdX0_in (Nat.le_of_ble_eq_true rfl) (Nat.le_of_ble_eq_true rfl) rfl (Nat.le_of_ble_eq_true rfl) dX0_roads_13 rfl (fun r_2 h => ?_)
    refine ag_if_eq E1 (tgt := 32) dX0_roads_16 (by decide) (fun c_16 => ?_) (fun c_16 => ?_)
    · have h := h.1 c_16
      refine ag_bipush E1 dX0_roads_32 kb_m2 ?_
      exact ax_iret E rfl ⟨_, rfl, h⟩ dX0_roads_34
    · have h := h.2 c_16
      refine ag_iload E1 dX0_roads_19 4 rfl ?_
      refine ag_i2l E1 dX0_roads_21 ?_
      refine ag_lconst E1 (v := 0) dX0_roads_22 rfl ?_
      refine ag_ldc2 E1 q1369 dX0_roads_23 ?_
      refine ag_callPi E1 (As := [.long (Int32.toInt64 x4), .long (0 : Int64), .long (13 : Int64)]) (kX0_in _ _ _ _ _ _ _ _ _ _ _ _ h) (lw_S q801 q280 q83 q281) hdX0_in (Nat.le_of_ble_eq_true rfl) (Nat.le_of_ble_eq_true rfl) rfl (Nat.le_of_ble_eq_true rfl) dX0_roads_26 rfl (fun r_3 h => ?_)
      refine ag_if_ne E1 (tgt := 35) dX0_roads_29 (by decide) (fun c_29 => ?_) (fun c_29 => ?_)
      · have h := h.1 c_29
        refine ag_iconst E1 dX0_roads_35 ki_0 ?_
        refine ag_istore E1 (lv' := [(5, .int (0 : Int32)), (0, .ref o), (1, .int x1), (2, .int x2), (3, .int x3), (4, .int x4)]) dX0_roads_36 (Nat.lt_of_lt_of_le (Nat.le_refl _) (Nat.le_of_ble_eq_true rfl)) rfl ?_
        refine ag_aload_n E1 dX0_roads_38 rfl 1 rfl ?_
        refine ag_iload_n E1 dX0_roads_39 rfl 2 rfl ?_
        refine ag_callVX E1 (ci := 1) (C := RX0) (T0 := TX0) (n2 := 43) pX_obj rfl (kX0_there _ _ _ _ _ _ _ _ _ _ _ _ h) (lw_V q1332 q1334 qs44 q83 q1335) hdX0_there (Nat.le_of_ble_eq_true rfl) (Nat.le_of_ble_eq_true rfl) (As := [.int x1]) rfl (Nat.le_of_ble_eq_true rfl) dX0_roads_40 rfl (fun v_ f_15_w hv => ?_) (fun a_5 f_4_w hx => ?_)
        rotate_left
        · obtain ⟨f_4, rfl, h⟩ := hx
          obtain ⟨hF_6, h⟩ := h
          obtain ⟨v_7, v_8, v_9, v_10, v_11, y_12, y_13, hP_14_z, h⟩ := h
          have hP_14 := (wX_at (cs := cs) hF_6).trans hP_14_z
          refine th_catch E1 [] [] (38, 158, 159, 414) (ci := 14) (C := RX14) (T0 := TX14) (n2 := 7) rfl (by decide) (by decide) (by decide) q1331 rfl hP_14 ?_
          refine ag_astore E1 (lv' := [(6, .ref a_5), (5, .int (0 : Int32)), (0, .ref o), (1, .int x1), (2, .int x2), (3, .int x3), (4, .int x4)]) dX0_roads_159 (Nat.lt_of_lt_of_le (Nat.le_refl _) (Nat.le_of_ble_eq_true rfl)) rfl ?_
          refine ag_aload E1 dX0_roads_161 0 rfl ?_
          refine ag_getL E1 6 (ci := 14) (C := RX14) (T := TX14) (N := 7) rfl in_X14 (by decide) q1349 (fun _ h => h) dX0_roads_163 hP_14 rfl ?_
          exact ax_iret E rfl ⟨_, rfl, h⟩ dX0_roads_166
        obtain ⟨f_15, rfl, r_16, rfl, h⟩ := hv
        refine ag_astore E1 (lv' := [(6, .ref (o + 25 + 2 * r_16)), (5, .int (0 : Int32)), (0, .ref o), (1, .int x1), (2, .int x2), (3, .int x3), (4, .int x4)]) dX0_roads_43 (Nat.lt_of_lt_of_le (Nat.le_refl _) (Nat.le_of_ble_eq_true rfl)) rfl ?_
        refine ag_aload E1 dX0_roads_45 0 rfl ?_
        obtain ⟨ht_17, h⟩ := h
        refine ag_get E1 (ci := 2) (C := RX1) (T := TX1) (N := 3) (k := 0) (v := .int (f_15.1 (60 + r_16) 0)) rfl in_X1 (by decide) q165 (fun _ h => h) dX0_roads_47 (wX_sheet ht_17) rfl ?_
        refine ag_iload_n E1 dX0_roads_50 rfl 4 rfl ?_
        refine ag_icmp_ne E1 (tgt := 58) dX0_roads_51 (by decide) (fun c_51 => ?_) (fun c_51 => ?_)
        · have h := h.1 c_51
          refine ag_iconst E1 dX0_roads_58 ki_0 ?_
          refine ag_sub (lv' := [(0, .ref o), (3, .int x3), (4, .int x4), (5, .int (0 : Int32)), (6, .ref (o + 25 + 2 * r_16))]) [2, 5, 6, 1, 0] rfl ?_
          exact tbX0_roads_59 E  h
        · have h := h.2 c_51
          refine ag_iconst E1 dX0_roads_54 ki_1 ?_
          refine ag_goto E1 (tgt := 59) dX0_roads_55 (by decide) ?_
          refine ag_sub (lv' := [(0, .ref o), (3, .int x3), (4, .int x4), (5, .int (0 : Int32)), (6, .ref (o + 25 + 2 * r_16))]) [2, 5, 6, 1, 0] rfl ?_
          exact tbX0_roads_59 E  h
      · have h := h.2 c_29
        refine ag_bipush E1 dX0_roads_32 kb_m2 ?_
        exact ax_iret E rfl ⟨_, rfl, h⟩ dX0_roads_34
theorem hdX0_roads : yX0_roads.cls = RX0 ∧ yX0_roads.cls ≠ "java/lang/invoke/MethodHandle" ∧ yX0_roads.cls ≠ "java/lang/invoke/VarHandle" ∧ (parseMethodDescriptor yX0_roads.desc).map (fun d => d.parameters.length) = some 4 := by decide +kernel
theorem tbX0_taken_89 (E : EX p R s m args meth c cX0_taken 5 RX0 (some .int) D cs b H0 (XKd b H0 ad vs) [(15, 103, 127, 414), (104, 126, 127, 414)] 6 134 z u) {Q : Int32 → XS → Prop}  {x2 : Int32} {t0 : Nat} {t1 : Nat} {t2 : Nat} {f : XS} (h : wbX0_taken_89 b cs ad vs o  Q x2 t0 t1 t2 f) : AX p l e R s m args below meth c D cs b 5 o z u (xI Q) 89 [(2, .int x2)] [.ref t0, .ref t1, .ref t2] f := by
  have E1 := E.1
  refine ag_callI E1 (kX15_init _ _ _ _ _ _ _ _ _ _ _ h) q1400 q118 q1398 q1399 rfl hdX15_init (Nat.le_of_ble_eq_true rfl) (Nat.le_of_ble_eq_true rfl) (As := [.ref t0]) rfl (Nat.le_of_ble_eq_true rfl) dX0_taken_89 (fun v_ f_43_w hv => ?_) rfl
  obtain ⟨rfl, f_43, rfl, h⟩ := hv
  refine ag_astore_n E1 (lv' := [(3, .ref t2), (2, .int x2)]) dX0_taken_92 rfl (Nat.lt_of_lt_of_le (Nat.le_refl _) (Nat.le_of_ble_eq_true rfl)) rfl ?_
  refine ag_iload_n E1 dX0_taken_93 rfl 1 rfl ?_
  refine ag_bipush E1 dX0_taken_94 kb_6 ?_
  refine ag_icmp_ne E1 (tgt := 104) dX0_taken_96 (by decide) (fun c_96 => ?_) (fun c_96 => ?_)
  · have h := h.1 c_96
    refine ag_aload_n E1 dX0_taken_104 rfl 0 rfl ?_
    obtain ⟨hF_45, h⟩ := h
    obtain ⟨v_46, hP_47_z, h⟩ := h
    have hP_47 := (wX_at (cs := cs) hF_45).trans hP_47_z
    refine ag_callVX E1 (ci := 15) (C := RX15) (T0 := TX15) (n2 := 1) hP_47 rfl (kX15_giving _ _ _ _ _ _ _ _ _ _ _ h) (lw_V q1417 q1418 q1419 q118 q1420) ⟨rfl, hdX15_giving⟩ (Nat.le_of_ble_eq_true rfl) (Nat.le_of_ble_eq_true rfl) (As := []) rfl (Nat.le_of_ble_eq_true rfl) dX0_taken_105 rfl (fun v_ f_44_w hv => ?_) (fun a_49 f_48_w hx => ?_)
    rotate_left
    · obtain ⟨f_48, rfl, h⟩ := hx
      obtain ⟨hF_50, h⟩ := h
      obtain ⟨v_51, v_52, v_53, v_54, v_55, y_56, y_57, hP_58_z, h⟩ := h
      have hP_58 := (wX_at (cs := cs) hF_50).trans hP_58_z
      refine th_catch E1 [(15, 103, 127, 414)] [] (104, 126, 127, 414) (ci := 14) (C := RX14) (T0 := TX14) (n2 := 7) rfl (by decide) (by decide) (by decide) q1331 rfl hP_58 ?_
      refine ag_astore_n E1 (lv' := [(3, .ref a_49), (2, .int x2)]) dX0_taken_127 rfl (Nat.lt_of_lt_of_le (Nat.le_refl _) (Nat.le_of_ble_eq_true rfl)) rfl ?_
      refine ag_aload_n E1 dX0_taken_128 rfl 0 rfl ?_
      refine ag_getL E1 6 (ci := 14) (C := RX14) (T := TX14) (N := 7) rfl in_X14 (by decide) q1349 (fun _ h => h) dX0_taken_129 hP_58 rfl ?_
      exact ax_iret E rfl ⟨_, rfl, h⟩ dX0_taken_132
    obtain ⟨r_59, rfl, f_44, rfl, h⟩ := hv
    refine ag_astore E1 (lv' := [(4, .ref r_59), (3, .ref t2), (2, .int x2)]) dX0_taken_108 (Nat.lt_of_lt_of_le (Nat.le_refl _) (Nat.le_of_ble_eq_true rfl)) rfl ?_
    refine ag_aload E1 dX0_taken_110 0 rfl ?_
    refine ag_iload_n E1 dX0_taken_112 rfl 2 rfl ?_
    refine ag_callS E1 (kX0_isUnder _ _ _ _ _ _ _ _ _ _ _ h) (lw_S q1422 q1423 q83 q1424) hdX0_isUnder (Nat.le_of_ble_eq_true rfl) (Nat.le_of_ble_eq_true rfl) (As := [.ref r_59, .int x2]) rfl (Nat.le_of_ble_eq_true rfl) dX0_taken_113 (fun v_ f_60_w hv => ?_) rfl
    obtain ⟨r_61, rfl, f_60, rfl, h⟩ := hv
    refine ag_bipush E1 dX0_taken_116 kb_m13 ?_
    refine ag_callSX E1 (kX0_need _ _ _ _ _ _ _ _ _ _ _ _ h) (lw_S q1354 q1355 q83 q1356) hdX0_need (Nat.le_of_ble_eq_true rfl) (Nat.le_of_ble_eq_true rfl) (As := [.int r_61, .int (-13 : Int32)]) rfl (Nat.le_of_ble_eq_true rfl) dX0_taken_118 rfl (fun v_ f_62_w hv => ?_) (fun a_64 f_63_w hx => ?_)
    rotate_left
    · obtain ⟨f_63, rfl, h⟩ := hx
      obtain ⟨hF_65, h⟩ := h
      obtain ⟨v_66, v_67, v_68, v_69, v_70, y_71, y_72, hP_73_z, h⟩ := h
      have hP_73 := (wX_at (cs := cs) hF_65).trans hP_73_z
      refine th_catch E1 [(15, 103, 127, 414)] [] (104, 126, 127, 414) (ci := 14) (C := RX14) (T0 := TX14) (n2 := 7) rfl (by decide) (by decide) (by decide) q1331 rfl hP_73 ?_
      refine ag_astore_n E1 (lv' := [(3, .ref a_64), (4, .ref r_59), (2, .int x2)]) dX0_taken_127 rfl (Nat.lt_of_lt_of_le (Nat.le_refl _) (Nat.le_of_ble_eq_true rfl)) rfl ?_
      refine ag_aload_n E1 dX0_taken_128 rfl 0 rfl ?_
      refine ag_getL E1 6 (ci := 14) (C := RX14) (T := TX14) (N := 7) rfl in_X14 (by decide) q1349 (fun _ h => h) dX0_taken_129 hP_73 rfl ?_
      exact ax_iret E rfl ⟨_, rfl, h⟩ dX0_taken_132
    obtain ⟨rfl, f_62, rfl, h⟩ := hv
    refine ag_aload E1 dX0_taken_121 0 rfl ?_
    obtain ⟨hF_74, h⟩ := h
    obtain ⟨ci_75, y_76, y_77, v_78, hz_79, ho_80, h⟩ := h
    refine ag_givf E1 0 (by decide) ho_80 q916 dX0_taken_123 ((wX_at hF_74).trans hz_79) rfl ?_
    exact ax_iret E rfl ⟨_, rfl, h⟩ dX0_taken_126
  · have h := h.2 c_96
    refine ag_aload_n E1 dX0_taken_99 rfl 0 rfl ?_
    obtain ⟨hF_82, h⟩ := h
    obtain ⟨v_83, hP_84_z, h⟩ := h
    have hP_84 := (wX_at (cs := cs) hF_82).trans hP_84_z
    refine ag_callVX E1 (ci := 15) (C := RX15) (T0 := TX15) (n2 := 1) hP_84 rfl (kX15_town _ _ _ _ _ _ _ _ _ _ _ h) (lw_V q1406 q1407 q1408 q118 q1409) ⟨rfl, hdX15_town⟩ (Nat.le_of_ble_eq_true rfl) (Nat.le_of_ble_eq_true rfl) (As := []) rfl (Nat.le_of_ble_eq_true rfl) dX0_taken_100 rfl (fun v_ f_81_w hv => ?_) (fun a_86 f_85_w hx => ?_)
    rotate_left
    · obtain ⟨f_85, rfl, h⟩ := hx
      obtain ⟨hF_87, h⟩ := h
      obtain ⟨v_88, v_89, v_90, v_91, v_92, y_93, y_94, hP_95_z, h⟩ := h
      have hP_95 := (wX_at (cs := cs) hF_87).trans hP_95_z
      refine th_catch E1 [] [(104, 126, 127, 414)] (15, 103, 127, 414) (ci := 14) (C := RX14) (T0 := TX14) (n2 := 7) rfl (by decide) (by decide) (by decide) q1331 rfl hP_95 ?_
      refine ag_astore_n E1 (lv' := [(3, .ref a_86), (2, .int x2)]) dX0_taken_127 rfl (Nat.lt_of_lt_of_le (Nat.le_refl _) (Nat.le_of_ble_eq_true rfl)) rfl ?_
      refine ag_aload_n E1 dX0_taken_128 rfl 0 rfl ?_
      refine ag_getL E1 6 (ci := 14) (C := RX14) (T := TX14) (N := 7) rfl in_X14 (by decide) q1349 (fun _ h => h) dX0_taken_129 hP_95 rfl ?_
      exact ax_iret E rfl ⟨_, rfl, h⟩ dX0_taken_132
    obtain ⟨r_96, rfl, f_81, rfl, h⟩ := hv
    exact ax_iret E rfl ⟨_, rfl, h⟩ dX0_taken_103
theorem tbX0_taken_51 (E : EX p R s m args meth c cX0_taken 5 RX0 (some .int) D cs b H0 (XKd b H0 ad vs) [(15, 103, 127, 414), (104, 126, 127, 414)] 6 134 z u) {Q : Int32 → XS → Prop}  {x1 : Int32} {x2 : Int32} {t0 : Int32} {f : XS} (h : wbX0_taken_51 b cs ad vs o  Q x1 x2 t0 f) : AX p l e R s m args below meth c D cs b 5 o z u (xI Q) 51 [(0, .ref o), (1, .int x1), (2, .int x2)] [.int t0] f := by
  have E1 := E.1
  refine ag_bipush E1 dX0_taken_51 kb_m11 ?_
  refine ag_callSX E1 (kX0_need _ _ _ _ _ _ _ _ _ _ _ _ h) (lw_S q1354 q1355 q83 q1356) hdX0_need (Nat.le_of_ble_eq_true rfl) (Nat.le_of_ble_eq_true rfl) (As := [.int t0, .int (-11 : Int32)]) rfl (Nat.le_of_ble_eq_true rfl) dX0_taken_53 rfl (fun v_ f_17_w hv => ?_) (fun a_19 f_18_w hx => ?_)
  rotate_left
  · obtain ⟨f_18, rfl, h⟩ := hx
    obtain ⟨hF_20, h⟩ := h
    obtain ⟨v_21, v_22, v_23, v_24, v_25, y_26, y_27, hP_28_z, h⟩ := h
    have hP_28 := (wX_at (cs := cs) hF_20).trans hP_28_z
    refine th_catch E1 [] [(104, 126, 127, 414)] (15, 103, 127, 414) (ci := 14) (C := RX14) (T0 := TX14) (n2 := 7) rfl (by decide) (by decide) (by decide) q1331 rfl hP_28 ?_
    refine ag_astore_n E1 (lv' := [(3, .ref a_19), (0, .ref o), (1, .int x1), (2, .int x2)]) dX0_taken_127 rfl (Nat.lt_of_lt_of_le (Nat.le_refl _) (Nat.le_of_ble_eq_true rfl)) rfl ?_
    refine ag_aload_n E1 dX0_taken_128 rfl 0 rfl ?_
    refine ag_getL E1 6 (ci := 14) (C := RX14) (T := TX14) (N := 7) rfl in_X14 (by decide) q1349 (fun _ h => h) dX0_taken_129 hP_28 rfl ?_
    exact ax_iret E rfl ⟨_, rfl, h⟩ dX0_taken_132
  obtain ⟨rfl, f_17, rfl, h⟩ := hv
  obtain ⟨hb_31, hF_34_0, h⟩ := h
  refine ag_new E1 (ci := 15) (C := RX15) (T := TX15) (N := 1) (fs := [.null]) tyX15 tyX15_ok in_X15 q1376 q1377 q118 rfl rfl hb_31 dX0_taken_56 (fun a_29 f_30_w e_32 e_33_w => ?_)
  refine ag_eqX (e_33_w.trans (wX_new hF_34_0)) (fun f_30 e_33 => ?_)
  have h := h a_29 f_30 e_32 e_33
  have hF_34 : xF o a_29 := by rw [e_32]; exact hF_34_0
  have hP_35 : (wX o cs f_30).1 a_29 = some (.inr (15, vp_V [.null])) := (wX_at hF_34).trans (by rw [e_33, e_32]; exact xNew_s)
  refine ag_dup E1 dX0_taken_59 rfl ?_
  refine ag_iload_n E1 dX0_taken_60 rfl 1 rfl ?_
  refine ag_bipush E1 dX0_taken_61 kb_6 ?_
  refine ag_icmp_ge E1 (tgt := 78) dX0_taken_63 (by decide) (fun c_63 => ?_) (fun c_63 => ?_)
  · have h := h.1 c_63
    refine ag_aload_n E1 dX0_taken_78 rfl 0 rfl ?_
    refine ax_geto E 11 (i := 9) (by decide) rfl (fun _ => rfl) q677 dX0_taken_79 ?_
    refine ag_iload_n E1 dX0_taken_82 rfl 1 rfl ?_
    refine ag_bipush E1 dX0_taken_83 kb_6 ?_
    refine ag_isub E1 dX0_taken_85 ?_
    obtain ⟨hF_37, h⟩ := h
    obtain ⟨y_38, v_39, y_40, hP_41_z, h⟩ := h
    have hP_41 := (wX_at (cs := cs) hF_37).trans hP_41_z
    refine ag_callV E1 (ci := 16) (C := RJ2) (T0 := TJ2) (n2 := 3) hP_41 rfl (kJ2_get _ _ _ _ _ _ _ _ _ _ _ h) (lw_V q1054 q1055 q1056 q86 q1057) ⟨rfl, hdJ2_get⟩ (Nat.le_of_ble_eq_true rfl) (Nat.le_of_ble_eq_true rfl) (As := [.int (x1 - (6 : Int32))]) rfl (Nat.le_of_ble_eq_true rfl) dX0_taken_86 (fun v_ f_36_w hv => ?_) rfl
    obtain ⟨r_42, rfl, f_36, rfl, h⟩ := hv
    refine ag_sub (lv' := [(2, .int x2)]) [2] rfl ?_
    exact tbX0_taken_89 E  h
  · have h := h.2 c_63
    refine ag_aload_n E1 dX0_taken_66 rfl 0 rfl ?_
    refine ax_geta E 0 (i := 1) (by decide) rfl rfl q666 dX0_taken_67 ?_
    refine ag_iload_n E1 dX0_taken_70 rfl 1 rfl ?_
    obtain ⟨hin, h⟩ := h
    refine ax_iald E 0 rfl rfl rfl (by decide) hin dX0_taken_71 ?_
    refine ag_callS E1 (kJ18_valueOf _ _ _ _ _ _ _ _ _ _ h) (lw_S q1378 q1379 q116 q1380) hdJ18_valueOf (Nat.le_of_ble_eq_true rfl) (Nat.le_of_ble_eq_true rfl) (As := [.int (f_30.1 0 (Int32.toNatClampNeg x1))]) rfl (Nat.le_of_ble_eq_true rfl) dX0_taken_72 (fun v_ f_97_w hv => ?_) rfl
    obtain ⟨r_98, rfl, f_97, rfl, h⟩ := hv
    refine ag_goto E1 (tgt := 89) dX0_taken_75 (by decide) ?_
    refine ag_sub (lv' := [(2, .int x2)]) [2] rfl ?_
    exact tbX0_taken_89 E  h
theorem kX0_taken (l : Launch) (D : va_G) (cs : Nat → ClassId) (b : Nat) (H0 : Heap) (ad : Nat → Nat) (vs : Nat → Option Nat) (o : Nat) (f : XS) (x1 : Int32) (x2 : Int32) (Q : Int32 → XS → Prop) (h : wX0_taken b cs ad vs o f x1 x2 Q) : CXW l D cs b H0 (XKd b H0 ad vs) o yX0_taken cX0_taken 5 (some .int) [(15, 103, 127, 414), (104, 126, 127, 414)] 6 134 [.ref o, .int x1, .int x2] f (xI Q) := by
  refine conw_of (by decide) (Nat.le_of_ble_eq_true rfl) (fun p e R s m below meth c E1 h0 hin0 => ?_)
  have E : EX p R s m ([.ref o, .int x1, .int x2] : List Value).toArray meth c cX0_taken 5 RX0 (some .int) D cs b H0 (XKd b H0 ad vs) [(15, 103, 127, 414), (104, 126, 127, 414)] 6 134 f.2.2.2.1 f.2.2.2.2 := ⟨E1, h0⟩
  refine ag_xret ?_
  refine ag_sub (lv' := [(0, .ref o), (1, .int x1), (2, .int x2)]) [0, 1, 2] rfl ?_
  refine ag_iload_n E1 dX0_taken_0 rfl 2 rfl ?_
  refine ag_i2l E1 dX0_taken_1 ?_
  refine ag_lconst E1 (v := 0) dX0_taken_2 rfl ?_
  refine ag_ldc2 E1 q832 dX0_taken_3 ?_
  refine ag_callPi E1 (As := [.long (Int32.toInt64 x2), .long (0 : Int64), .long (6 : Int64)]) (kX0_in _ _ _ _ _ _ _ _ _ _ _ _ h) (lw_S q801 q280 q83 q281) hdX0_in (Nat.le_of_ble_eq_true rfl) (Nat.le_of_ble_eq_true rfl) rfl (Nat.le_of_ble_eq_true rfl) dX0_taken_6 rfl (fun r_1 h => ?_)
  refine ag_if_ne E1 (tgt := 15) dX0_taken_9 (by decide) (fun c_9 => ?_) (fun c_9 => ?_)
  · have h := h.1 c_9
    refine ag_iload_n E1 dX0_taken_15 rfl 1 rfl ?_
    refine ag_i2l E1 dX0_taken_16 ?_
    refine ag_lconst E1 (v := 0) dX0_taken_17 rfl ?_
    refine ag_ldc2 E1 q1375 dX0_taken_18 ?_
    refine ag_callPi E1 (As := [.long (Int32.toInt64 x1), .long (0 : Int64), .long (17 : Int64)]) (kX0_in _ _ _ _ _ _ _ _ _ _ _ _ h) (lw_S q801 q280 q83 q281) hdX0_in (Nat.le_of_ble_eq_true rfl) (Nat.le_of_ble_eq_true rfl) rfl (Nat.le_of_ble_eq_true rfl) dX0_taken_21 rfl (fun r_2 h => ?_)
    refine ag_bipush E1 dX0_taken_24 kb_m12 ?_
    refine ag_callSX E1 (kX0_need _ _ _ _ _ _ _ _ _ _ _ _ h) (lw_S q1354 q1355 q83 q1356) hdX0_need (Nat.le_of_ble_eq_true rfl) (Nat.le_of_ble_eq_true rfl) (As := [.int r_2, .int (-12 : Int32)]) rfl (Nat.le_of_ble_eq_true rfl) dX0_taken_26 rfl (fun v_ f_3_w hv => ?_) (fun a_5 f_4_w hx => ?_)
    rotate_left
    · obtain ⟨f_4, rfl, h⟩ := hx
      obtain ⟨hF_6, h⟩ := h
      obtain ⟨v_7, v_8, v_9, v_10, v_11, y_12, y_13, hP_14_z, h⟩ := h
      have hP_14 := (wX_at (cs := cs) hF_6).trans hP_14_z
      refine th_catch E1 [] [(104, 126, 127, 414)] (15, 103, 127, 414) (ci := 14) (C := RX14) (T0 := TX14) (n2 := 7) rfl (by decide) (by decide) (by decide) q1331 rfl hP_14 ?_
      refine ag_astore_n E1 (lv' := [(3, .ref a_5), (0, .ref o), (1, .int x1), (2, .int x2)]) dX0_taken_127 rfl (Nat.lt_of_lt_of_le (Nat.le_refl _) (Nat.le_of_ble_eq_true rfl)) rfl ?_
      refine ag_aload_n E1 dX0_taken_128 rfl 0 rfl ?_
      refine ag_getL E1 6 (ci := 14) (C := RX14) (T := TX14) (N := 7) rfl in_X14 (by decide) q1349 (fun _ h => h) dX0_taken_129 hP_14 rfl ?_
      exact ax_iret E rfl ⟨_, rfl, h⟩ dX0_taken_132
    obtain ⟨rfl, f_3, rfl, h⟩ := hv
    refine ag_iload_n E1 dX0_taken_29 rfl 1 rfl ?_
    refine ag_bipush E1 dX0_taken_30 kb_6 ?_
    refine ag_icmp_ge E1 (tgt := 43) dX0_taken_32 (by decide) (fun c_32 => ?_) (fun c_32 => ?_)
    · have h := h.1 c_32
      refine ag_aload_n E1 dX0_taken_43 rfl 0 rfl ?_
      refine ag_iload_n E1 dX0_taken_44 rfl 1 rfl ?_
      refine ag_bipush E1 dX0_taken_45 kb_6 ?_
      refine ag_isub E1 dX0_taken_47 ?_
      refine ax_callVi E [.int (x1 - (6 : Int32))] (kX0_isGiving _ _ _ _ _ _ _ _ _ _ _ h) (lw_V q1050 q1052 qs22 q83 q1053) hdX0_isGiving (Nat.le_of_ble_eq_true rfl) (Nat.le_of_ble_eq_true rfl) rfl (Nat.le_of_ble_eq_true rfl) dX0_taken_48 rfl (fun r_16 f_15 h => ?_)
      exact tbX0_taken_51 E  h
    · have h := h.2 c_32
      refine ag_aload_n E1 dX0_taken_35 rfl 0 rfl ?_
      refine ag_iload_n E1 dX0_taken_36 rfl 1 rfl ?_
      refine ax_callVi E [.int x1] (kX0_isTown _ _ _ _ _ _ _ _ _ _ _ h) (lw_V q811 q813 qs14 q83 q814) hdX0_isTown (Nat.le_of_ble_eq_true rfl) (Nat.le_of_ble_eq_true rfl) rfl (Nat.le_of_ble_eq_true rfl) dX0_taken_37 rfl (fun r_100 f_99 h => ?_)
      refine ag_goto E1 (tgt := 51) dX0_taken_40 (by decide) ?_
      exact tbX0_taken_51 E  h
  · have h := h.2 c_9
    refine ag_bipush E1 dX0_taken_12 kb_m2 ?_
    exact ax_iret E rfl ⟨_, rfl, h⟩ dX0_taken_14
theorem hdX0_taken : yX0_taken.cls = RX0 ∧ yX0_taken.cls ≠ "java/lang/invoke/MethodHandle" ∧ yX0_taken.cls ≠ "java/lang/invoke/VarHandle" ∧ (parseMethodDescriptor yX0_taken.desc).map (fun d => d.parameters.length) = some 2 := by decide +kernel
end
