/-! walks of the reference's methods (by program) -/
set_option maxRecDepth 100000
set_option maxHeartbeats 4000000
section
variable {p : Program} {l : Launch} {e : Env} {R : Room} {s : State} {m : MethodId} {args : Array Value} {below : List Frame} {meth : Method} {c : Code} {D : va_G} {cs : Nat → ClassId} {b o z u : Nat} {Z : cP} {H0 : Heap} {XK : State → Prop}
theorem tbX7_round_139 (E : EM p R s m args meth c cX7_round 12 (some .int) D cs b H0 XK 4 95 z u) {Q : Int32 → St → Prop} {K99 : Int32 → Int32 → Int32 → Int32 → Int32 → Int32 → Int32 → Int32 → St → Prop} (hK99 : ∀ (x3 : Int32) (x4 : Int32) (x5 : Int32) (x6 : Int32) (x7 : Int32) (x8 : Int32) (x9 : Int32) (x10 : Int32) (f : St), K99 x3 x4 x5 x6 x7 x8 x9 x10 f → AM p l e R s m args below meth c D cs b 12 o Z z u (pI Q) 99 [(0, .ref o), (3, .int x3), (4, .int x4), (5, .int x5), (6, .int x6), (7, .int x7), (8, .int x8), (9, .int x9), (10, .int x10)] [] f) {K147 : Int32 → Int32 → Int32 → Int32 → Int32 → Int32 → Int32 → St → Prop} (hK147 : ∀ (x3 : Int32) (x4 : Int32) (x5 : Int32) (x6 : Int32) (x7 : Int32) (x8 : Int32) (x9 : Int32) (f : St), K147 x3 x4 x5 x6 x7 x8 x9 f → AM p l e R s m args below meth c D cs b 12 o Z z u (pI Q) 147 [(0, .ref o), (3, .int x3), (4, .int x4), (5, .int x5), (6, .int x6), (7, .int x7), (8, .int x8), (9, .int x9)] [] f) {x3 : Int32} {x4 : Int32} {x5 : Int32} {x6 : Int32} {x7 : Int32} {x8 : Int32} {x10 : Int32} {t0 : Int32} {f : St} (h : wbX7_round_139 K99 K147 Q x3 x4 x5 x6 x7 x8 x10 t0 f) : AM p l e R s m args below meth c D cs b 12 o Z z u (pI Q) 139 [(0, .ref o), (3, .int x3), (4, .int x4), (5, .int x5), (6, .int x6), (7, .int x7), (8, .int x8), (10, .int x10)] [.int t0] f := by
  have E1 := E.1
  refine ag_istore E1 (lv' := [(9, .int t0), (0, .ref o), (3, .int x3), (4, .int x4), (5, .int x5), (6, .int x6), (7, .int x7), (8, .int x8), (10, .int x10)]) dX7_round_139 (Nat.lt_of_lt_of_le (Nat.le_refl _) (Nat.le_of_ble_eq_true rfl)) rfl ?_
  refine ag_iincN E1 (lv' := fun x10_16 => [(10, .int x10_16), (9, .int t0), (0, .ref o), (3, .int x3), (4, .int x4), (5, .int x5), (6, .int x6), (7, .int x7), (8, .int x8)]) dX7_round_141 8 rfl ki_1 (Nat.lt_of_lt_of_le (Nat.le_refl _) (Nat.le_of_ble_eq_true rfl)) (fun _ => rfl) (fun x10_16 e_x10_16 => ?_)
  have h := h x10_16 e_x10_16
  refine ag_goto E1 (tgt := 99) dX7_round_144 (by decide) ?_
  refine ag_sub (lv' := [(0, .ref o), (3, .int x3), (4, .int x4), (5, .int x5), (6, .int x6), (7, .int x7), (8, .int x8), (9, .int t0), (10, .int x10_16)]) [2, 3, 4, 5, 6, 7, 8, 1, 0] rfl ?_
  exact hK99 _ _ _ _ _ _ _ _ _ h
theorem tbX7_round_99 (E : EM p R s m args meth c cX7_round 12 (some .int) D cs b H0 XK 4 95 z u) {Q : Int32 → St → Prop} {K99 : Int32 → Int32 → Int32 → Int32 → Int32 → Int32 → Int32 → Int32 → St → Prop} (hK99 : ∀ (x3 : Int32) (x4 : Int32) (x5 : Int32) (x6 : Int32) (x7 : Int32) (x8 : Int32) (x9 : Int32) (x10 : Int32) (f : St), K99 x3 x4 x5 x6 x7 x8 x9 x10 f → AM p l e R s m args below meth c D cs b 12 o Z z u (pI Q) 99 [(0, .ref o), (3, .int x3), (4, .int x4), (5, .int x5), (6, .int x6), (7, .int x7), (8, .int x8), (9, .int x9), (10, .int x10)] [] f) {K147 : Int32 → Int32 → Int32 → Int32 → Int32 → Int32 → Int32 → St → Prop} (hK147 : ∀ (x3 : Int32) (x4 : Int32) (x5 : Int32) (x6 : Int32) (x7 : Int32) (x8 : Int32) (x9 : Int32) (f : St), K147 x3 x4 x5 x6 x7 x8 x9 f → AM p l e R s m args below meth c D cs b 12 o Z z u (pI Q) 147 [(0, .ref o), (3, .int x3), (4, .int x4), (5, .int x5), (6, .int x6), (7, .int x7), (8, .int x8), (9, .int x9)] [] f) {x3 : Int32} {x4 : Int32} {x5 : Int32} {x6 : Int32} {x7 : Int32} {x8 : Int32} {x9 : Int32} {x10 : Int32} {f : St} (h : wbX7_round_99 K99 K147 Q x3 x4 x5 x6 x7 x8 x9 x10 f) : AM p l e R s m args below meth c D cs b 12 o Z z u (pI Q) 99 [(0, .ref o), (3, .int x3), (4, .int x4), (5, .int x5), (6, .int x6), (7, .int x7), (8, .int x8), (9, .int x9), (10, .int x10)] [] f := by
  have E1 := E.1
  refine ag_iload E1 dX7_round_99 8 rfl ?_
  refine ag_aload_n E1 dX7_round_101 rfl 0 rfl ?_
  refine am_geti E 0 (by decide) rfl q1450 dX7_round_102 ?_
  refine ag_icmp_ge E1 (tgt := 147) dX7_round_105 (by decide) (fun c_105 => ?_) (fun c_105 => ?_)
  · have h := h.1 c_105
    refine ag_sub (lv' := [(0, .ref o), (3, .int x3), (4, .int x4), (5, .int x5), (6, .int x6), (7, .int x7), (8, .int x8), (9, .int x9)]) [0, 1, 2, 3, 4, 5, 6, 7] rfl ?_
    exact hK147 _ _ _ _ _ _ _ _ h
  · have h := h.2 c_105
    refine ag_aload_n E1 dX7_round_108 rfl 0 rfl ?_
    refine ag_iload E1 dX7_round_109 5 rfl ?_
    refine ag_iload E1 dX7_round_111 8 rfl ?_
    refine ag_iload E1 dX7_round_113 4 rfl ?_
    refine ag_iload E1 dX7_round_115 6 rfl ?_
    refine ag_iload E1 dX7_round_117 2 rfl ?_
    refine ag_iload_n E1 dX7_round_119 rfl 1 rfl ?_
    refine am_callVi E [.int x7, .int x10, .int x6, .int x8, .int x4, .int x3] (kX7_soldBy _ _ _ _ _ _ _ _ _ _ _ _ _ _ _ _ _ _ h) (lw_V q1883 q1885 qs80 q107 q1886) hdX7_soldBy (Nat.le_of_ble_eq_true rfl) (Nat.le_of_ble_eq_true rfl) rfl (Nat.le_of_ble_eq_true rfl) dX7_round_120 rfl (fun r_15 f_14 h => ?_)
    refine ag_istore E1 (lv' := [(11, .int r_15), (0, .ref o), (3, .int x3), (4, .int x4), (5, .int x5), (6, .int x6), (7, .int x7), (8, .int x8), (9, .int x9), (10, .int x10)]) dX7_round_123 (Nat.lt_of_lt_of_le (Nat.le_refl _) (Nat.le_of_ble_eq_true rfl)) rfl ?_
    refine ag_iload E1 dX7_round_125 0 rfl ?_
    refine ag_iload E1 dX7_round_127 8 rfl ?_
    refine ag_icmp_le E1 (tgt := 137) dX7_round_129 (by decide) (fun c_129 => ?_) (fun c_129 => ?_)
    · have h := h.1 c_129
      refine ag_iload E1 dX7_round_137 8 rfl ?_
      refine ag_sub (lv' := [(0, .ref o), (3, .int x3), (4, .int x4), (5, .int x5), (6, .int x6), (7, .int x7), (8, .int x8), (10, .int x10)]) [1, 2, 3, 4, 5, 6, 7, 9] rfl ?_
      exact tbX7_round_139 E hK99 hK147 h
    · have h := h.2 c_129
      refine ag_iload E1 dX7_round_132 0 rfl ?_
      refine ag_goto E1 (tgt := 139) dX7_round_134 (by decide) ?_
      refine ag_sub (lv' := [(0, .ref o), (3, .int x3), (4, .int x4), (5, .int x5), (6, .int x6), (7, .int x7), (8, .int x8), (10, .int x10)]) [1, 2, 3, 4, 5, 6, 7, 9] rfl ?_
      exact tbX7_round_139 E hK99 hK147 h
theorem tlX7_round_99 (E : EM p R s m args meth c cX7_round 12 (some .int) D cs b H0 XK 4 95 z u) {Q : Int32 → St → Prop} {K147 : Int32 → Int32 → Int32 → Int32 → Int32 → Int32 → Int32 → St → Prop} (hK147 : ∀ (x3 : Int32) (x4 : Int32) (x5 : Int32) (x6 : Int32) (x7 : Int32) (x8 : Int32) (x9 : Int32) (f : St), K147 x3 x4 x5 x6 x7 x8 x9 f → AM p l e R s m args below meth c D cs b 12 o Z z u (pI Q) 147 [(0, .ref o), (3, .int x3), (4, .int x4), (5, .int x5), (6, .int x6), (7, .int x7), (8, .int x8), (9, .int x9)] [] f) : ∀ (n : Nat) (x3 : Int32) (x4 : Int32) (x5 : Int32) (x6 : Int32) (x7 : Int32) (x8 : Int32) (x9 : Int32) (x10 : Int32) (f : St), wlX7_round_99 K147 Q n x3 x4 x5 x6 x7 x8 x9 x10 f → AM p l e R s m args below meth c D cs b 12 o Z z u (pI Q) 99 [(0, .ref o), (3, .int x3), (4, .int x4), (5, .int x5), (6, .int x6), (7, .int x7), (8, .int x8), (9, .int x9), (10, .int x10)] [] f := by
  intro n
  induction n with
  | zero => intro _ _ _ _ _ _ _ _ _ h; exact h.elim
  | succ n ih => intro x3 x4 x5 x6 x7 x8 x9 x10 f h; exact tbX7_round_99 E ih hK147 h
theorem tbX7_round_86 (E : EM p R s m args meth c cX7_round 12 (some .int) D cs b H0 XK 4 95 z u) {Q : Int32 → St → Prop} {K86 : Int32 → Int32 → Int32 → Int32 → Int32 → Int32 → St → Prop} (hK86 : ∀ (x3 : Int32) (x4 : Int32) (x5 : Int32) (x6 : Int32) (x7 : Int32) (x8 : Int32) (f : St), K86 x3 x4 x5 x6 x7 x8 f → AM p l e R s m args below meth c D cs b 12 o Z z u (pI Q) 86 [(0, .ref o), (3, .int x3), (4, .int x4), (5, .int x5), (6, .int x6), (7, .int x7), (8, .int x8)] [] f) {K175 : Int32 → Int32 → Int32 → Int32 → Int32 → St → Prop} (hK175 : ∀ (x3 : Int32) (x4 : Int32) (x5 : Int32) (x6 : Int32) (x7 : Int32) (f : St), K175 x3 x4 x5 x6 x7 f → AM p l e R s m args below meth c D cs b 12 o Z z u (pI Q) 175 [(0, .ref o), (3, .int x3), (4, .int x4), (5, .int x5), (6, .int x6), (7, .int x7)] [] f) {x3 : Int32} {x4 : Int32} {x5 : Int32} {x6 : Int32} {x7 : Int32} {x8 : Int32} {f : St} (h : wbX7_round_86 K86 K175 Q x3 x4 x5 x6 x7 x8 f) : AM p l e R s m args below meth c D cs b 12 o Z z u (pI Q) 86 [(0, .ref o), (3, .int x3), (4, .int x4), (5, .int x5), (6, .int x6), (7, .int x7), (8, .int x8)] [] f := by
  have E1 := E.1
  refine ag_iload E1 dX7_round_86 6 rfl ?_
  refine ag_iload E1 dX7_round_88 3 rfl ?_
  refine ag_icmp_gt E1 (tgt := 175) dX7_round_90 (by decide) (fun c_90 => ?_) (fun c_90 => ?_)
  · have h := h.1 c_90
    refine ag_sub (lv' := [(0, .ref o), (3, .int x3), (4, .int x4), (5, .int x5), (6, .int x6), (7, .int x7)]) [0, 1, 2, 3, 4, 5] rfl ?_
    exact hK175 _ _ _ _ _ _ h
  · have h := h.2 c_90
    refine ag_iconst E1 dX7_round_93 ki_m1 ?_
    refine ag_istore E1 (lv' := [(9, .int (-1 : Int32)), (0, .ref o), (3, .int x3), (4, .int x4), (5, .int x5), (6, .int x6), (7, .int x7), (8, .int x8)]) dX7_round_94 (Nat.lt_of_lt_of_le (Nat.le_refl _) (Nat.le_of_ble_eq_true rfl)) rfl ?_
    refine ag_iconst E1 dX7_round_96 ki_0 ?_
    refine ag_istore E1 (lv' := [(10, .int (0 : Int32)), (9, .int (-1 : Int32)), (0, .ref o), (3, .int x3), (4, .int x4), (5, .int x5), (6, .int x6), (7, .int x7), (8, .int x8)]) dX7_round_97 (Nat.lt_of_lt_of_le (Nat.le_refl _) (Nat.le_of_ble_eq_true rfl)) rfl ?_
    refine ag_sub (lv' := [(0, .ref o), (3, .int x3), (4, .int x4), (5, .int x5), (6, .int x6), (7, .int x7), (8, .int x8), (9, .int (-1 : Int32)), (10, .int (0 : Int32))]) [2, 3, 4, 5, 6, 7, 8, 1, 0] rfl ?_
    obtain ⟨n, h⟩ := h
    refine tlX7_round_99 E ?_ n _ _ _ _ _ _ _ _ _ h
    · intro x3 x4 x5 x6 x7 x8 x9 f h
      refine ag_aload_n E1 dX7_round_147 rfl 0 rfl ?_
      refine am_geta E 55 (i := 34) (by decide) (by decide) rfl q1505 dX7_round_148 ?_
      refine ag_sipush E1 dX7_round_151 ks_246 ?_
      refine ag_iload E1 dX7_round_154 4 rfl ?_
      refine ag_imul E1 dX7_round_156 ?_
      refine ag_bipush E1 dX7_round_157 kb_41 ?_
      refine ag_iload E1 dX7_round_159 5 rfl ?_
      refine ag_imul E1 dX7_round_161 ?_
      refine ag_iadd E1 dX7_round_162 ?_
      refine ag_iload E1 dX7_round_163 6 rfl ?_
      refine ag_iadd E1 dX7_round_165 ?_
      refine ag_iload E1 dX7_round_166 7 rfl ?_
      obtain ⟨hin, h⟩ := h
      refine am_iast E 55 rfl rfl rfl (by decide) hin dX7_round_168 (fun f_17 e_f_17 => ?_)
      have h := h f_17 e_f_17
      refine ag_iincN E1 (lv' := fun x8_18 => [(8, .int x8_18), (0, .ref o), (3, .int x3), (4, .int x4), (5, .int x5), (6, .int x6), (7, .int x7), (9, .int x9)]) dX7_round_169 6 rfl ki_1 (Nat.lt_of_lt_of_le (Nat.le_refl _) (Nat.le_of_ble_eq_true rfl)) (fun _ => rfl) (fun x8_18 e_x8_18 => ?_)
      have h := h x8_18 e_x8_18
      refine ag_goto E1 (tgt := 86) dX7_round_172 (by decide) ?_
      refine ag_sub (lv' := [(0, .ref o), (3, .int x3), (4, .int x4), (5, .int x5), (6, .int x6), (7, .int x7), (8, .int x8_18)]) [1, 2, 3, 4, 5, 6, 0] rfl ?_
      exact hK86 _ _ _ _ _ _ _ h
theorem tlX7_round_86 (E : EM p R s m args meth c cX7_round 12 (some .int) D cs b H0 XK 4 95 z u) {Q : Int32 → St → Prop} {K175 : Int32 → Int32 → Int32 → Int32 → Int32 → St → Prop} (hK175 : ∀ (x3 : Int32) (x4 : Int32) (x5 : Int32) (x6 : Int32) (x7 : Int32) (f : St), K175 x3 x4 x5 x6 x7 f → AM p l e R s m args below meth c D cs b 12 o Z z u (pI Q) 175 [(0, .ref o), (3, .int x3), (4, .int x4), (5, .int x5), (6, .int x6), (7, .int x7)] [] f) : ∀ (n : Nat) (x3 : Int32) (x4 : Int32) (x5 : Int32) (x6 : Int32) (x7 : Int32) (x8 : Int32) (f : St), wlX7_round_86 K175 Q n x3 x4 x5 x6 x7 x8 f → AM p l e R s m args below meth c D cs b 12 o Z z u (pI Q) 86 [(0, .ref o), (3, .int x3), (4, .int x4), (5, .int x5), (6, .int x6), (7, .int x7), (8, .int x8)] [] f := by
  intro n
  induction n with
  | zero => intro _ _ _ _ _ _ _ h; exact h.elim
  | succ n ih => intro x3 x4 x5 x6 x7 x8 f h; exact tbX7_round_86 E ih hK175 h
theorem tbX7_round_74 (E : EM p R s m args meth c cX7_round 12 (some .int) D cs b H0 XK 4 95 z u) {Q : Int32 → St → Prop} {K74 : Int32 → Int32 → Int32 → Int32 → Int32 → St → Prop} (hK74 : ∀ (x3 : Int32) (x4 : Int32) (x5 : Int32) (x6 : Int32) (x7 : Int32) (f : St), K74 x3 x4 x5 x6 x7 f → AM p l e R s m args below meth c D cs b 12 o Z z u (pI Q) 74 [(0, .ref o), (3, .int x3), (4, .int x4), (5, .int x5), (6, .int x6), (7, .int x7)] [] f) {K181 : Int32 → Int32 → Int32 → Int32 → St → Prop} (hK181 : ∀ (x3 : Int32) (x4 : Int32) (x5 : Int32) (x6 : Int32) (f : St), K181 x3 x4 x5 x6 f → AM p l e R s m args below meth c D cs b 12 o Z z u (pI Q) 181 [(0, .ref o), (3, .int x3), (4, .int x4), (5, .int x5), (6, .int x6)] [] f) {x3 : Int32} {x4 : Int32} {x5 : Int32} {x6 : Int32} {x7 : Int32} {f : St} (h : wbX7_round_74 K74 K181 Q x3 x4 x5 x6 x7 f) : AM p l e R s m args below meth c D cs b 12 o Z z u (pI Q) 74 [(0, .ref o), (3, .int x3), (4, .int x4), (5, .int x5), (6, .int x6), (7, .int x7)] [] f := by
  have E1 := E.1
  refine ag_iload E1 dX7_round_74 5 rfl ?_
  refine ag_aload_n E1 dX7_round_76 rfl 0 rfl ?_
  refine am_geti E 0 (by decide) rfl q1450 dX7_round_77 ?_
  refine ag_icmp_ge E1 (tgt := 181) dX7_round_80 (by decide) (fun c_80 => ?_) (fun c_80 => ?_)
  · have h := h.1 c_80
    refine ag_sub (lv' := [(0, .ref o), (3, .int x3), (4, .int x4), (5, .int x5), (6, .int x6)]) [0, 1, 2, 3, 4] rfl ?_
    exact hK181 _ _ _ _ _ h
  · have h := h.2 c_80
    refine ag_iconst E1 dX7_round_83 ki_0 ?_
    refine ag_istore E1 (lv' := [(8, .int (0 : Int32)), (0, .ref o), (3, .int x3), (4, .int x4), (5, .int x5), (6, .int x6), (7, .int x7)]) dX7_round_84 (Nat.lt_of_lt_of_le (Nat.le_refl _) (Nat.le_of_ble_eq_true rfl)) rfl ?_
    refine ag_sub (lv' := [(0, .ref o), (3, .int x3), (4, .int x4), (5, .int x5), (6, .int x6), (7, .int x7), (8, .int (0 : Int32))]) [1, 2, 3, 4, 5, 6, 0] rfl ?_
    obtain ⟨n, h⟩ := h
    refine tlX7_round_86 E ?_ n _ _ _ _ _ _ _ h
    · intro x3 x4 x5 x6 x7 f h
      refine ag_iincN E1 (lv' := fun x7_19 => [(7, .int x7_19), (0, .ref o), (3, .int x3), (4, .int x4), (5, .int x5), (6, .int x6)]) dX7_round_175 5 rfl ki_1 (Nat.lt_of_lt_of_le (Nat.le_refl _) (Nat.le_of_ble_eq_true rfl)) (fun _ => rfl) (fun x7_19 e_x7_19 => ?_)
      have h := h x7_19 e_x7_19
      refine ag_goto E1 (tgt := 74) dX7_round_178 (by decide) ?_
      refine ag_sub (lv' := [(0, .ref o), (3, .int x3), (4, .int x4), (5, .int x5), (6, .int x6), (7, .int x7_19)]) [1, 2, 3, 4, 5, 0] rfl ?_
      exact hK74 _ _ _ _ _ _ h
theorem tlX7_round_74 (E : EM p R s m args meth c cX7_round 12 (some .int) D cs b H0 XK 4 95 z u) {Q : Int32 → St → Prop} {K181 : Int32 → Int32 → Int32 → Int32 → St → Prop} (hK181 : ∀ (x3 : Int32) (x4 : Int32) (x5 : Int32) (x6 : Int32) (f : St), K181 x3 x4 x5 x6 f → AM p l e R s m args below meth c D cs b 12 o Z z u (pI Q) 181 [(0, .ref o), (3, .int x3), (4, .int x4), (5, .int x5), (6, .int x6)] [] f) : ∀ (n : Nat) (x3 : Int32) (x4 : Int32) (x5 : Int32) (x6 : Int32) (x7 : Int32) (f : St), wlX7_round_74 K181 Q n x3 x4 x5 x6 x7 f → AM p l e R s m args below meth c D cs b 12 o Z z u (pI Q) 74 [(0, .ref o), (3, .int x3), (4, .int x4), (5, .int x5), (6, .int x6), (7, .int x7)] [] f := by
  intro n
  induction n with
  | zero => intro _ _ _ _ _ _ h; exact h.elim
  | succ n ih => intro x3 x4 x5 x6 x7 f h; exact tbX7_round_74 E ih hK181 h
theorem tbX7_round_66 (E : EM p R s m args meth c cX7_round 12 (some .int) D cs b H0 XK 4 95 z u) {Q : Int32 → St → Prop} {K66 : Int32 → Int32 → Int32 → Int32 → St → Prop} (hK66 : ∀ (x3 : Int32) (x4 : Int32) (x5 : Int32) (x6 : Int32) (f : St), K66 x3 x4 x5 x6 f → AM p l e R s m args below meth c D cs b 12 o Z z u (pI Q) 66 [(0, .ref o), (3, .int x3), (4, .int x4), (5, .int x5), (6, .int x6)] [] f) {K187 : Int32 → Int32 → Int32 → St → Prop} (hK187 : ∀ (x3 : Int32) (x4 : Int32) (x5 : Int32) (f : St), K187 x3 x4 x5 f → AM p l e R s m args below meth c D cs b 12 o Z z u (pI Q) 187 [(0, .ref o), (3, .int x3), (4, .int x4), (5, .int x5)] [] f) {x3 : Int32} {x4 : Int32} {x5 : Int32} {x6 : Int32} {f : St} (h : wbX7_round_66 K66 K187 Q x3 x4 x5 x6 f) : AM p l e R s m args below meth c D cs b 12 o Z z u (pI Q) 66 [(0, .ref o), (3, .int x3), (4, .int x4), (5, .int x5), (6, .int x6)] [] f := by
  have E1 := E.1
  refine ag_iload E1 dX7_round_66 4 rfl ?_
  refine ag_if_lt E1 (tgt := 187) dX7_round_68 (by decide) (fun c_68 => ?_) (fun c_68 => ?_)
  · have h := h.1 c_68
    refine ag_sub (lv' := [(0, .ref o), (3, .int x3), (4, .int x4), (5, .int x5)]) [0, 1, 2, 3] rfl ?_
    exact hK187 _ _ _ _ h
  · have h := h.2 c_68
    refine ag_iconst E1 dX7_round_71 ki_0 ?_
    refine ag_istore E1 (lv' := [(7, .int (0 : Int32)), (0, .ref o), (3, .int x3), (4, .int x4), (5, .int x5), (6, .int x6)]) dX7_round_72 (Nat.lt_of_lt_of_le (Nat.le_refl _) (Nat.le_of_ble_eq_true rfl)) rfl ?_
    refine ag_sub (lv' := [(0, .ref o), (3, .int x3), (4, .int x4), (5, .int x5), (6, .int x6), (7, .int (0 : Int32))]) [1, 2, 3, 4, 5, 0] rfl ?_
    obtain ⟨n, h⟩ := h
    refine tlX7_round_74 E ?_ n _ _ _ _ _ _ h
    · intro x3 x4 x5 x6 f h
      refine ag_iincN E1 (lv' := fun x6_20 => [(6, .int x6_20), (0, .ref o), (3, .int x3), (4, .int x4), (5, .int x5)]) dX7_round_181 4 rfl ki_m1 (Nat.lt_of_lt_of_le (Nat.le_refl _) (Nat.le_of_ble_eq_true rfl)) (fun _ => rfl) (fun x6_20 e_x6_20 => ?_)
      have h := h x6_20 e_x6_20
      refine ag_goto E1 (tgt := 66) dX7_round_184 (by decide) ?_
      refine ag_sub (lv' := [(0, .ref o), (3, .int x3), (4, .int x4), (5, .int x5), (6, .int x6_20)]) [1, 2, 3, 4, 0] rfl ?_
      exact hK66 _ _ _ _ _ h
theorem tlX7_round_66 (E : EM p R s m args meth c cX7_round 12 (some .int) D cs b H0 XK 4 95 z u) {Q : Int32 → St → Prop} {K187 : Int32 → Int32 → Int32 → St → Prop} (hK187 : ∀ (x3 : Int32) (x4 : Int32) (x5 : Int32) (f : St), K187 x3 x4 x5 f → AM p l e R s m args below meth c D cs b 12 o Z z u (pI Q) 187 [(0, .ref o), (3, .int x3), (4, .int x4), (5, .int x5)] [] f) : ∀ (n : Nat) (x3 : Int32) (x4 : Int32) (x5 : Int32) (x6 : Int32) (f : St), wlX7_round_66 K187 Q n x3 x4 x5 x6 f → AM p l e R s m args below meth c D cs b 12 o Z z u (pI Q) 66 [(0, .ref o), (3, .int x3), (4, .int x4), (5, .int x5), (6, .int x6)] [] f := by
  intro n
  induction n with
  | zero => intro _ _ _ _ _ h; exact h.elim
  | succ n ih => intro x3 x4 x5 x6 f h; exact tbX7_round_66 E ih hK187 h
theorem tbX7_round_217 (E : EM p R s m args meth c cX7_round 12 (some .int) D cs b H0 XK 4 95 z u) {Q : Int32 → St → Prop} {K217 : Int32 → Int32 → Int32 → Int32 → Int32 → Int32 → Int32 → St → Prop} (hK217 : ∀ (x3 : Int32) (x4 : Int32) (x5 : Int32) (x6 : Int32) (x7 : Int32) (x8 : Int32) (x9 : Int32) (f : St), K217 x3 x4 x5 x6 x7 x8 x9 f → AM p l e R s m args below meth c D cs b 12 o Z z u (pI Q) 217 [(0, .ref o), (3, .int x3), (4, .int x4), (5, .int x5), (6, .int x6), (7, .int x7), (8, .int x8), (9, .int x9)] [] f) {K261 : Int32 → Int32 → Int32 → Int32 → Int32 → Int32 → St → Prop} (hK261 : ∀ (x3 : Int32) (x4 : Int32) (x5 : Int32) (x7 : Int32) (x8 : Int32) (x9 : Int32) (f : St), K261 x3 x4 x5 x7 x8 x9 f → AM p l e R s m args below meth c D cs b 12 o Z z u (pI Q) 261 [(0, .ref o), (3, .int x3), (4, .int x4), (5, .int x5), (7, .int x7), (8, .int x8), (9, .int x9)] [] f) {x3 : Int32} {x4 : Int32} {x5 : Int32} {x6 : Int32} {x7 : Int32} {x8 : Int32} {x9 : Int32} {f : St} (h : wbX7_round_217 K217 K261 Q x3 x4 x5 x6 x7 x8 x9 f) : AM p l e R s m args below meth c D cs b 12 o Z z u (pI Q) 217 [(0, .ref o), (3, .int x3), (4, .int x4), (5, .int x5), (6, .int x6), (7, .int x7), (8, .int x8), (9, .int x9)] [] f := by
  have E1 := E.1
  refine ag_aload_n E1 dX7_round_217 rfl 0 rfl ?_
  refine ag_iload E1 dX7_round_218 4 rfl ?_
  refine ag_iload E1 dX7_round_220 7 rfl ?_
  refine ag_iload E1 dX7_round_222 6 rfl ?_
  refine ag_iload E1 dX7_round_224 5 rfl ?_
  refine ag_iload E1 dX7_round_226 2 rfl ?_
  refine ag_iload_n E1 dX7_round_228 rfl 1 rfl ?_
  refine am_callVi E [.int x6, .int x9, .int x8, .int x7, .int x4, .int x3] (kX7_soldBy _ _ _ _ _ _ _ _ _ _ _ _ _ _ _ _ _ _ h) (lw_V q1883 q1885 qs80 q107 q1886) hdX7_soldBy (Nat.le_of_ble_eq_true rfl) (Nat.le_of_ble_eq_true rfl) rfl (Nat.le_of_ble_eq_true rfl) dX7_round_229 rfl (fun r_23 f_22 h => ?_)
  refine ag_aload_n E1 dX7_round_232 rfl 0 rfl ?_
  refine am_geta E 55 (i := 34) (by decide) (by decide) rfl q1505 dX7_round_233 ?_
  refine ag_sipush E1 dX7_round_236 ks_246 ?_
  refine ag_iload E1 dX7_round_239 6 rfl ?_
  refine ag_imul E1 dX7_round_241 ?_
  refine ag_bipush E1 dX7_round_242 kb_41 ?_
  refine ag_iload E1 dX7_round_244 4 rfl ?_
  refine ag_imul E1 dX7_round_246 ?_
  refine ag_iadd E1 dX7_round_247 ?_
  refine ag_iload E1 dX7_round_248 5 rfl ?_
  refine ag_iadd E1 dX7_round_250 ?_
  obtain ⟨hin, h⟩ := h
  refine am_iald E 55 rfl rfl rfl (by decide) hin dX7_round_251 ?_
  refine ag_icmp_eq E1 (tgt := 261) dX7_round_252 (by decide) (fun c_252 => ?_) (fun c_252 => ?_)
  · have h := h.1 c_252
    refine ag_sub (lv' := [(0, .ref o), (3, .int x3), (4, .int x4), (5, .int x5), (7, .int x7), (8, .int x8), (9, .int x9)]) [0, 1, 2, 3, 5, 6, 7] rfl ?_
    exact hK261 _ _ _ _ _ _ _ h
  · have h := h.2 c_252
    refine ag_iincN E1 (lv' := fun x9_24 => [(9, .int x9_24), (0, .ref o), (3, .int x3), (4, .int x4), (5, .int x5), (6, .int x6), (7, .int x7), (8, .int x8)]) dX7_round_255 7 rfl ki_1 (Nat.lt_of_lt_of_le (Nat.le_refl _) (Nat.le_of_ble_eq_true rfl)) (fun _ => rfl) (fun x9_24 e_x9_24 => ?_)
    have h := h x9_24 e_x9_24
    refine ag_goto E1 (tgt := 217) dX7_round_258 (by decide) ?_
    refine ag_sub (lv' := [(0, .ref o), (3, .int x3), (4, .int x4), (5, .int x5), (6, .int x6), (7, .int x7), (8, .int x8), (9, .int x9_24)]) [1, 2, 3, 4, 5, 6, 7, 0] rfl ?_
    exact hK217 _ _ _ _ _ _ _ _ h
theorem tlX7_round_217 (E : EM p R s m args meth c cX7_round 12 (some .int) D cs b H0 XK 4 95 z u) {Q : Int32 → St → Prop} {K261 : Int32 → Int32 → Int32 → Int32 → Int32 → Int32 → St → Prop} (hK261 : ∀ (x3 : Int32) (x4 : Int32) (x5 : Int32) (x7 : Int32) (x8 : Int32) (x9 : Int32) (f : St), K261 x3 x4 x5 x7 x8 x9 f → AM p l e R s m args below meth c D cs b 12 o Z z u (pI Q) 261 [(0, .ref o), (3, .int x3), (4, .int x4), (5, .int x5), (7, .int x7), (8, .int x8), (9, .int x9)] [] f) : ∀ (n : Nat) (x3 : Int32) (x4 : Int32) (x5 : Int32) (x6 : Int32) (x7 : Int32) (x8 : Int32) (x9 : Int32) (f : St), wlX7_round_217 K261 Q n x3 x4 x5 x6 x7 x8 x9 f → AM p l e R s m args below meth c D cs b 12 o Z z u (pI Q) 217 [(0, .ref o), (3, .int x3), (4, .int x4), (5, .int x5), (6, .int x6), (7, .int x7), (8, .int x8), (9, .int x9)] [] f := by
  intro n
  induction n with
  | zero => intro _ _ _ _ _ _ _ _ h; exact h.elim
  | succ n ih => intro x3 x4 x5 x6 x7 x8 x9 f h; exact tbX7_round_217 E ih hK261 h
theorem tbX7_round_205 (E : EM p R s m args meth c cX7_round 12 (some .int) D cs b H0 XK 4 95 z u) {Q : Int32 → St → Prop} {K205 : Int32 → Int32 → Int32 → Int32 → Int32 → Int32 → St → Prop} (hK205 : ∀ (x3 : Int32) (x4 : Int32) (x5 : Int32) (x6 : Int32) (x7 : Int32) (x8 : Int32) (f : St), K205 x3 x4 x5 x6 x7 x8 f → AM p l e R s m args below meth c D cs b 12 o Z z u (pI Q) 205 [(0, .ref o), (3, .int x3), (4, .int x4), (5, .int x5), (6, .int x6), (7, .int x7), (8, .int x8)] [] f) {K295 : Int32 → Int32 → St → Prop} (hK295 : ∀ (x3 : Int32) (x5 : Int32) (f : St), K295 x3 x5 f → AM p l e R s m args below meth c D cs b 12 o Z z u (pI Q) 295 [(0, .ref o), (3, .int x3), (5, .int x5)] [] f) {x3 : Int32} {x4 : Int32} {x5 : Int32} {x6 : Int32} {x7 : Int32} {x8 : Int32} {f : St} (h : wbX7_round_205 K205 K295 Q x3 x4 x5 x6 x7 x8 f) : AM p l e R s m args below meth c D cs b 12 o Z z u (pI Q) 205 [(0, .ref o), (3, .int x3), (4, .int x4), (5, .int x5), (6, .int x6), (7, .int x7), (8, .int x8)] [] f := by
  have E1 := E.1
  refine ag_iload E1 dX7_round_205 6 rfl ?_
  refine ag_aload_n E1 dX7_round_207 rfl 0 rfl ?_
  refine am_geti E 6 (by decide) rfl q1456 dX7_round_208 ?_
  refine ag_icmp_ge E1 (tgt := 295) dX7_round_211 (by decide) (fun c_211 => ?_) (fun c_211 => ?_)
  · have h := h.1 c_211
    refine ag_sub (lv' := [(0, .ref o), (3, .int x3), (5, .int x5)]) [0, 1, 3] rfl ?_
    exact hK295 _ _ _ h
  · have h := h.2 c_211
    refine ag_iconst E1 dX7_round_214 ki_0 ?_
    refine ag_istore E1 (lv' := [(9, .int (0 : Int32)), (0, .ref o), (3, .int x3), (4, .int x4), (5, .int x5), (6, .int x6), (7, .int x7), (8, .int x8)]) dX7_round_215 (Nat.lt_of_lt_of_le (Nat.le_refl _) (Nat.le_of_ble_eq_true rfl)) rfl ?_
    refine ag_sub (lv' := [(0, .ref o), (3, .int x3), (4, .int x4), (5, .int x5), (6, .int x6), (7, .int x7), (8, .int x8), (9, .int (0 : Int32))]) [1, 2, 3, 4, 5, 6, 7, 0] rfl ?_
    obtain ⟨n, h⟩ := h
    refine tlX7_round_217 E ?_ n _ _ _ _ _ _ _ _ h
    · intro x3 x4 x5 x7 x8 x9 f h
      refine ag_iload E1 dX7_round_261 4 rfl ?_
      refine ag_aload_n E1 dX7_round_263 rfl 0 rfl ?_
      refine ag_iload E1 dX7_round_264 6 rfl ?_
      refine ag_iload E1 dX7_round_266 5 rfl ?_
      refine ag_iload E1 dX7_round_268 4 rfl ?_
      refine am_callVi E [.int x9, .int x8, .int x7] (kX7_sold _ _ _ _ _ _ _ _ _ _ _ _ _ _ _ h) (lw_V q1887 q1889 qs81 q107 q1890) hdX7_sold (Nat.le_of_ble_eq_true rfl) (Nat.le_of_ble_eq_true rfl) rfl (Nat.le_of_ble_eq_true rfl) dX7_round_270 rfl (fun r_26 f_25 h => ?_)
      refine ag_isub E1 dX7_round_273 ?_
      refine ag_topi (fun x7_27 e_x7_27 => ?_)
      have h := h x7_27 e_x7_27
      refine ag_istore E1 (lv' := [(7, .int x7_27), (0, .ref o), (3, .int x3), (4, .int x4), (5, .int x5), (8, .int x8), (9, .int x9)]) dX7_round_274 (Nat.lt_of_lt_of_le (Nat.le_refl _) (Nat.le_of_ble_eq_true rfl)) rfl ?_
      refine ag_iload E1 dX7_round_276 6 rfl ?_
      refine ag_istore E1 (lv' := [(6, .int x9), (7, .int x7_27), (0, .ref o), (3, .int x3), (4, .int x4), (5, .int x5), (8, .int x8), (9, .int x9)]) dX7_round_278 (Nat.lt_of_lt_of_le (Nat.le_refl _) (Nat.le_of_ble_eq_true rfl)) rfl ?_
      refine ag_aload_n E1 dX7_round_280 rfl 2 rfl ?_
      refine am_geta E 24 (i := 15) (by decide) (by decide) rfl q1474 dX7_round_281 ?_
      refine ag_iload E1 dX7_round_284 6 rfl ?_
      refine ag_iload E1 dX7_round_286 7 rfl ?_
      obtain ⟨hin, h⟩ := h
      refine am_iast E 24 rfl rfl rfl (by decide) hin dX7_round_288 (fun f_28 e_f_28 => ?_)
      have h := h f_28 e_f_28
      refine ag_iincN E1 (lv' := fun x8_29 => [(8, .int x8_29), (6, .int x9), (7, .int x7_27), (0, .ref o), (3, .int x3), (4, .int x4), (5, .int x5), (9, .int x9)]) dX7_round_289 6 rfl ki_1 (Nat.lt_of_lt_of_le (Nat.le_refl _) (Nat.le_of_ble_eq_true rfl)) (fun _ => rfl) (fun x8_29 e_x8_29 => ?_)
      have h := h x8_29 e_x8_29
      refine ag_goto E1 (tgt := 205) dX7_round_292 (by decide) ?_
      refine ag_sub (lv' := [(0, .ref o), (3, .int x3), (4, .int x4), (5, .int x5), (6, .int x9), (7, .int x7_27), (8, .int x8_29)]) [3, 4, 5, 6, 1, 2, 0] rfl ?_
      exact hK205 _ _ _ _ _ _ _ h
theorem tlX7_round_205 (E : EM p R s m args meth c cX7_round 12 (some .int) D cs b H0 XK 4 95 z u) {Q : Int32 → St → Prop} {K295 : Int32 → Int32 → St → Prop} (hK295 : ∀ (x3 : Int32) (x5 : Int32) (f : St), K295 x3 x5 f → AM p l e R s m args below meth c D cs b 12 o Z z u (pI Q) 295 [(0, .ref o), (3, .int x3), (5, .int x5)] [] f) : ∀ (n : Nat) (x3 : Int32) (x4 : Int32) (x5 : Int32) (x6 : Int32) (x7 : Int32) (x8 : Int32) (f : St), wlX7_round_205 K295 Q n x3 x4 x5 x6 x7 x8 f → AM p l e R s m args below meth c D cs b 12 o Z z u (pI Q) 205 [(0, .ref o), (3, .int x3), (4, .int x4), (5, .int x5), (6, .int x6), (7, .int x7), (8, .int x8)] [] f := by
  intro n
  induction n with
  | zero => intro _ _ _ _ _ _ _ h; exact h.elim
  | succ n ih => intro x3 x4 x5 x6 x7 x8 f h; exact tbX7_round_205 E ih hK295 h
theorem kX7_round (l : Launch) (D : va_G) (cs : Nat → ClassId) (b : Nat) (H0 : Heap) (XK : State → Prop) (o : Nat) (Z : cP) (z u : Nat) (f : St) (x1 : Int32) (x2 : Int32) (x3 : Int32) (x4 : Int32) (x5 : Int32) (Q : Int32 → St → Prop) (h : wX7_round f x1 x2 x3 x4 x5 Q) : CM l D cs b H0 XK o Z z u yX7_round cX7_round 12 (some .int) 4 95 [.ref o, .int x1, .int x2, .int x3, .int x4, .int x5] f (pI Q) := by
  refine cm_of (by decide) rfl (Nat.le_of_ble_eq_true rfl) (fun p e R s m below meth c E => ?_)
  have E1 := E.1
  refine ag_sub (lv' := [(0, .ref o), (1, .int x1), (2, .int x2), (3, .int x3), (4, .int x4), (5, .int x5)]) [0, 1, 2, 3, 4, 5] rfl ?_
  refine ag_aload_n E1 dX7_round_0 rfl 0 rfl ?_
  refine ag_iload_n E1 dX7_round_1 rfl 1 rfl ?_
  refine am_callVi E [.int x1] (kX7_isGiving _ _ _ _ _ _ _ _ _ _ _ _ _ h) (lw_V q1756 q1758 qs62 q107 q1759) hdX7_isGiving (Nat.le_of_ble_eq_true rfl) (Nat.le_of_ble_eq_true rfl) rfl (Nat.le_of_ble_eq_true rfl) dX7_round_2 rfl (fun r_2 f_1 h => ?_)
  refine ag_if_eq E1 (tgt := 45) dX7_round_5 (by decide) (fun c_5 => ?_) (fun c_5 => ?_)
  · have h := h.1 c_5
    refine ag_bipush E1 dX7_round_45 kb_m2 ?_
    exact am_iret E rfl ⟨_, rfl, h⟩ dX7_round_47
  · have h := h.2 c_5
    refine ag_iload_n E1 dX7_round_8 rfl 2 rfl ?_
    refine am_callSi E [.int x2] (kX7_isWeek _ _ _ _ _ _ _ _ _ _ _ _ _ h) (lw_S q1660 q1661 q107 q1662) hdX7_isWeek (Nat.le_of_ble_eq_true rfl) (Nat.le_of_ble_eq_true rfl) rfl (Nat.le_of_ble_eq_true rfl) dX7_round_9 rfl (fun r_4 f_3 h => ?_)
    refine ag_if_eq E1 (tgt := 45) dX7_round_12 (by decide) (fun c_12 => ?_) (fun c_12 => ?_)
    · have h := h.1 c_12
      refine ag_bipush E1 dX7_round_45 kb_m2 ?_
      exact am_iret E rfl ⟨_, rfl, h⟩ dX7_round_47
    · have h := h.2 c_12
      refine ag_aload_n E1 dX7_round_15 rfl 0 rfl ?_
      refine ag_iload_n E1 dX7_round_16 rfl 3 rfl ?_
      refine am_callVi E [.int x3] (kX7_isTown _ _ _ _ _ _ _ _ _ _ _ _ _ h) (lw_V q1632 q1634 qs46 q107 q1635) hdX7_isTown (Nat.le_of_ble_eq_true rfl) (Nat.le_of_ble_eq_true rfl) rfl (Nat.le_of_ble_eq_true rfl) dX7_round_17 rfl (fun r_6 f_5 h => ?_)
      refine ag_if_eq E1 (tgt := 45) dX7_round_20 (by decide) (fun c_20 => ?_) (fun c_20 => ?_)
      · have h := h.1 c_20
        refine ag_bipush E1 dX7_round_45 kb_m2 ?_
        exact am_iret E rfl ⟨_, rfl, h⟩ dX7_round_47
      · have h := h.2 c_20
        refine ag_iload E1 dX7_round_23 4 rfl ?_
        refine ag_iconst E1 dX7_round_25 ki_0 ?_
        refine ag_bipush E1 dX7_round_26 kb_50 ?_
        refine am_callSi E [.int x4, .int (0 : Int32), .int (50 : Int32)] (kX7_in _ _ _ _ _ _ _ _ _ _ _ _ _ _ _ h) (lw_S q1625 q1626 q107 q1627) hdX7_in (Nat.le_of_ble_eq_true rfl) (Nat.le_of_ble_eq_true rfl) rfl (Nat.le_of_ble_eq_true rfl) dX7_round_28 rfl (fun r_8 f_7 h => ?_)
        refine ag_if_eq E1 (tgt := 45) dX7_round_31 (by decide) (fun c_31 => ?_) (fun c_31 => ?_)
        · have h := h.1 c_31
          refine ag_bipush E1 dX7_round_45 kb_m2 ?_
          exact am_iret E rfl ⟨_, rfl, h⟩ dX7_round_47
        · have h := h.2 c_31
          refine ag_iload E1 dX7_round_34 5 rfl ?_
          refine ag_iconst E1 dX7_round_36 ki_0 ?_
          refine ag_bipush E1 dX7_round_37 kb_40 ?_
          refine am_callSi E [.int x5, .int (0 : Int32), .int (40 : Int32)] (kX7_in _ _ _ _ _ _ _ _ _ _ _ _ _ _ _ h) (lw_S q1625 q1626 q107 q1627) hdX7_in (Nat.le_of_ble_eq_true rfl) (Nat.le_of_ble_eq_true rfl) rfl (Nat.le_of_ble_eq_true rfl) dX7_round_39 rfl (fun r_10 f_9 h => ?_)
          refine ag_if_ne E1 (tgt := 48) dX7_round_42 (by decide) (fun c_42 => ?_) (fun c_42 => ?_)
          · have h := h.1 c_42
            refine ag_aload_n E1 dX7_round_48 rfl 0 rfl ?_
            refine am_callVv E [] (kX7_spreads _ _ _ _ _ _ _ _ _ _ _  _ h) (lw_V q1640 q1642 qs47 q107 q1643) hdX7_spreads (Nat.le_of_ble_eq_true rfl) (Nat.le_of_ble_eq_true rfl) rfl (Nat.le_of_ble_eq_true rfl) dX7_round_49 rfl (fun f_11 h => ?_)
            refine ag_aload_n E1 dX7_round_52 rfl 0 rfl ?_
            refine ag_iload_n E1 dX7_round_53 rfl 1 rfl ?_
            refine ag_iload_n E1 dX7_round_54 rfl 2 rfl ?_
            refine am_callVv E [.int x1, .int x2] (kX7_laysNow _ _ _ _ _ _ _ _ _ _ _ _ _ _ h) (lw_V q1776 q1778 qs66 q107 q1779) hdX7_laysNow (Nat.le_of_ble_eq_true rfl) (Nat.le_of_ble_eq_true rfl) rfl (Nat.le_of_ble_eq_true rfl) dX7_round_55 rfl (fun f_12 h => ?_)
            refine ag_aload_n E1 dX7_round_58 rfl 0 rfl ?_
            refine am_geti E 6 (by decide) rfl q1456 dX7_round_59 ?_
            refine ag_iconst E1 dX7_round_62 ki_1 ?_
            refine ag_isub E1 dX7_round_63 ?_
            refine ag_topi (fun x6_13 e_x6_13 => ?_)
            have h := h x6_13 e_x6_13
            refine ag_istore E1 (lv' := [(6, .int x6_13), (0, .ref o), (1, .int x1), (2, .int x2), (3, .int x3), (4, .int x4), (5, .int x5)]) dX7_round_64 (Nat.lt_of_lt_of_le (Nat.le_refl _) (Nat.le_of_ble_eq_true rfl)) rfl ?_
            refine ag_sub (lv' := [(0, .ref o), (3, .int x3), (4, .int x4), (5, .int x5), (6, .int x6_13)]) [1, 4, 5, 6, 0] rfl ?_
            obtain ⟨n, h⟩ := h
            refine tlX7_round_66 E ?_ n _ _ _ _ _ h
            · intro x3 x4 x5 f h
              refine ag_aload_n E1 dX7_round_187 rfl 0 rfl ?_
              refine ag_aload_n E1 dX7_round_188 rfl 0 rfl ?_
              refine am_geti E 6 (by decide) rfl q1456 dX7_round_189 ?_
              refine am_puti E 23 (by decide) rfl q1473 rfl (ty := .int) (by decide +kernel) rfl rfl dX7_round_192 (fun f_21 e_f_21 => ?_)
              have h := h f_21 e_f_21
              refine ag_iload_n E1 dX7_round_195 rfl 1 rfl ?_
              refine ag_istore E1 (lv' := [(6, .int x3), (0, .ref o), (3, .int x3), (4, .int x4), (5, .int x5)]) dX7_round_196 (Nat.lt_of_lt_of_le (Nat.le_refl _) (Nat.le_of_ble_eq_true rfl)) rfl ?_
              refine ag_iload E1 dX7_round_198 4 rfl ?_
              refine ag_istore E1 (lv' := [(7, .int x5), (6, .int x3), (0, .ref o), (3, .int x3), (4, .int x4), (5, .int x5)]) dX7_round_200 (Nat.lt_of_lt_of_le (Nat.le_refl _) (Nat.le_of_ble_eq_true rfl)) rfl ?_
              refine ag_iconst E1 dX7_round_202 ki_0 ?_
              refine ag_istore E1 (lv' := [(8, .int (0 : Int32)), (7, .int x5), (6, .int x3), (0, .ref o), (3, .int x3), (4, .int x4), (5, .int x5)]) dX7_round_203 (Nat.lt_of_lt_of_le (Nat.le_refl _) (Nat.le_of_ble_eq_true rfl)) rfl ?_
              refine ag_sub (lv' := [(0, .ref o), (3, .int x3), (4, .int x4), (5, .int x5), (6, .int x3), (7, .int x5), (8, .int (0 : Int32))]) [3, 4, 5, 6, 2, 1, 0] rfl ?_
              obtain ⟨n, h⟩ := h
              refine tlX7_round_205 E ?_ n _ _ _ _ _ _ _ h
              · intro x3 x5 f h
                refine ag_aload_n E1 dX7_round_295 rfl 0 rfl ?_
                refine am_geta E 55 (i := 34) (by decide) (by decide) rfl q1505 dX7_round_296 ?_
                refine ag_bipush E1 dX7_round_299 kb_41 ?_
                refine ag_iload_n E1 dX7_round_301 rfl 1 rfl ?_
                refine ag_imul E1 dX7_round_302 ?_
                refine ag_iload E1 dX7_round_303 2 rfl ?_
                refine ag_iadd E1 dX7_round_305 ?_
                obtain ⟨hin, h⟩ := h
                refine am_iald E 55 rfl rfl rfl (by decide) hin dX7_round_306 ?_
                exact am_iret E rfl ⟨_, rfl, h⟩ dX7_round_307
          · have h := h.2 c_42
            refine ag_bipush E1 dX7_round_45 kb_m2 ?_
            exact am_iret E rfl ⟨_, rfl, h⟩ dX7_round_47
theorem hdX7_round : yX7_round.cls = RX7 ∧ yX7_round.cls ≠ "java/lang/invoke/MethodHandle" ∧ yX7_round.cls ≠ "java/lang/invoke/VarHandle" ∧ (parseMethodDescriptor yX7_round.desc).map (fun d => d.parameters.length) = some 5 := by decide +kernel
theorem kX7_roundTold (l : Launch) (D : va_G) (cs : Nat → ClassId) (b : Nat) (H0 : Heap) (XK : State → Prop) (o : Nat) (Z : cP) (z u : Nat) (f : St) (x1 : Int32) (Q : Int32 → St → Prop) (h : wX7_roundTold f x1 Q) : CM l D cs b H0 XK o Z z u yX7_roundTold cX7_roundTold 2 (some .int) 1 22 [.ref o, .int x1] f (pI Q) := by
  refine cm_of (by decide) rfl (Nat.le_of_ble_eq_true rfl) (fun p e R s m below meth c E => ?_)
  have E1 := E.1
  refine ag_sub (lv' := [(0, .ref o), (1, .int x1)]) [0, 1] rfl ?_
  refine ag_iload_n E1 dX7_roundTold_0 rfl 1 rfl ?_
  refine ag_iconst E1 dX7_roundTold_1 ki_0 ?_
  refine ag_aload_n E1 dX7_roundTold_2 rfl 0 rfl ?_
  refine am_geti E 23 (by decide) rfl q1473 dX7_roundTold_3 ?_
  refine ag_iconst E1 dX7_roundTold_6 ki_1 ?_
  refine ag_isub E1 dX7_roundTold_7 ?_
  refine am_callSi E [.int x1, .int (0 : Int32), .int ((f 99 23) - (1 : Int32))] (kX7_in _ _ _ _ _ _ _ _ _ _ _ _ _ _ _ h) (lw_S q1625 q1626 q107 q1627) hdX7_in (Nat.le_of_ble_eq_true rfl) (Nat.le_of_ble_eq_true rfl) rfl (Nat.le_of_ble_eq_true rfl) dX7_roundTold_8 rfl (fun r_2 f_1 h => ?_)
  refine ag_if_eq E1 (tgt := 23) dX7_roundTold_11 (by decide) (fun c_11 => ?_) (fun c_11 => ?_)
  · have h := h.1 c_11
    refine ag_iconst E1 dX7_roundTold_23 ki_m1 ?_
    exact am_iret E rfl ⟨_, rfl, h⟩ dX7_roundTold_24
  · have h := h.2 c_11
    refine ag_aload_n E1 dX7_roundTold_14 rfl 0 rfl ?_
    refine am_geta E 24 (i := 15) (by decide) (by decide) rfl q1474 dX7_roundTold_15 ?_
    refine ag_iload_n E1 dX7_roundTold_18 rfl 1 rfl ?_
    obtain ⟨hin, h⟩ := h
    refine am_iald E 24 rfl rfl rfl (by decide) hin dX7_roundTold_19 ?_
    refine ag_goto E1 (tgt := 24) dX7_roundTold_20 (by decide) ?_
    exact am_iret E rfl ⟨_, rfl, h⟩ dX7_roundTold_24
theorem hdX7_roundTold : yX7_roundTold.cls = RX7 ∧ yX7_roundTold.cls ≠ "java/lang/invoke/MethodHandle" ∧ yX7_roundTold.cls ≠ "java/lang/invoke/VarHandle" ∧ (parseMethodDescriptor yX7_roundTold.desc).map (fun d => d.parameters.length) = some 1 := by decide +kernel
theorem tbX7_walk_85 (E : EM p R s m args meth c cX7_walk 11 (some .int) D cs b H0 XK 4 95 z u) {Q : Int32 → St → Prop} {K85 : Int32 → Int32 → Int32 → Int32 → Int32 → Int32 → Int32 → St → Prop} (hK85 : ∀ (x1 : Int32) (x2 : Int32) (x3 : Int32) (x4 : Int32) (x5 : Int32) (x6 : Int32) (x7 : Int32) (f : St), K85 x1 x2 x3 x4 x5 x6 x7 f → AM p l e R s m args below meth c D cs b 11 o Z z u (pI Q) 85 [(0, .ref o), (1, .int x1), (2, .int x2), (3, .int x3), (4, .int x4), (5, .int x5), (6, .int x6), (7, .int x7)] [] f) {K124 : Int32 → Int32 → Int32 → Int32 → Int32 → Int32 → St → Prop} (hK124 : ∀ (x1 : Int32) (x2 : Int32) (x3 : Int32) (x4 : Int32) (x5 : Int32) (x6 : Int32) (f : St), K124 x1 x2 x3 x4 x5 x6 f → AM p l e R s m args below meth c D cs b 11 o Z z u (pI Q) 124 [(0, .ref o), (1, .int x1), (2, .int x2), (3, .int x3), (4, .int x4), (5, .int x5), (6, .int x6)] [] f) {x1 : Int32} {x2 : Int32} {x3 : Int32} {x4 : Int32} {x5 : Int32} {x6 : Int32} {x7 : Int32} {f : St} (h : wbX7_walk_85 K85 K124 Q x1 x2 x3 x4 x5 x6 x7 f) : AM p l e R s m args below meth c D cs b 11 o Z z u (pI Q) 85 [(0, .ref o), (1, .int x1), (2, .int x2), (3, .int x3), (4, .int x4), (5, .int x5), (6, .int x6), (7, .int x7)] [] f := by
  have E1 := E.1
  refine ag_iload E1 dX7_walk_85 7 rfl ?_
  refine ag_aload_n E1 dX7_walk_87 rfl 0 rfl ?_
  refine am_geti E 6 (by decide) rfl q1456 dX7_walk_88 ?_
  refine ag_icmp_ge E1 (tgt := 124) dX7_walk_91 (by decide) (fun c_91 => ?_) (fun c_91 => ?_)
  · have h := h.1 c_91
    refine ag_sub (lv' := [(0, .ref o), (1, .int x1), (2, .int x2), (3, .int x3), (4, .int x4), (5, .int x5), (6, .int x6)]) [0, 1, 2, 3, 4, 5, 6] rfl ?_
    exact hK124 _ _ _ _ _ _ _ h
  · have h := h.2 c_91
    refine ag_iload E1 dX7_walk_94 6 rfl ?_
    refine ag_if_eq E1 (tgt := 124) dX7_walk_96 (by decide) (fun c_96 => ?_) (fun c_96 => ?_)
    · have h := h.1 c_96
      refine ag_sub (lv' := [(0, .ref o), (1, .int x1), (2, .int x2), (3, .int x3), (4, .int x4), (5, .int x5), (6, .int x6)]) [0, 1, 2, 3, 4, 5, 6] rfl ?_
      exact hK124 _ _ _ _ _ _ _ h
    · have h := h.2 c_96
      refine ag_aload_n E1 dX7_walk_99 rfl 0 rfl ?_
      refine ag_aload_n E1 dX7_walk_100 rfl 0 rfl ?_
      refine am_geta E 38 (i := 24) (by decide) (by decide) rfl q1488 dX7_walk_101 ?_
      refine ag_bipush E1 dX7_walk_104 kb_40 ?_
      refine ag_iload E1 dX7_walk_106 5 rfl ?_
      refine ag_imul E1 dX7_walk_108 ?_
      refine ag_iload E1 dX7_walk_109 7 rfl ?_
      refine ag_iadd E1 dX7_walk_111 ?_
      obtain ⟨hin, h⟩ := h
      refine am_iald E 38 rfl rfl rfl (by decide) hin dX7_walk_112 ?_
      refine am_callVi E [.int (f 38 (Int32.toNatClampNeg (((40 : Int32) * x5) + x7)))] (kX7_isTown _ _ _ _ _ _ _ _ _ _ _ _ _ h) (lw_V q1632 q1634 qs46 q107 q1635) hdX7_isTown (Nat.le_of_ble_eq_true rfl) (Nat.le_of_ble_eq_true rfl) rfl (Nat.le_of_ble_eq_true rfl) dX7_walk_113 rfl (fun r_12 f_11 h => ?_)
      refine ag_istore E1 (lv' := [(6, .int r_12), (0, .ref o), (1, .int x1), (2, .int x2), (3, .int x3), (4, .int x4), (5, .int x5), (7, .int x7)]) dX7_walk_116 (Nat.lt_of_lt_of_le (Nat.le_refl _) (Nat.le_of_ble_eq_true rfl)) rfl ?_
      refine ag_iincN E1 (lv' := fun x7_13 => [(7, .int x7_13), (6, .int r_12), (0, .ref o), (1, .int x1), (2, .int x2), (3, .int x3), (4, .int x4), (5, .int x5)]) dX7_walk_118 7 rfl ki_1 (Nat.lt_of_lt_of_le (Nat.le_refl _) (Nat.le_of_ble_eq_true rfl)) (fun _ => rfl) (fun x7_13 e_x7_13 => ?_)
      have h := h x7_13 e_x7_13
      refine ag_goto E1 (tgt := 85) dX7_walk_121 (by decide) ?_
      refine ag_sub (lv' := [(0, .ref o), (1, .int x1), (2, .int x2), (3, .int x3), (4, .int x4), (5, .int x5), (6, .int r_12), (7, .int x7_13)]) [2, 3, 4, 5, 6, 7, 1, 0] rfl ?_
      exact hK85 _ _ _ _ _ _ _ _ h
theorem tlX7_walk_85 (E : EM p R s m args meth c cX7_walk 11 (some .int) D cs b H0 XK 4 95 z u) {Q : Int32 → St → Prop} {K124 : Int32 → Int32 → Int32 → Int32 → Int32 → Int32 → St → Prop} (hK124 : ∀ (x1 : Int32) (x2 : Int32) (x3 : Int32) (x4 : Int32) (x5 : Int32) (x6 : Int32) (f : St), K124 x1 x2 x3 x4 x5 x6 f → AM p l e R s m args below meth c D cs b 11 o Z z u (pI Q) 124 [(0, .ref o), (1, .int x1), (2, .int x2), (3, .int x3), (4, .int x4), (5, .int x5), (6, .int x6)] [] f) : ∀ (n : Nat) (x1 : Int32) (x2 : Int32) (x3 : Int32) (x4 : Int32) (x5 : Int32) (x6 : Int32) (x7 : Int32) (f : St), wlX7_walk_85 K124 Q n x1 x2 x3 x4 x5 x6 x7 f → AM p l e R s m args below meth c D cs b 11 o Z z u (pI Q) 85 [(0, .ref o), (1, .int x1), (2, .int x2), (3, .int x3), (4, .int x4), (5, .int x5), (6, .int x6), (7, .int x7)] [] f := by
  intro n
  induction n with
  | zero => intro _ _ _ _ _ _ _ _ h; exact h.elim
  | succ n ih => intro x1 x2 x3 x4 x5 x6 x7 f h; exact tbX7_walk_85 E ih hK124 h
theorem tbX7_walk_152 (E : EM p R s m args meth c cX7_walk 11 (some .int) D cs b H0 XK 4 95 z u) {Q : Int32 → St → Prop} {K152 : Int32 → Int32 → Int32 → Int32 → Int32 → Int32 → St → Prop} (hK152 : ∀ (x3 : Int32) (x4 : Int32) (x5 : Int32) (x7 : Int32) (x8 : Int32) (x9 : Int32) (f : St), K152 x3 x4 x5 x7 x8 x9 f → AM p l e R s m args below meth c D cs b 11 o Z z u (pI Q) 152 [(0, .ref o), (3, .int x3), (4, .int x4), (5, .int x5), (7, .int x7), (8, .int x8), (9, .int x9)] [] f) {K225 : Int32 → Int32 → Int32 → St → Prop} (hK225 : ∀ (x3 : Int32) (x7 : Int32) (x8 : Int32) (f : St), K225 x3 x7 x8 f → AM p l e R s m args below meth c D cs b 11 o Z z u (pI Q) 225 [(3, .int x3), (7, .int x7), (8, .int x8)] [] f) {x3 : Int32} {x4 : Int32} {x5 : Int32} {x7 : Int32} {x8 : Int32} {x9 : Int32} {f : St} (h : wbX7_walk_152 K152 K225 Q x3 x4 x5 x7 x8 x9 f) : AM p l e R s m args below meth c D cs b 11 o Z z u (pI Q) 152 [(0, .ref o), (3, .int x3), (4, .int x4), (5, .int x5), (7, .int x7), (8, .int x8), (9, .int x9)] [] f := by
  have E1 := E.1
  refine ag_iload E1 dX7_walk_152 6 rfl ?_
  refine ag_aload_n E1 dX7_walk_154 rfl 0 rfl ?_
  refine am_geti E 6 (by decide) rfl q1456 dX7_walk_155 ?_
  refine ag_icmp_ge E1 (tgt := 225) dX7_walk_158 (by decide) (fun c_158 => ?_) (fun c_158 => ?_)
  · have h := h.1 c_158
    refine ag_sub (lv' := [(3, .int x3), (7, .int x7), (8, .int x8)]) [1, 4, 5] rfl ?_
    exact hK225 _ _ _ _ h
  · have h := h.2 c_158
    refine ag_aload_n E1 dX7_walk_161 rfl 0 rfl ?_
    refine am_geta E 38 (i := 24) (by decide) (by decide) rfl q1488 dX7_walk_162 ?_
    refine ag_bipush E1 dX7_walk_165 kb_40 ?_
    refine ag_iload E1 dX7_walk_167 3 rfl ?_
    refine ag_imul E1 dX7_walk_169 ?_
    refine ag_iload E1 dX7_walk_170 6 rfl ?_
    refine ag_iadd E1 dX7_walk_172 ?_
    obtain ⟨hin, h⟩ := h
    refine am_iald E 38 rfl rfl rfl (by decide) hin dX7_walk_173 ?_
    refine ag_topi (fun x10_16 e_x10_16 => ?_)
    have h := h x10_16 e_x10_16
    refine ag_istore E1 (lv' := [(10, .int x10_16), (0, .ref o), (3, .int x3), (4, .int x4), (5, .int x5), (7, .int x7), (8, .int x8), (9, .int x9)]) dX7_walk_174 (Nat.lt_of_lt_of_le (Nat.le_refl _) (Nat.le_of_ble_eq_true rfl)) rfl ?_
    refine ag_aload_n E1 dX7_walk_176 rfl 1 rfl ?_
    refine am_geta E 39 (i := 25) (by decide) (by decide) rfl q1489 dX7_walk_177 ?_
    refine ag_bipush E1 dX7_walk_180 kb_6 ?_
    refine ag_iload E1 dX7_walk_182 5 rfl ?_
    refine ag_imul E1 dX7_walk_184 ?_
    refine ag_iload E1 dX7_walk_185 0 rfl ?_
    refine ag_iadd E1 dX7_walk_187 ?_
    obtain ⟨hin, h⟩ := h
    refine am_iald E 39 rfl rfl rfl (by decide) hin dX7_walk_188 ?_
    refine ag_iload E1 dX7_walk_189 3 rfl ?_
    refine ag_icmp_le E1 (tgt := 200) dX7_walk_191 (by decide) (fun c_191 => ?_) (fun c_191 => ?_)
    · have h := h.1 c_191
      refine ag_iload E1 dX7_walk_200 6 rfl ?_
      refine ag_aload_n E1 dX7_walk_202 rfl 1 rfl ?_
      refine ag_iload E1 dX7_walk_203 0 rfl ?_
      refine ag_iload E1 dX7_walk_205 7 rfl ?_
      refine ag_iload E1 dX7_walk_207 6 rfl ?_
      refine am_callVi E [.int x10_16, .int x9, .int x8] (kX7_sold _ _ _ _ _ _ _ _ _ _ _ _ _ _ _ h) (lw_V q1887 q1889 qs81 q107 q1890) hdX7_sold (Nat.le_of_ble_eq_true rfl) (Nat.le_of_ble_eq_true rfl) rfl (Nat.le_of_ble_eq_true rfl) dX7_walk_209 rfl (fun r_18 f_17 h => ?_)
      refine ag_isub E1 dX7_walk_212 ?_
      refine ag_topi (fun x8_19 e_x8_19 => ?_)
      have h := h x8_19 e_x8_19
      refine ag_istore E1 (lv' := [(8, .int x8_19), (10, .int x10_16), (0, .ref o), (3, .int x3), (4, .int x4), (5, .int x5), (7, .int x7), (9, .int x9)]) dX7_walk_213 (Nat.lt_of_lt_of_le (Nat.le_refl _) (Nat.le_of_ble_eq_true rfl)) rfl ?_
      refine ag_iload E1 dX7_walk_215 1 rfl ?_
      refine ag_istore E1 (lv' := [(7, .int x10_16), (8, .int x8_19), (10, .int x10_16), (0, .ref o), (3, .int x3), (4, .int x4), (5, .int x5), (9, .int x9)]) dX7_walk_217 (Nat.lt_of_lt_of_le (Nat.le_refl _) (Nat.le_of_ble_eq_true rfl)) rfl ?_
      refine ag_iincN E1 (lv' := fun x9_20 => [(9, .int x9_20), (7, .int x10_16), (8, .int x8_19), (10, .int x10_16), (0, .ref o), (3, .int x3), (4, .int x4), (5, .int x5)]) dX7_walk_219 7 rfl ki_1 (Nat.lt_of_lt_of_le (Nat.le_refl _) (Nat.le_of_ble_eq_true rfl)) (fun _ => rfl) (fun x9_20 e_x9_20 => ?_)
      have h := h x9_20 e_x9_20
      refine ag_goto E1 (tgt := 152) dX7_walk_222 (by decide) ?_
      refine ag_sub (lv' := [(0, .ref o), (3, .int x3), (4, .int x4), (5, .int x5), (7, .int x10_16), (8, .int x8_19), (9, .int x9_20)]) [4, 5, 6, 7, 1, 2, 0] rfl ?_
      exact hK152 _ _ _ _ _ _ _ h
    · have h := h.2 c_191
      refine ag_bipush E1 dX7_walk_194 kb_m20 ?_
      refine ag_iload E1 dX7_walk_196 7 rfl ?_
      refine ag_isub E1 dX7_walk_198 ?_
      exact am_iret E rfl ⟨_, rfl, h⟩ dX7_walk_199
theorem tlX7_walk_152 (E : EM p R s m args meth c cX7_walk 11 (some .int) D cs b H0 XK 4 95 z u) {Q : Int32 → St → Prop} {K225 : Int32 → Int32 → Int32 → St → Prop} (hK225 : ∀ (x3 : Int32) (x7 : Int32) (x8 : Int32) (f : St), K225 x3 x7 x8 f → AM p l e R s m args below meth c D cs b 11 o Z z u (pI Q) 225 [(3, .int x3), (7, .int x7), (8, .int x8)] [] f) : ∀ (n : Nat) (x3 : Int32) (x4 : Int32) (x5 : Int32) (x7 : Int32) (x8 : Int32) (x9 : Int32) (f : St), wlX7_walk_152 K225 Q n x3 x4 x5 x7 x8 x9 f → AM p l e R s m args below meth c D cs b 11 o Z z u (pI Q) 152 [(0, .ref o), (3, .int x3), (4, .int x4), (5, .int x5), (7, .int x7), (8, .int x8), (9, .int x9)] [] f := by
  intro n
  induction n with
  | zero => intro _ _ _ _ _ _ _ h; exact h.elim
  | succ n ih => intro x3 x4 x5 x7 x8 x9 f h; exact tbX7_walk_152 E ih hK225 h
theorem tbX7_walk_124 (E : EM p R s m args meth c cX7_walk 11 (some .int) D cs b H0 XK 4 95 z u) {Q : Int32 → St → Prop}  {x1 : Int32} {x2 : Int32} {x3 : Int32} {x4 : Int32} {x5 : Int32} {x6 : Int32} {f : St} (h : wbX7_walk_124  Q x1 x2 x3 x4 x5 x6 f) : AM p l e R s m args below meth c D cs b 11 o Z z u (pI Q) 124 [(0, .ref o), (1, .int x1), (2, .int x2), (3, .int x3), (4, .int x4), (5, .int x5), (6, .int x6)] [] f := by
  have E1 := E.1
  refine ag_iload E1 dX7_walk_124 6 rfl ?_
  refine ag_if_ne E1 (tgt := 132) dX7_walk_126 (by decide) (fun c_126 => ?_) (fun c_126 => ?_)
  · have h := h.1 c_126
    refine ag_aload_n E1 dX7_walk_132 rfl 0 rfl ?_
    refine am_callVv E [] (kX7_spreads _ _ _ _ _ _ _ _ _ _ _  _ h) (lw_V q1640 q1642 qs47 q107 q1643) hdX7_spreads (Nat.le_of_ble_eq_true rfl) (Nat.le_of_ble_eq_true rfl) rfl (Nat.le_of_ble_eq_true rfl) dX7_walk_133 rfl (fun f_14 h => ?_)
    refine ag_aload_n E1 dX7_walk_136 rfl 0 rfl ?_
    refine ag_iload_n E1 dX7_walk_137 rfl 1 rfl ?_
    refine ag_iload_n E1 dX7_walk_138 rfl 2 rfl ?_
    refine am_callVv E [.int x1, .int x2] (kX7_laysNow _ _ _ _ _ _ _ _ _ _ _ _ _ _ h) (lw_V q1776 q1778 qs66 q107 q1779) hdX7_laysNow (Nat.le_of_ble_eq_true rfl) (Nat.le_of_ble_eq_true rfl) rfl (Nat.le_of_ble_eq_true rfl) dX7_walk_139 rfl (fun f_15 h => ?_)
    refine ag_iload_n E1 dX7_walk_142 rfl 3 rfl ?_
    refine ag_istore E1 (lv' := [(7, .int x3), (0, .ref o), (1, .int x1), (2, .int x2), (3, .int x3), (4, .int x4), (5, .int x5), (6, .int x6)]) dX7_walk_143 (Nat.lt_of_lt_of_le (Nat.le_refl _) (Nat.le_of_ble_eq_true rfl)) rfl ?_
    refine ag_bipush E1 dX7_walk_145 kb_40 ?_
    refine ag_istore E1 (lv' := [(8, .int (40 : Int32)), (7, .int x3), (0, .ref o), (1, .int x1), (2, .int x2), (3, .int x3), (4, .int x4), (5, .int x5), (6, .int x6)]) dX7_walk_147 (Nat.lt_of_lt_of_le (Nat.le_refl _) (Nat.le_of_ble_eq_true rfl)) rfl ?_
    refine ag_iconst E1 dX7_walk_149 ki_0 ?_
    refine ag_istore E1 (lv' := [(9, .int (0 : Int32)), (8, .int (40 : Int32)), (7, .int x3), (0, .ref o), (1, .int x1), (2, .int x2), (3, .int x3), (4, .int x4), (5, .int x5), (6, .int x6)]) dX7_walk_150 (Nat.lt_of_lt_of_le (Nat.le_refl _) (Nat.le_of_ble_eq_true rfl)) rfl ?_
    refine ag_sub (lv' := [(0, .ref o), (3, .int x3), (4, .int x4), (5, .int x5), (7, .int x3), (8, .int (40 : Int32)), (9, .int (0 : Int32))]) [3, 6, 7, 8, 2, 1, 0] rfl ?_
    obtain ⟨n, h⟩ := h
    refine tlX7_walk_152 E ?_ n _ _ _ _ _ _ _ h
    · intro x3 x7 x8 f h
      refine ag_iload E1 dX7_walk_225 1 rfl ?_
      refine ag_iload_n E1 dX7_walk_227 rfl 0 rfl ?_
      refine ag_icmp_ne E1 (tgt := 239) dX7_walk_228 (by decide) (fun c_228 => ?_) (fun c_228 => ?_)
      · have h := h.1 c_228
        refine ag_bipush E1 dX7_walk_239 kb_m100 ?_
        exact am_iret E rfl ⟨_, rfl, h⟩ dX7_walk_241
      · have h := h.2 c_228
        refine ag_bipush E1 dX7_walk_231 kb_40 ?_
        refine ag_iload E1 dX7_walk_233 2 rfl ?_
        refine ag_isub E1 dX7_walk_235 ?_
        refine ag_goto E1 (tgt := 241) dX7_walk_236 (by decide) ?_
        exact am_iret E rfl ⟨_, rfl, h⟩ dX7_walk_241
  · have h := h.2 c_126
    refine ag_bipush E1 dX7_walk_129 kb_m2 ?_
    exact am_iret E rfl ⟨_, rfl, h⟩ dX7_walk_131
theorem tbX7_walk_80 (E : EM p R s m args meth c cX7_walk 11 (some .int) D cs b H0 XK 4 95 z u) {Q : Int32 → St → Prop}  {x1 : Int32} {x2 : Int32} {x3 : Int32} {x4 : Int32} {x5 : Int32} {t0 : Int32} {f : St} (h : wbX7_walk_80  Q x1 x2 x3 x4 x5 t0 f) : AM p l e R s m args below meth c D cs b 11 o Z z u (pI Q) 80 [(0, .ref o), (1, .int x1), (2, .int x2), (3, .int x3), (4, .int x4), (5, .int x5)] [.int t0] f := by
  have E1 := E.1
  refine ag_istore E1 (lv' := [(6, .int t0), (0, .ref o), (1, .int x1), (2, .int x2), (3, .int x3), (4, .int x4), (5, .int x5)]) dX7_walk_80 (Nat.lt_of_lt_of_le (Nat.le_refl _) (Nat.le_of_ble_eq_true rfl)) rfl ?_
  refine ag_iconst E1 dX7_walk_82 ki_0 ?_
  refine ag_istore E1 (lv' := [(7, .int (0 : Int32)), (6, .int t0), (0, .ref o), (1, .int x1), (2, .int x2), (3, .int x3), (4, .int x4), (5, .int x5)]) dX7_walk_83 (Nat.lt_of_lt_of_le (Nat.le_refl _) (Nat.le_of_ble_eq_true rfl)) rfl ?_
  refine ag_sub (lv' := [(0, .ref o), (1, .int x1), (2, .int x2), (3, .int x3), (4, .int x4), (5, .int x5), (6, .int t0), (7, .int (0 : Int32))]) [2, 3, 4, 5, 6, 7, 1, 0] rfl ?_
  obtain ⟨n, h⟩ := h
  refine tlX7_walk_85 E ?_ n _ _ _ _ _ _ _ _ h
  · intro x1 x2 x3 x4 x5 x6 f h
    exact tbX7_walk_124 E  h
theorem kX7_walk (l : Launch) (D : va_G) (cs : Nat → ClassId) (b : Nat) (H0 : Heap) (XK : State → Prop) (o : Nat) (Z : cP) (z u : Nat) (f : St) (x1 : Int32) (x2 : Int32) (x3 : Int32) (x4 : Int32) (x5 : Int32) (Q : Int32 → St → Prop) (h : wX7_walk f x1 x2 x3 x4 x5 Q) : CM l D cs b H0 XK o Z z u yX7_walk cX7_walk 11 (some .int) 4 95 [.ref o, .int x1, .int x2, .int x3, .int x4, .int x5] f (pI Q) := by
  refine cm_of (by decide) rfl (Nat.le_of_ble_eq_true rfl) (fun p e R s m below meth c E => ?_)
  have E1 := E.1
  refine ag_sub (lv' := [(0, .ref o), (1, .int x1), (2, .int x2), (3, .int x3), (4, .int x4), (5, .int x5)]) [0, 1, 2, 3, 4, 5] rfl ?_
  refine ag_aload_n E1 dX7_walk_0 rfl 0 rfl ?_
  refine ag_iload_n E1 dX7_walk_1 rfl 1 rfl ?_
  refine am_callVi E [.int x1] (kX7_isGiving _ _ _ _ _ _ _ _ _ _ _ _ _ h) (lw_V q1756 q1758 qs62 q107 q1759) hdX7_isGiving (Nat.le_of_ble_eq_true rfl) (Nat.le_of_ble_eq_true rfl) rfl (Nat.le_of_ble_eq_true rfl) dX7_walk_2 rfl (fun r_2 f_1 h => ?_)
  refine ag_if_eq E1 (tgt := 44) dX7_walk_5 (by decide) (fun c_5 => ?_) (fun c_5 => ?_)
  · have h := h.1 c_5
    refine ag_bipush E1 dX7_walk_44 kb_m2 ?_
    exact am_iret E rfl ⟨_, rfl, h⟩ dX7_walk_46
  · have h := h.2 c_5
    refine ag_iload_n E1 dX7_walk_8 rfl 2 rfl ?_
    refine am_callSi E [.int x2] (kX7_isWeek _ _ _ _ _ _ _ _ _ _ _ _ _ h) (lw_S q1660 q1661 q107 q1662) hdX7_isWeek (Nat.le_of_ble_eq_true rfl) (Nat.le_of_ble_eq_true rfl) rfl (Nat.le_of_ble_eq_true rfl) dX7_walk_9 rfl (fun r_4 f_3 h => ?_)
    refine ag_if_eq E1 (tgt := 44) dX7_walk_12 (by decide) (fun c_12 => ?_) (fun c_12 => ?_)
    · have h := h.1 c_12
      refine ag_bipush E1 dX7_walk_44 kb_m2 ?_
      exact am_iret E rfl ⟨_, rfl, h⟩ dX7_walk_46
    · have h := h.2 c_12
      refine ag_aload_n E1 dX7_walk_15 rfl 0 rfl ?_
      refine ag_iload_n E1 dX7_walk_16 rfl 3 rfl ?_
      refine am_callVi E [.int x3] (kX7_isTown _ _ _ _ _ _ _ _ _ _ _ _ _ h) (lw_V q1632 q1634 qs46 q107 q1635) hdX7_isTown (Nat.le_of_ble_eq_true rfl) (Nat.le_of_ble_eq_true rfl) rfl (Nat.le_of_ble_eq_true rfl) dX7_walk_17 rfl (fun r_6 f_5 h => ?_)
      refine ag_if_eq E1 (tgt := 44) dX7_walk_20 (by decide) (fun c_20 => ?_) (fun c_20 => ?_)
      · have h := h.1 c_20
        refine ag_bipush E1 dX7_walk_44 kb_m2 ?_
        exact am_iret E rfl ⟨_, rfl, h⟩ dX7_walk_46
      · have h := h.2 c_20
        refine ag_iload E1 dX7_walk_23 4 rfl ?_
        refine ag_iconst E1 dX7_walk_25 ki_0 ?_
        refine ag_bipush E1 dX7_walk_26 kb_50 ?_
        refine am_callSi E [.int x4, .int (0 : Int32), .int (50 : Int32)] (kX7_in _ _ _ _ _ _ _ _ _ _ _ _ _ _ _ h) (lw_S q1625 q1626 q107 q1627) hdX7_in (Nat.le_of_ble_eq_true rfl) (Nat.le_of_ble_eq_true rfl) rfl (Nat.le_of_ble_eq_true rfl) dX7_walk_28 rfl (fun r_8 f_7 h => ?_)
        refine ag_if_eq E1 (tgt := 44) dX7_walk_31 (by decide) (fun c_31 => ?_) (fun c_31 => ?_)
        · have h := h.1 c_31
          refine ag_bipush E1 dX7_walk_44 kb_m2 ?_
          exact am_iret E rfl ⟨_, rfl, h⟩ dX7_walk_46
        · have h := h.2 c_31
          refine ag_iload E1 dX7_walk_34 5 rfl ?_
          refine ag_iconst E1 dX7_walk_36 ki_0 ?_
          refine ag_iconst E1 dX7_walk_37 ki_3 ?_
          refine am_callSi E [.int x5, .int (0 : Int32), .int (3 : Int32)] (kX7_in _ _ _ _ _ _ _ _ _ _ _ _ _ _ _ h) (lw_S q1625 q1626 q107 q1627) hdX7_in (Nat.le_of_ble_eq_true rfl) (Nat.le_of_ble_eq_true rfl) rfl (Nat.le_of_ble_eq_true rfl) dX7_walk_38 rfl (fun r_10 f_9 h => ?_)
          refine ag_if_ne E1 (tgt := 47) dX7_walk_41 (by decide) (fun c_41 => ?_) (fun c_41 => ?_)
          · have h := h.1 c_41
            refine ag_aload_n E1 dX7_walk_47 rfl 0 rfl ?_
            refine am_geta E 36 (i := 22) (by decide) (by decide) rfl q1486 dX7_walk_48 ?_
            refine ag_iload E1 dX7_walk_51 5 rfl ?_
            obtain ⟨hin, h⟩ := h
            refine am_iald E 36 rfl rfl rfl (by decide) hin dX7_walk_53 ?_
            refine ag_iconst E1 dX7_walk_54 ki_m1 ?_
            refine ag_icmp_ne E1 (tgt := 61) dX7_walk_55 (by decide) (fun c_55 => ?_) (fun c_55 => ?_)
            · have h := h.1 c_55
              refine ag_aload_n E1 dX7_walk_61 rfl 0 rfl ?_
              refine am_geta E 37 (i := 23) (by decide) (by decide) rfl q1487 dX7_walk_62 ?_
              refine ag_iload E1 dX7_walk_65 5 rfl ?_
              obtain ⟨hin, h⟩ := h
              refine am_iald E 37 rfl rfl rfl (by decide) hin dX7_walk_67 ?_
              refine ag_aload_n E1 dX7_walk_68 rfl 0 rfl ?_
              refine am_geti E 6 (by decide) rfl q1456 dX7_walk_69 ?_
              refine ag_icmp_ne E1 (tgt := 79) dX7_walk_72 (by decide) (fun c_72 => ?_) (fun c_72 => ?_)
              · have h := h.1 c_72
                refine ag_iconst E1 dX7_walk_79 ki_0 ?_
                exact tbX7_walk_80 E  h
              · have h := h.2 c_72
                refine ag_iconst E1 dX7_walk_75 ki_1 ?_
                refine ag_goto E1 (tgt := 80) dX7_walk_76 (by decide) ?_
                exact tbX7_walk_80 E  h
            · have h := h.2 c_55
              refine ag_bipush E1 dX7_walk_58 kb_m11 ?_
              exact am_iret E rfl ⟨_, rfl, h⟩ dX7_walk_60
          · have h := h.2 c_41
            refine ag_bipush E1 dX7_walk_44 kb_m2 ?_
            exact am_iret E rfl ⟨_, rfl, h⟩ dX7_walk_46
theorem hdX7_walk : yX7_walk.cls = RX7 ∧ yX7_walk.cls ≠ "java/lang/invoke/MethodHandle" ∧ yX7_walk.cls ≠ "java/lang/invoke/VarHandle" ∧ (parseMethodDescriptor yX7_walk.desc).map (fun d => d.parameters.length) = some 5 := by decide +kernel
theorem kX7_count (l : Launch) (D : va_G) (cs : Nat → ClassId) (b : Nat) (H0 : Heap) (XK : State → Prop) (o : Nat) (Z : cP) (z u : Nat) (f : St) (x1 : Int32) (Q : Int32 → St → Prop) (h : wX7_count f x1 Q) : CM l D cs b H0 XK o Z z u yX7_count cX7_count 2 (some .int) 0 0 [.ref o, .int x1] f (pI Q) := by
  refine cm_of (by decide) rfl (Nat.le_of_ble_eq_true rfl) (fun p e R s m below meth c E => ?_)
  have E1 := E.1
  refine ag_sub (lv' := [(0, .ref o), (1, .int x1)]) [0, 1] rfl ?_
  refine ag_iload_n E1 dX7_count_0 rfl 1 rfl ?_
  rcases Classical.em (x1 = (0 : Int32)) with c_1_0 | c_1_0
  · have h := h.1 c_1_0
    refine ag_tableIn E1 (tgt := 44) (off := 43) dX7_count_1 (by rw [c_1_0]; decide) (by rw [c_1_0]; decide) (by rw [c_1_0]; decide) (by decide) ?_
    refine ag_aload_n E1 dX7_count_44 rfl 0 rfl ?_
    refine am_geti E 0 (by decide) rfl q1450 dX7_count_45 ?_
    exact am_iret E rfl ⟨_, rfl, h⟩ dX7_count_48
  · have h := h.2 c_1_0
    have n_0 := lv_neT c_1_0 (show (0 : Int32).toInt = 0 by decide)
    rcases Classical.em (x1 = (1 : Int32)) with c_1_1 | c_1_1
    · have h := h.1 c_1_1
      refine ag_tableIn E1 (tgt := 49) (off := 48) dX7_count_1 (by rw [c_1_1]; decide) (by rw [c_1_1]; decide) (by rw [c_1_1]; decide) (by decide) ?_
      refine ag_aload_n E1 dX7_count_49 rfl 0 rfl ?_
      refine am_geti E 6 (by decide) rfl q1456 dX7_count_50 ?_
      exact am_iret E rfl ⟨_, rfl, h⟩ dX7_count_53
    · have h := h.2 c_1_1
      have n_1 := lv_neT c_1_1 (show (1 : Int32).toInt = 1 by decide)
      rcases Classical.em (x1 = (2 : Int32)) with c_1_2 | c_1_2
      · have h := h.1 c_1_2
        refine ag_tableIn E1 (tgt := 54) (off := 53) dX7_count_1 (by rw [c_1_2]; decide) (by rw [c_1_2]; decide) (by rw [c_1_2]; decide) (by decide) ?_
        refine ag_aload_n E1 dX7_count_54 rfl 0 rfl ?_
        refine am_geti E 7 (by decide) rfl q1457 dX7_count_55 ?_
        exact am_iret E rfl ⟨_, rfl, h⟩ dX7_count_58
      · have h := h.2 c_1_2
        have n_2 := lv_neT c_1_2 (show (2 : Int32).toInt = 2 by decide)
        rcases Classical.em (x1 = (3 : Int32)) with c_1_3 | c_1_3
        · have h := h.1 c_1_3
          refine ag_tableIn E1 (tgt := 59) (off := 58) dX7_count_1 (by rw [c_1_3]; decide) (by rw [c_1_3]; decide) (by rw [c_1_3]; decide) (by decide) ?_
          refine ag_aload_n E1 dX7_count_59 rfl 0 rfl ?_
          refine am_geti E 16 (by decide) rfl q1466 dX7_count_60 ?_
          exact am_iret E rfl ⟨_, rfl, h⟩ dX7_count_63
        · have h := h.2 c_1_3
          have n_3 := lv_neT c_1_3 (show (3 : Int32).toInt = 3 by decide)
          rcases Classical.em (x1 = (4 : Int32)) with c_1_4 | c_1_4
          · have h := h.1 c_1_4
            refine ag_tableIn E1 (tgt := 64) (off := 63) dX7_count_1 (by rw [c_1_4]; decide) (by rw [c_1_4]; decide) (by rw [c_1_4]; decide) (by decide) ?_
            refine ag_aload_n E1 dX7_count_64 rfl 0 rfl ?_
            refine am_geti E 14 (by decide) rfl q1464 dX7_count_65 ?_
            exact am_iret E rfl ⟨_, rfl, h⟩ dX7_count_68
          · have h := h.2 c_1_4
            have n_4 := lv_neT c_1_4 (show (4 : Int32).toInt = 4 by decide)
            rcases Classical.em (x1 = (5 : Int32)) with c_1_5 | c_1_5
            · have h := h.1 c_1_5
              refine ag_tableIn E1 (tgt := 69) (off := 68) dX7_count_1 (by rw [c_1_5]; decide) (by rw [c_1_5]; decide) (by rw [c_1_5]; decide) (by decide) ?_
              refine ag_aload_n E1 dX7_count_69 rfl 0 rfl ?_
              refine am_geti E 15 (by decide) rfl q1465 dX7_count_70 ?_
              exact am_iret E rfl ⟨_, rfl, h⟩ dX7_count_73
            · have h := h.2 c_1_5
              have n_5 := lv_neT c_1_5 (show (5 : Int32).toInt = 5 by decide)
              rcases Classical.em (x1 = (6 : Int32)) with c_1_6 | c_1_6
              · have h := h.1 c_1_6
                refine ag_tableIn E1 (tgt := 74) (off := 73) dX7_count_1 (by rw [c_1_6]; decide) (by rw [c_1_6]; decide) (by rw [c_1_6]; decide) (by decide) ?_
                refine ag_aload_n E1 dX7_count_74 rfl 0 rfl ?_
                refine am_geti E 11 (by decide) rfl q1461 dX7_count_75 ?_
                exact am_iret E rfl ⟨_, rfl, h⟩ dX7_count_78
              · have h := h.2 c_1_6
                have n_6 := lv_neT c_1_6 (show (6 : Int32).toInt = 6 by decide)
                refine ag_tableOut E1 (tgt := 79) dX7_count_1 (by omega) (by decide) ?_
                refine ag_bipush E1 dX7_count_79 kb_m2 ?_
                exact am_iret E rfl ⟨_, rfl, h⟩ dX7_count_81
theorem hdX7_count : yX7_count.cls = RX7 ∧ yX7_count.cls ≠ "java/lang/invoke/MethodHandle" ∧ yX7_count.cls ≠ "java/lang/invoke/VarHandle" ∧ (parseMethodDescriptor yX7_count.desc).map (fun d => d.parameters.length) = some 1 := by decide +kernel
theorem tbX7_image_39 (E : EM p R s m args meth c cX7_image 2 (some .int) D cs b H0 XK 0 0 z u) {Q : Int32 → St → Prop} {K39 : Int32 → St → Prop} (hK39 : ∀ (x1 : Int32) (f : St), K39 x1 f → AM p l e R s m args below meth c D cs b 2 o Z z u (pI Q) 39 [(0, .ref o), (1, .int x1)] [] f) {K87 : St → Prop} (hK87 : ∀  (f : St), K87  f → AM p l e R s m args below meth c D cs b 2 o Z z u (pI Q) 87 [(0, .ref o)] [] f) {x1 : Int32} {f : St} (h : wbX7_image_39 K39 K87 Q x1 f) : AM p l e R s m args below meth c D cs b 2 o Z z u (pI Q) 39 [(0, .ref o), (1, .int x1)] [] f := by
  have E1 := E.1
  refine ag_iload_n E1 dX7_image_39 rfl 1 rfl ?_
  refine ag_bipush E1 dX7_image_40 kb_6 ?_
  refine ag_icmp_ge E1 (tgt := 87) dX7_image_42 (by decide) (fun c_42 => ?_) (fun c_42 => ?_)
  · have h := h.1 c_42
    refine ag_sub (lv' := [(0, .ref o)]) [0] rfl ?_
    exact hK87  _ h
  · have h := h.2 c_42
    refine ag_aload_n E1 dX7_image_45 rfl 0 rfl ?_
    refine am_geta E 30 (i := 16) (by decide) (by decide) rfl q1480 dX7_image_46 ?_
    refine ag_iload_n E1 dX7_image_49 rfl 1 rfl ?_
    refine ag_aload_n E1 dX7_image_50 rfl 0 rfl ?_
    refine am_geta E 2 (i := 2) (by decide) (by decide) rfl q1452 dX7_image_51 ?_
    refine ag_iload_n E1 dX7_image_54 rfl 1 rfl ?_
    obtain ⟨hin, h⟩ := h
    refine am_iald E 2 rfl rfl rfl (by decide) hin dX7_image_55 ?_
    obtain ⟨hin, h⟩ := h
    refine am_iast E 30 rfl rfl rfl (by decide) hin dX7_image_56 (fun f_6 e_f_6 => ?_)
    have h := h f_6 e_f_6
    refine ag_aload_n E1 dX7_image_57 rfl 0 rfl ?_
    refine am_geta E 31 (i := 17) (by decide) (by decide) rfl q1481 dX7_image_58 ?_
    refine ag_iload_n E1 dX7_image_61 rfl 1 rfl ?_
    refine ag_aload_n E1 dX7_image_62 rfl 0 rfl ?_
    refine am_geta E 3 (i := 3) (by decide) (by decide) rfl q1453 dX7_image_63 ?_
    refine ag_iload_n E1 dX7_image_66 rfl 1 rfl ?_
    obtain ⟨hin, h⟩ := h
    refine am_iald E 3 rfl rfl rfl (by decide) hin dX7_image_67 ?_
    obtain ⟨hin, h⟩ := h
    refine am_iast E 31 rfl rfl rfl (by decide) hin dX7_image_68 (fun f_7 e_f_7 => ?_)
    have h := h f_7 e_f_7
    refine ag_aload_n E1 dX7_image_69 rfl 0 rfl ?_
    refine am_geta E 32 (i := 18) (by decide) (by decide) rfl q1482 dX7_image_70 ?_
    refine ag_iload_n E1 dX7_image_73 rfl 1 rfl ?_
    refine ag_aload_n E1 dX7_image_74 rfl 0 rfl ?_
    refine am_geta E 4 (i := 4) (by decide) (by decide) rfl q1454 dX7_image_75 ?_
    refine ag_iload_n E1 dX7_image_78 rfl 1 rfl ?_
    obtain ⟨hin, h⟩ := h
    refine am_iald E 4 rfl rfl rfl (by decide) hin dX7_image_79 ?_
    obtain ⟨hin, h⟩ := h
    refine am_iast E 32 rfl rfl rfl (by decide) hin dX7_image_80 (fun f_8 e_f_8 => ?_)
    have h := h f_8 e_f_8
    refine ag_iincN E1 (lv' := fun x1_9 => [(1, .int x1_9), (0, .ref o)]) dX7_image_81 1 rfl ki_1 (Nat.lt_of_lt_of_le (Nat.le_refl _) (Nat.le_of_ble_eq_true rfl)) (fun _ => rfl) (fun x1_9 e_x1_9 => ?_)
    have h := h x1_9 e_x1_9
    refine ag_goto E1 (tgt := 39) dX7_image_84 (by decide) ?_
    refine ag_sub (lv' := [(0, .ref o), (1, .int x1_9)]) [1, 0] rfl ?_
    exact hK39 _ _ h
theorem tlX7_image_39 (E : EM p R s m args meth c cX7_image 2 (some .int) D cs b H0 XK 0 0 z u) {Q : Int32 → St → Prop} {K87 : St → Prop} (hK87 : ∀  (f : St), K87  f → AM p l e R s m args below meth c D cs b 2 o Z z u (pI Q) 87 [(0, .ref o)] [] f) : ∀ (n : Nat) (x1 : Int32) (f : St), wlX7_image_39 K87 Q n x1 f → AM p l e R s m args below meth c D cs b 2 o Z z u (pI Q) 39 [(0, .ref o), (1, .int x1)] [] f := by
  intro n
  induction n with
  | zero => intro _ _ h; exact h.elim
  | succ n ih => intro x1 f h; exact tbX7_image_39 E ih hK87 h
theorem tbX7_image_89 (E : EM p R s m args meth c cX7_image 2 (some .int) D cs b H0 XK 0 0 z u) {Q : Int32 → St → Prop} {K89 : Int32 → St → Prop} (hK89 : ∀ (x1 : Int32) (f : St), K89 x1 f → AM p l e R s m args below meth c D cs b 2 o Z z u (pI Q) 89 [(0, .ref o), (1, .int x1)] [] f) {K113 : St → Prop} (hK113 : ∀  (f : St), K113  f → AM p l e R s m args below meth c D cs b 2 o Z z u (pI Q) 113 [(0, .ref o)] [] f) {x1 : Int32} {f : St} (h : wbX7_image_89 K89 K113 Q x1 f) : AM p l e R s m args below meth c D cs b 2 o Z z u (pI Q) 89 [(0, .ref o), (1, .int x1)] [] f := by
  have E1 := E.1
  refine ag_iload_n E1 dX7_image_89 rfl 1 rfl ?_
  refine ag_bipush E1 dX7_image_90 kb_36 ?_
  refine ag_icmp_ge E1 (tgt := 113) dX7_image_92 (by decide) (fun c_92 => ?_) (fun c_92 => ?_)
  · have h := h.1 c_92
    refine ag_sub (lv' := [(0, .ref o)]) [0] rfl ?_
    exact hK113  _ h
  · have h := h.2 c_92
    refine ag_aload_n E1 dX7_image_95 rfl 0 rfl ?_
    refine am_geta E 33 (i := 19) (by decide) (by decide) rfl q1483 dX7_image_96 ?_
    refine ag_iload_n E1 dX7_image_99 rfl 1 rfl ?_
    refine ag_aload_n E1 dX7_image_100 rfl 0 rfl ?_
    refine am_geta E 5 (i := 5) (by decide) (by decide) rfl q1455 dX7_image_101 ?_
    refine ag_iload_n E1 dX7_image_104 rfl 1 rfl ?_
    obtain ⟨hin, h⟩ := h
    refine am_iald E 5 rfl rfl rfl (by decide) hin dX7_image_105 ?_
    obtain ⟨hin, h⟩ := h
    refine am_iast E 33 rfl rfl rfl (by decide) hin dX7_image_106 (fun f_10 e_f_10 => ?_)
    have h := h f_10 e_f_10
    refine ag_iincN E1 (lv' := fun x1_11 => [(1, .int x1_11), (0, .ref o)]) dX7_image_107 1 rfl ki_1 (Nat.lt_of_lt_of_le (Nat.le_refl _) (Nat.le_of_ble_eq_true rfl)) (fun _ => rfl) (fun x1_11 e_x1_11 => ?_)
    have h := h x1_11 e_x1_11
    refine ag_goto E1 (tgt := 89) dX7_image_110 (by decide) ?_
    refine ag_sub (lv' := [(0, .ref o), (1, .int x1_11)]) [1, 0] rfl ?_
    exact hK89 _ _ h
theorem tlX7_image_89 (E : EM p R s m args meth c cX7_image 2 (some .int) D cs b H0 XK 0 0 z u) {Q : Int32 → St → Prop} {K113 : St → Prop} (hK113 : ∀  (f : St), K113  f → AM p l e R s m args below meth c D cs b 2 o Z z u (pI Q) 113 [(0, .ref o)] [] f) : ∀ (n : Nat) (x1 : Int32) (f : St), wlX7_image_89 K113 Q n x1 f → AM p l e R s m args below meth c D cs b 2 o Z z u (pI Q) 89 [(0, .ref o), (1, .int x1)] [] f := by
  intro n
  induction n with
  | zero => intro _ _ h; exact h.elim
  | succ n ih => intro x1 f h; exact tbX7_image_89 E ih hK113 h
theorem tbX7_image_115 (E : EM p R s m args meth c cX7_image 2 (some .int) D cs b H0 XK 0 0 z u) {Q : Int32 → St → Prop} {K115 : Int32 → St → Prop} (hK115 : ∀ (x1 : Int32) (f : St), K115 x1 f → AM p l e R s m args below meth c D cs b 2 o Z z u (pI Q) 115 [(0, .ref o), (1, .int x1)] [] f) {x1 : Int32} {f : St} (h : wbX7_image_115 K115 Q x1 f) : AM p l e R s m args below meth c D cs b 2 o Z z u (pI Q) 115 [(0, .ref o), (1, .int x1)] [] f := by
  have E1 := E.1
  refine ag_iload_n E1 dX7_image_115 rfl 1 rfl ?_
  refine ag_bipush E1 dX7_image_116 kb_10 ?_
  refine ag_icmp_ge E1 (tgt := 151) dX7_image_118 (by decide) (fun c_118 => ?_) (fun c_118 => ?_)
  · have h := h.1 c_118
    refine ag_aload_n E1 dX7_image_151 rfl 0 rfl ?_
    refine am_geti E 0 (by decide) rfl q1450 dX7_image_152 ?_
    exact am_iret E rfl ⟨_, rfl, h⟩ dX7_image_155
  · have h := h.2 c_118
    refine ag_aload_n E1 dX7_image_121 rfl 0 rfl ?_
    refine am_geta E 34 (i := 20) (by decide) (by decide) rfl q1484 dX7_image_122 ?_
    refine ag_iload_n E1 dX7_image_125 rfl 1 rfl ?_
    refine ag_aload_n E1 dX7_image_126 rfl 0 rfl ?_
    refine am_geta E 8 (i := 6) (by decide) (by decide) rfl q1458 dX7_image_127 ?_
    refine ag_iload_n E1 dX7_image_130 rfl 1 rfl ?_
    obtain ⟨hin, h⟩ := h
    refine am_iald E 8 rfl rfl rfl (by decide) hin dX7_image_131 ?_
    obtain ⟨hin, h⟩ := h
    refine am_iast E 34 rfl rfl rfl (by decide) hin dX7_image_132 (fun f_12 e_f_12 => ?_)
    have h := h f_12 e_f_12
    refine ag_aload_n E1 dX7_image_133 rfl 0 rfl ?_
    refine am_geta E 35 (i := 21) (by decide) (by decide) rfl q1485 dX7_image_134 ?_
    refine ag_iload_n E1 dX7_image_137 rfl 1 rfl ?_
    refine ag_aload_n E1 dX7_image_138 rfl 0 rfl ?_
    refine am_geta E 9 (i := 7) (by decide) (by decide) rfl q1459 dX7_image_139 ?_
    refine ag_iload_n E1 dX7_image_142 rfl 1 rfl ?_
    obtain ⟨hin, h⟩ := h
    refine am_iald E 9 rfl rfl rfl (by decide) hin dX7_image_143 ?_
    obtain ⟨hin, h⟩ := h
    refine am_iast E 35 rfl rfl rfl (by decide) hin dX7_image_144 (fun f_13 e_f_13 => ?_)
    have h := h f_13 e_f_13
    refine ag_iincN E1 (lv' := fun x1_14 => [(1, .int x1_14), (0, .ref o)]) dX7_image_145 1 rfl ki_1 (Nat.lt_of_lt_of_le (Nat.le_refl _) (Nat.le_of_ble_eq_true rfl)) (fun _ => rfl) (fun x1_14 e_x1_14 => ?_)
    have h := h x1_14 e_x1_14
    refine ag_goto E1 (tgt := 115) dX7_image_148 (by decide) ?_
    refine ag_sub (lv' := [(0, .ref o), (1, .int x1_14)]) [1, 0] rfl ?_
    exact hK115 _ _ h
theorem tlX7_image_115 (E : EM p R s m args meth c cX7_image 2 (some .int) D cs b H0 XK 0 0 z u) {Q : Int32 → St → Prop}  : ∀ (n : Nat) (x1 : Int32) (f : St), wlX7_image_115  Q n x1 f → AM p l e R s m args below meth c D cs b 2 o Z z u (pI Q) 115 [(0, .ref o), (1, .int x1)] [] f := by
  intro n
  induction n with
  | zero => intro _ _ h; exact h.elim
  | succ n ih => intro x1 f h; exact tbX7_image_115 E ih h
theorem kX7_image (l : Launch) (D : va_G) (cs : Nat → ClassId) (b : Nat) (H0 : Heap) (XK : State → Prop) (o : Nat) (Z : cP) (z u : Nat) (f : St)  (Q : Int32 → St → Prop) (h : wX7_image f  Q) : CM l D cs b H0 XK o Z z u yX7_image cX7_image 2 (some .int) 0 0 [.ref o] f (pI Q) := by
  refine cm_of (by decide) rfl (Nat.le_of_ble_eq_true rfl) (fun p e R s m below meth c E => ?_)
  have E1 := E.1
  refine ag_sub (lv' := [(0, .ref o)]) [0] rfl ?_
  refine ag_aload_n E1 dX7_image_0 rfl 0 rfl ?_
  refine ag_iconst E1 dX7_image_1 ki_1 ?_
  refine am_puti E 25 (by decide) rfl q1475 rfl (ty := .boolean) (by decide +kernel) (vz_nar (show vz (1 : Int32) from Or.inr rfl)) (vz_fit (show vz (1 : Int32) from Or.inr rfl)) dX7_image_2 (fun f_1 e_f_1 => ?_)
  have h := h f_1 e_f_1
  refine ag_aload_n E1 dX7_image_5 rfl 0 rfl ?_
  refine ag_aload_n E1 dX7_image_6 rfl 0 rfl ?_
  refine am_geti E 0 (by decide) rfl q1450 dX7_image_7 ?_
  refine am_puti E 26 (by decide) rfl q1476 rfl (ty := .int) (by decide +kernel) rfl rfl dX7_image_10 (fun f_2 e_f_2 => ?_)
  have h := h f_2 e_f_2
  refine ag_aload_n E1 dX7_image_13 rfl 0 rfl ?_
  refine ag_aload_n E1 dX7_image_14 rfl 0 rfl ?_
  refine am_geti E 6 (by decide) rfl q1456 dX7_image_15 ?_
  refine am_puti E 27 (by decide) rfl q1477 rfl (ty := .int) (by decide +kernel) rfl rfl dX7_image_18 (fun f_3 e_f_3 => ?_)
  have h := h f_3 e_f_3
  refine ag_aload_n E1 dX7_image_21 rfl 0 rfl ?_
  refine ag_aload_n E1 dX7_image_22 rfl 0 rfl ?_
  refine am_geti E 7 (by decide) rfl q1457 dX7_image_23 ?_
  refine am_puti E 28 (by decide) rfl q1478 rfl (ty := .int) (by decide +kernel) rfl rfl dX7_image_26 (fun f_4 e_f_4 => ?_)
  have h := h f_4 e_f_4
  refine ag_aload_n E1 dX7_image_29 rfl 0 rfl ?_
  refine ag_aload_n E1 dX7_image_30 rfl 0 rfl ?_
  refine am_geti E 15 (by decide) rfl q1465 dX7_image_31 ?_
  refine am_puti E 29 (by decide) rfl q1479 rfl (ty := .int) (by decide +kernel) rfl rfl dX7_image_34 (fun f_5 e_f_5 => ?_)
  have h := h f_5 e_f_5
  refine ag_iconst E1 dX7_image_37 ki_0 ?_
  refine ag_istore_n E1 (lv' := [(1, .int (0 : Int32)), (0, .ref o)]) dX7_image_38 rfl (Nat.lt_of_lt_of_le (Nat.le_refl _) (Nat.le_of_ble_eq_true rfl)) rfl ?_
  refine ag_sub (lv' := [(0, .ref o), (1, .int (0 : Int32))]) [1, 0] rfl ?_
  obtain ⟨n, h⟩ := h
  refine tlX7_image_39 E ?_ n _ _ h
  · intro f h
    refine ag_iconst E1 dX7_image_87 ki_0 ?_
    refine ag_istore_n E1 (lv' := [(1, .int (0 : Int32)), (0, .ref o)]) dX7_image_88 rfl (Nat.lt_of_lt_of_le (Nat.le_refl _) (Nat.le_of_ble_eq_true rfl)) rfl ?_
    refine ag_sub (lv' := [(0, .ref o), (1, .int (0 : Int32))]) [1, 0] rfl ?_
    obtain ⟨n, h⟩ := h
    refine tlX7_image_89 E ?_ n _ _ h
    · intro f h
      refine ag_iconst E1 dX7_image_113 ki_0 ?_
      refine ag_istore_n E1 (lv' := [(1, .int (0 : Int32)), (0, .ref o)]) dX7_image_114 rfl (Nat.lt_of_lt_of_le (Nat.le_refl _) (Nat.le_of_ble_eq_true rfl)) rfl ?_
      refine ag_sub (lv' := [(0, .ref o), (1, .int (0 : Int32))]) [1, 0] rfl ?_
      obtain ⟨n, h⟩ := h
      exact tlX7_image_115 E  n _ _ h
theorem hdX7_image : yX7_image.cls = RX7 ∧ yX7_image.cls ≠ "java/lang/invoke/MethodHandle" ∧ yX7_image.cls ≠ "java/lang/invoke/VarHandle" ∧ (parseMethodDescriptor yX7_image.desc).map (fun d => d.parameters.length) = some 0 := by decide +kernel
theorem tbX7_back_36 (E : EM p R s m args meth c cX7_back 3 (some .int) D cs b H0 XK 0 0 z u) {Q : Int32 → St → Prop} {K36 : Int32 → St → Prop} (hK36 : ∀ (x1 : Int32) (f : St), K36 x1 f → AM p l e R s m args below meth c D cs b 3 o Z z u (pI Q) 36 [(0, .ref o), (1, .int x1)] [] f) {K86 : St → Prop} (hK86 : ∀  (f : St), K86  f → AM p l e R s m args below meth c D cs b 3 o Z z u (pI Q) 86 [(0, .ref o)] [] f) {x1 : Int32} {f : St} (h : wbX7_back_36 K36 K86 Q x1 f) : AM p l e R s m args below meth c D cs b 3 o Z z u (pI Q) 36 [(0, .ref o), (1, .int x1)] [] f := by
  have E1 := E.1
  refine ag_iload_n E1 dX7_back_36 rfl 1 rfl ?_
  refine ag_aload_n E1 dX7_back_37 rfl 0 rfl ?_
  refine am_geti E 26 (by decide) rfl q1476 dX7_back_38 ?_
  refine ag_icmp_ge E1 (tgt := 86) dX7_back_41 (by decide) (fun c_41 => ?_) (fun c_41 => ?_)
  · have h := h.1 c_41
    refine ag_sub (lv' := [(0, .ref o)]) [0] rfl ?_
    exact hK86  _ h
  · have h := h.2 c_41
    refine ag_aload_n E1 dX7_back_44 rfl 0 rfl ?_
    refine am_geta E 2 (i := 2) (by decide) (by decide) rfl q1452 dX7_back_45 ?_
    refine ag_iload_n E1 dX7_back_48 rfl 1 rfl ?_
    refine ag_aload_n E1 dX7_back_49 rfl 0 rfl ?_
    refine am_geta E 30 (i := 16) (by decide) (by decide) rfl q1480 dX7_back_50 ?_
    refine ag_iload_n E1 dX7_back_53 rfl 1 rfl ?_
    obtain ⟨hin, h⟩ := h
    refine am_iald E 30 rfl rfl rfl (by decide) hin dX7_back_54 ?_
    obtain ⟨hin, h⟩ := h
    refine am_iast E 2 rfl rfl rfl (by decide) hin dX7_back_55 (fun f_4 e_f_4 => ?_)
    have h := h f_4 e_f_4
    refine ag_aload_n E1 dX7_back_56 rfl 0 rfl ?_
    refine am_geta E 3 (i := 3) (by decide) (by decide) rfl q1453 dX7_back_57 ?_
    refine ag_iload_n E1 dX7_back_60 rfl 1 rfl ?_
    refine ag_aload_n E1 dX7_back_61 rfl 0 rfl ?_
    refine am_geta E 31 (i := 17) (by decide) (by decide) rfl q1481 dX7_back_62 ?_
    refine ag_iload_n E1 dX7_back_65 rfl 1 rfl ?_
    obtain ⟨hin, h⟩ := h
    refine am_iald E 31 rfl rfl rfl (by decide) hin dX7_back_66 ?_
    obtain ⟨hin, h⟩ := h
    refine am_iast E 3 rfl rfl rfl (by decide) hin dX7_back_67 (fun f_5 e_f_5 => ?_)
    have h := h f_5 e_f_5
    refine ag_aload_n E1 dX7_back_68 rfl 0 rfl ?_
    refine am_geta E 4 (i := 4) (by decide) (by decide) rfl q1454 dX7_back_69 ?_
    refine ag_iload_n E1 dX7_back_72 rfl 1 rfl ?_
    refine ag_aload_n E1 dX7_back_73 rfl 0 rfl ?_
    refine am_geta E 32 (i := 18) (by decide) (by decide) rfl q1482 dX7_back_74 ?_
    refine ag_iload_n E1 dX7_back_77 rfl 1 rfl ?_
    obtain ⟨hin, h⟩ := h
    refine am_iald E 32 rfl rfl rfl (by decide) hin dX7_back_78 ?_
    obtain ⟨hin, h⟩ := h
    refine am_iast E 4 rfl rfl rfl (by decide) hin dX7_back_79 (fun f_6 e_f_6 => ?_)
    have h := h f_6 e_f_6
    refine ag_iincN E1 (lv' := fun x1_7 => [(1, .int x1_7), (0, .ref o)]) dX7_back_80 1 rfl ki_1 (Nat.lt_of_lt_of_le (Nat.le_refl _) (Nat.le_of_ble_eq_true rfl)) (fun _ => rfl) (fun x1_7 e_x1_7 => ?_)
    have h := h x1_7 e_x1_7
    refine ag_goto E1 (tgt := 36) dX7_back_83 (by decide) ?_
    refine ag_sub (lv' := [(0, .ref o), (1, .int x1_7)]) [1, 0] rfl ?_
    exact hK36 _ _ h
theorem tlX7_back_36 (E : EM p R s m args meth c cX7_back 3 (some .int) D cs b H0 XK 0 0 z u) {Q : Int32 → St → Prop} {K86 : St → Prop} (hK86 : ∀  (f : St), K86  f → AM p l e R s m args below meth c D cs b 3 o Z z u (pI Q) 86 [(0, .ref o)] [] f) : ∀ (n : Nat) (x1 : Int32) (f : St), wlX7_back_36 K86 Q n x1 f → AM p l e R s m args below meth c D cs b 3 o Z z u (pI Q) 36 [(0, .ref o), (1, .int x1)] [] f := by
  intro n
  induction n with
  | zero => intro _ _ h; exact h.elim
  | succ n ih => intro x1 f h; exact tbX7_back_36 E ih hK86 h
theorem tbX7_back_162 (E : EM p R s m args meth c cX7_back 3 (some .int) D cs b H0 XK 0 0 z u) {Q : Int32 → St → Prop} {K88 : Int32 → St → Prop} (hK88 : ∀ (x1 : Int32) (f : St), K88 x1 f → AM p l e R s m args below meth c D cs b 3 o Z z u (pI Q) 88 [(0, .ref o), (1, .int x1)] [] f) {K169 : St → Prop} (hK169 : ∀  (f : St), K169  f → AM p l e R s m args below meth c D cs b 3 o Z z u (pI Q) 169 [(0, .ref o)] [] f) {x1 : Int32} {t0 : Int32} {t1 : Int32} {f : St} (h : wbX7_back_162 K88 K169 Q x1 t0 t1 f) : AM p l e R s m args below meth c D cs b 3 o Z z u (pI Q) 162 [(0, .ref o), (1, .int x1)] [.int t0, .int t1, .ref (o + 5)] f := by
  have E1 := E.1
  obtain ⟨hin, h⟩ := h
  refine am_iast E 5 rfl rfl rfl (by decide) hin dX7_back_162 (fun f_9 e_f_9 => ?_)
  have h := h f_9 e_f_9
  refine ag_iincN E1 (lv' := fun x1_10 => [(1, .int x1_10), (0, .ref o)]) dX7_back_163 1 rfl ki_1 (Nat.lt_of_lt_of_le (Nat.le_refl _) (Nat.le_of_ble_eq_true rfl)) (fun _ => rfl) (fun x1_10 e_x1_10 => ?_)
  have h := h x1_10 e_x1_10
  refine ag_goto E1 (tgt := 88) dX7_back_166 (by decide) ?_
  refine ag_sub (lv' := [(0, .ref o), (1, .int x1_10)]) [1, 0] rfl ?_
  exact hK88 _ _ h
theorem tbX7_back_126 (E : EM p R s m args meth c cX7_back 3 (some .int) D cs b H0 XK 0 0 z u) {Q : Int32 → St → Prop} {K88 : Int32 → St → Prop} (hK88 : ∀ (x1 : Int32) (f : St), K88 x1 f → AM p l e R s m args below meth c D cs b 3 o Z z u (pI Q) 88 [(0, .ref o), (1, .int x1)] [] f) {K169 : St → Prop} (hK169 : ∀  (f : St), K169  f → AM p l e R s m args below meth c D cs b 3 o Z z u (pI Q) 169 [(0, .ref o)] [] f) {x1 : Int32} {t0 : Int32} {t1 : Int32} {f : St} (h : wbX7_back_126 K88 K169 Q x1 t0 t1 f) : AM p l e R s m args below meth c D cs b 3 o Z z u (pI Q) 126 [(0, .ref o), (1, .int x1)] [.int t0, .int t1] f := by
  have E1 := E.1
  refine ag_iadd E1 dX7_back_126 ?_
  refine ag_topi (fun x2_8 e_x2_8 => ?_)
  have h := h x2_8 e_x2_8
  refine ag_istore_n E1 (lv' := [(2, .int x2_8), (0, .ref o), (1, .int x1)]) dX7_back_127 rfl (Nat.lt_of_lt_of_le (Nat.le_refl _) (Nat.le_of_ble_eq_true rfl)) rfl ?_
  refine ag_aload_n E1 dX7_back_128 rfl 1 rfl ?_
  refine am_geta E 5 (i := 5) (by decide) (by decide) rfl q1455 dX7_back_129 ?_
  refine ag_iload_n E1 dX7_back_132 rfl 2 rfl ?_
  refine ag_iload_n E1 dX7_back_133 rfl 0 rfl ?_
  refine ag_iconst E1 dX7_back_134 ki_2 ?_
  refine ag_icmp_ne E1 (tgt := 147) dX7_back_135 (by decide) (fun c_135 => ?_) (fun c_135 => ?_)
  · have h := h.1 c_135
    refine ag_iload_n E1 dX7_back_147 rfl 0 rfl ?_
    refine ag_iconst E1 dX7_back_148 ki_1 ?_
    refine ag_icmp_ne E1 (tgt := 156) dX7_back_149 (by decide) (fun c_149 => ?_) (fun c_149 => ?_)
    · have h := h.1 c_149
      refine ag_aload_n E1 dX7_back_156 rfl 1 rfl ?_
      refine am_geta E 5 (i := 5) (by decide) (by decide) rfl q1455 dX7_back_157 ?_
      refine ag_iload_n E1 dX7_back_160 rfl 2 rfl ?_
      obtain ⟨hin, h⟩ := h
      refine am_iald E 5 rfl rfl rfl (by decide) hin dX7_back_161 ?_
      refine ag_sub (lv' := [(0, .ref o), (1, .int x1)]) [1, 2] rfl ?_
      exact tbX7_back_162 E hK88 hK169 h
    · have h := h.2 c_149
      refine ag_iconst E1 dX7_back_152 ki_0 ?_
      refine ag_goto E1 (tgt := 162) dX7_back_153 (by decide) ?_
      refine ag_sub (lv' := [(0, .ref o), (1, .int x1)]) [1, 2] rfl ?_
      exact tbX7_back_162 E hK88 hK169 h
  · have h := h.2 c_135
    refine ag_aload_n E1 dX7_back_138 rfl 1 rfl ?_
    refine am_geta E 33 (i := 19) (by decide) (by decide) rfl q1483 dX7_back_139 ?_
    refine ag_iload_n E1 dX7_back_142 rfl 2 rfl ?_
    obtain ⟨hin, h⟩ := h
    refine am_iald E 33 rfl rfl rfl (by decide) hin dX7_back_143 ?_
    refine ag_goto E1 (tgt := 162) dX7_back_144 (by decide) ?_
    refine ag_sub (lv' := [(0, .ref o), (1, .int x1)]) [1, 2] rfl ?_
    exact tbX7_back_162 E hK88 hK169 h
theorem tbX7_back_110 (E : EM p R s m args meth c cX7_back 3 (some .int) D cs b H0 XK 0 0 z u) {Q : Int32 → St → Prop} {K88 : Int32 → St → Prop} (hK88 : ∀ (x1 : Int32) (f : St), K88 x1 f → AM p l e R s m args below meth c D cs b 3 o Z z u (pI Q) 88 [(0, .ref o), (1, .int x1)] [] f) {K169 : St → Prop} (hK169 : ∀  (f : St), K169  f → AM p l e R s m args below meth c D cs b 3 o Z z u (pI Q) 169 [(0, .ref o)] [] f) {x1 : Int32} {t0 : Int32} {f : St} (h : wbX7_back_110 K88 K169 Q x1 t0 f) : AM p l e R s m args below meth c D cs b 3 o Z z u (pI Q) 110 [(0, .ref o), (1, .int x1)] [.int t0] f := by
  have E1 := E.1
  refine ag_iload_n E1 dX7_back_110 rfl 1 rfl ?_
  refine ag_bipush E1 dX7_back_111 kb_6 ?_
  refine ag_irem E1 dX7_back_113 (by decide) ?_
  refine ag_aload_n E1 dX7_back_114 rfl 0 rfl ?_
  refine am_geti E 26 (by decide) rfl q1476 dX7_back_115 ?_
  refine ag_icmp_ge E1 (tgt := 125) dX7_back_118 (by decide) (fun c_118 => ?_) (fun c_118 => ?_)
  · have h := h.1 c_118
    refine ag_iconst E1 dX7_back_125 ki_0 ?_
    exact tbX7_back_126 E hK88 hK169 h
  · have h := h.2 c_118
    refine ag_iconst E1 dX7_back_121 ki_1 ?_
    refine ag_goto E1 (tgt := 126) dX7_back_122 (by decide) ?_
    exact tbX7_back_126 E hK88 hK169 h
theorem tbX7_back_88 (E : EM p R s m args meth c cX7_back 3 (some .int) D cs b H0 XK 0 0 z u) {Q : Int32 → St → Prop} {K88 : Int32 → St → Prop} (hK88 : ∀ (x1 : Int32) (f : St), K88 x1 f → AM p l e R s m args below meth c D cs b 3 o Z z u (pI Q) 88 [(0, .ref o), (1, .int x1)] [] f) {K169 : St → Prop} (hK169 : ∀  (f : St), K169  f → AM p l e R s m args below meth c D cs b 3 o Z z u (pI Q) 169 [(0, .ref o)] [] f) {x1 : Int32} {f : St} (h : wbX7_back_88 K88 K169 Q x1 f) : AM p l e R s m args below meth c D cs b 3 o Z z u (pI Q) 88 [(0, .ref o), (1, .int x1)] [] f := by
  have E1 := E.1
  refine ag_iload_n E1 dX7_back_88 rfl 1 rfl ?_
  refine ag_bipush E1 dX7_back_89 kb_36 ?_
  refine ag_icmp_ge E1 (tgt := 169) dX7_back_91 (by decide) (fun c_91 => ?_) (fun c_91 => ?_)
  · have h := h.1 c_91
    refine ag_sub (lv' := [(0, .ref o)]) [0] rfl ?_
    exact hK169  _ h
  · have h := h.2 c_91
    refine ag_iload_n E1 dX7_back_94 rfl 1 rfl ?_
    refine ag_bipush E1 dX7_back_95 kb_6 ?_
    refine ag_idiv E1 dX7_back_97 (by decide) ?_
    refine ag_aload_n E1 dX7_back_98 rfl 0 rfl ?_
    refine am_geti E 26 (by decide) rfl q1476 dX7_back_99 ?_
    refine ag_icmp_ge E1 (tgt := 109) dX7_back_102 (by decide) (fun c_102 => ?_) (fun c_102 => ?_)
    · have h := h.1 c_102
      refine ag_iconst E1 dX7_back_109 ki_0 ?_
      exact tbX7_back_110 E hK88 hK169 h
    · have h := h.2 c_102
      refine ag_iconst E1 dX7_back_105 ki_1 ?_
      refine ag_goto E1 (tgt := 110) dX7_back_106 (by decide) ?_
      exact tbX7_back_110 E hK88 hK169 h
theorem tlX7_back_88 (E : EM p R s m args meth c cX7_back 3 (some .int) D cs b H0 XK 0 0 z u) {Q : Int32 → St → Prop} {K169 : St → Prop} (hK169 : ∀  (f : St), K169  f → AM p l e R s m args below meth c D cs b 3 o Z z u (pI Q) 169 [(0, .ref o)] [] f) : ∀ (n : Nat) (x1 : Int32) (f : St), wlX7_back_88 K169 Q n x1 f → AM p l e R s m args below meth c D cs b 3 o Z z u (pI Q) 88 [(0, .ref o), (1, .int x1)] [] f := by
  intro n
  induction n with
  | zero => intro _ _ h; exact h.elim
  | succ n ih => intro x1 f h; exact tbX7_back_88 E ih hK169 h
theorem tbX7_back_171 (E : EM p R s m args meth c cX7_back 3 (some .int) D cs b H0 XK 0 0 z u) {Q : Int32 → St → Prop} {K171 : Int32 → St → Prop} (hK171 : ∀ (x1 : Int32) (f : St), K171 x1 f → AM p l e R s m args below meth c D cs b 3 o Z z u (pI Q) 171 [(0, .ref o), (1, .int x1)] [] f) {x1 : Int32} {f : St} (h : wbX7_back_171 K171 Q x1 f) : AM p l e R s m args below meth c D cs b 3 o Z z u (pI Q) 171 [(0, .ref o), (1, .int x1)] [] f := by
  have E1 := E.1
  refine ag_iload_n E1 dX7_back_171 rfl 1 rfl ?_
  refine ag_bipush E1 dX7_back_172 kb_10 ?_
  refine ag_icmp_ge E1 (tgt := 207) dX7_back_174 (by decide) (fun c_174 => ?_) (fun c_174 => ?_)
  · have h := h.1 c_174
    refine ag_aload_n E1 dX7_back_207 rfl 0 rfl ?_
    refine am_geti E 0 (by decide) rfl q1450 dX7_back_208 ?_
    exact am_iret E rfl ⟨_, rfl, h⟩ dX7_back_211
  · have h := h.2 c_174
    refine ag_aload_n E1 dX7_back_177 rfl 0 rfl ?_
    refine am_geta E 8 (i := 6) (by decide) (by decide) rfl q1458 dX7_back_178 ?_
    refine ag_iload_n E1 dX7_back_181 rfl 1 rfl ?_
    refine ag_aload_n E1 dX7_back_182 rfl 0 rfl ?_
    refine am_geta E 34 (i := 20) (by decide) (by decide) rfl q1484 dX7_back_183 ?_
    refine ag_iload_n E1 dX7_back_186 rfl 1 rfl ?_
    obtain ⟨hin, h⟩ := h
    refine am_iald E 34 rfl rfl rfl (by decide) hin dX7_back_187 ?_
    obtain ⟨hin, h⟩ := h
    refine am_iast E 8 rfl rfl rfl (by decide) hin dX7_back_188 (fun f_11 e_f_11 => ?_)
    have h := h f_11 e_f_11
    refine ag_aload_n E1 dX7_back_189 rfl 0 rfl ?_
    refine am_geta E 9 (i := 7) (by decide) (by decide) rfl q1459 dX7_back_190 ?_
    refine ag_iload_n E1 dX7_back_193 rfl 1 rfl ?_
    refine ag_aload_n E1 dX7_back_194 rfl 0 rfl ?_
    refine am_geta E 35 (i := 21) (by decide) (by decide) rfl q1485 dX7_back_195 ?_
    refine ag_iload_n E1 dX7_back_198 rfl 1 rfl ?_
    obtain ⟨hin, h⟩ := h
    refine am_iald E 35 rfl rfl rfl (by decide) hin dX7_back_199 ?_
    obtain ⟨hin, h⟩ := h
    refine am_iast E 9 rfl rfl rfl (by decide) hin dX7_back_200 (fun f_12 e_f_12 => ?_)
    have h := h f_12 e_f_12
    refine ag_iincN E1 (lv' := fun x1_13 => [(1, .int x1_13), (0, .ref o)]) dX7_back_201 1 rfl ki_1 (Nat.lt_of_lt_of_le (Nat.le_refl _) (Nat.le_of_ble_eq_true rfl)) (fun _ => rfl) (fun x1_13 e_x1_13 => ?_)
    have h := h x1_13 e_x1_13
    refine ag_goto E1 (tgt := 171) dX7_back_204 (by decide) ?_
    refine ag_sub (lv' := [(0, .ref o), (1, .int x1_13)]) [1, 0] rfl ?_
    exact hK171 _ _ h
theorem tlX7_back_171 (E : EM p R s m args meth c cX7_back 3 (some .int) D cs b H0 XK 0 0 z u) {Q : Int32 → St → Prop}  : ∀ (n : Nat) (x1 : Int32) (f : St), wlX7_back_171  Q n x1 f → AM p l e R s m args below meth c D cs b 3 o Z z u (pI Q) 171 [(0, .ref o), (1, .int x1)] [] f := by
  intro n
  induction n with
  | zero => intro _ _ h; exact h.elim
  | succ n ih => intro x1 f h; exact tbX7_back_171 E ih h
theorem kX7_back (l : Launch) (D : va_G) (cs : Nat → ClassId) (b : Nat) (H0 : Heap) (XK : State → Prop) (o : Nat) (Z : cP) (z u : Nat) (f : St)  (Q : Int32 → St → Prop) (h : wX7_back f  Q) : CM l D cs b H0 XK o Z z u yX7_back cX7_back 3 (some .int) 0 0 [.ref o] f (pI Q) := by
  refine cm_of (by decide) rfl (Nat.le_of_ble_eq_true rfl) (fun p e R s m below meth c E => ?_)
  have E1 := E.1
  refine ag_sub (lv' := [(0, .ref o)]) [0] rfl ?_
  refine ag_aload_n E1 dX7_back_0 rfl 0 rfl ?_
  refine am_geti E 25 (by decide) rfl q1475 dX7_back_1 ?_
  refine ag_if_ne E1 (tgt := 10) dX7_back_4 (by decide) (fun c_4 => ?_) (fun c_4 => ?_)
  · have h := h.1 c_4
    refine ag_aload_n E1 dX7_back_10 rfl 0 rfl ?_
    refine ag_aload_n E1 dX7_back_11 rfl 0 rfl ?_
    refine am_geti E 27 (by decide) rfl q1477 dX7_back_12 ?_
    refine am_puti E 6 (by decide) rfl q1456 rfl (ty := .int) (by decide +kernel) rfl rfl dX7_back_15 (fun f_1 e_f_1 => ?_)
    have h := h f_1 e_f_1
    refine ag_aload_n E1 dX7_back_18 rfl 0 rfl ?_
    refine ag_aload_n E1 dX7_back_19 rfl 0 rfl ?_
    refine am_geti E 28 (by decide) rfl q1478 dX7_back_20 ?_
    refine am_puti E 7 (by decide) rfl q1457 rfl (ty := .int) (by decide +kernel) rfl rfl dX7_back_23 (fun f_2 e_f_2 => ?_)
    have h := h f_2 e_f_2
    refine ag_aload_n E1 dX7_back_26 rfl 0 rfl ?_
    refine ag_aload_n E1 dX7_back_27 rfl 0 rfl ?_
    refine am_geti E 29 (by decide) rfl q1479 dX7_back_28 ?_
    refine am_puti E 15 (by decide) rfl q1465 rfl (ty := .int) (by decide +kernel) rfl rfl dX7_back_31 (fun f_3 e_f_3 => ?_)
    have h := h f_3 e_f_3
    refine ag_iconst E1 dX7_back_34 ki_0 ?_
    refine ag_istore_n E1 (lv' := [(1, .int (0 : Int32)), (0, .ref o)]) dX7_back_35 rfl (Nat.lt_of_lt_of_le (Nat.le_refl _) (Nat.le_of_ble_eq_true rfl)) rfl ?_
    refine ag_sub (lv' := [(0, .ref o), (1, .int (0 : Int32))]) [1, 0] rfl ?_
    obtain ⟨n, h⟩ := h
    refine tlX7_back_36 E ?_ n _ _ h
    · intro f h
      refine ag_iconst E1 dX7_back_86 ki_0 ?_
      refine ag_istore_n E1 (lv' := [(1, .int (0 : Int32)), (0, .ref o)]) dX7_back_87 rfl (Nat.lt_of_lt_of_le (Nat.le_refl _) (Nat.le_of_ble_eq_true rfl)) rfl ?_
      refine ag_sub (lv' := [(0, .ref o), (1, .int (0 : Int32))]) [1, 0] rfl ?_
      obtain ⟨n, h⟩ := h
      refine tlX7_back_88 E ?_ n _ _ h
      · intro f h
        refine ag_iconst E1 dX7_back_169 ki_0 ?_
        refine ag_istore_n E1 (lv' := [(1, .int (0 : Int32)), (0, .ref o)]) dX7_back_170 rfl (Nat.lt_of_lt_of_le (Nat.le_refl _) (Nat.le_of_ble_eq_true rfl)) rfl ?_
        refine ag_sub (lv' := [(0, .ref o), (1, .int (0 : Int32))]) [1, 0] rfl ?_
        obtain ⟨n, h⟩ := h
        exact tlX7_back_171 E  n _ _ h
  · have h := h.2 c_4
    refine ag_bipush E1 dX7_back_7 kb_m3 ?_
    exact am_iret E rfl ⟨_, rfl, h⟩ dX7_back_9
theorem hdX7_back : yX7_back.cls = RX7 ∧ yX7_back.cls ≠ "java/lang/invoke/MethodHandle" ∧ yX7_back.cls ≠ "java/lang/invoke/VarHandle" ∧ (parseMethodDescriptor yX7_back.desc).map (fun d => d.parameters.length) = some 0 := by decide +kernel
theorem tbX7_sheet_70 (E : EM p R s m args meth c cX7_sheet 5 (some .int) D cs b H0 XK 1 22 z u) {Q : Int32 → St → Prop} {K70 : Int32 → Int32 → St → Prop} (hK70 : ∀ (x1 : Int32) (x4 : Int32) (f : St), K70 x1 x4 f → AM p l e R s m args below meth c D cs b 5 o Z z u (pI Q) 70 [(0, .ref o), (1, .int x1), (4, .int x4)] [] f) {x1 : Int32} {x4 : Int32} {f : St} (h : wbX7_sheet_70 K70 Q x1 x4 f) : AM p l e R s m args below meth c D cs b 5 o Z z u (pI Q) 70 [(0, .ref o), (1, .int x1), (4, .int x4)] [] f := by
  have E1 := E.1
  refine ag_iload E1 dX7_sheet_70 2 rfl ?_
  refine ag_bipush E1 dX7_sheet_72 kb_40 ?_
  refine ag_icmp_ge E1 (tgt := 96) dX7_sheet_74 (by decide) (fun c_74 => ?_) (fun c_74 => ?_)
  · have h := h.1 c_74
    refine ag_iconst E1 dX7_sheet_96 ki_1 ?_
    exact am_iret E rfl ⟨_, rfl, h⟩ dX7_sheet_97
  · have h := h.2 c_74
    refine ag_aload_n E1 dX7_sheet_77 rfl 0 rfl ?_
    refine am_geta E 38 (i := 24) (by decide) (by decide) rfl q1488 dX7_sheet_78 ?_
    refine ag_bipush E1 dX7_sheet_81 kb_40 ?_
    refine ag_iload_n E1 dX7_sheet_83 rfl 1 rfl ?_
    refine ag_imul E1 dX7_sheet_84 ?_
    refine ag_iload E1 dX7_sheet_85 2 rfl ?_
    refine ag_iadd E1 dX7_sheet_87 ?_
    refine ag_iconst E1 dX7_sheet_88 ki_0 ?_
    obtain ⟨hin, h⟩ := h
    refine am_iast E 38 rfl rfl rfl (by decide) hin dX7_sheet_89 (fun f_7 e_f_7 => ?_)
    have h := h f_7 e_f_7
    refine ag_iincN E1 (lv' := fun x4_8 => [(4, .int x4_8), (0, .ref o), (1, .int x1)]) dX7_sheet_90 2 rfl ki_1 (Nat.lt_of_lt_of_le (Nat.le_refl _) (Nat.le_of_ble_eq_true rfl)) (fun _ => rfl) (fun x4_8 e_x4_8 => ?_)
    have h := h x4_8 e_x4_8
    refine ag_goto E1 (tgt := 70) dX7_sheet_93 (by decide) ?_
    refine ag_sub (lv' := [(0, .ref o), (1, .int x1), (4, .int x4_8)]) [1, 2, 0] rfl ?_
    exact hK70 _ _ _ h
theorem tlX7_sheet_70 (E : EM p R s m args meth c cX7_sheet 5 (some .int) D cs b H0 XK 1 22 z u) {Q : Int32 → St → Prop}  : ∀ (n : Nat) (x1 : Int32) (x4 : Int32) (f : St), wlX7_sheet_70  Q n x1 x4 f → AM p l e R s m args below meth c D cs b 5 o Z z u (pI Q) 70 [(0, .ref o), (1, .int x1), (4, .int x4)] [] f := by
  intro n
  induction n with
  | zero => intro _ _ _ h; exact h.elim
  | succ n ih => intro x1 x4 f h; exact tbX7_sheet_70 E ih h
theorem tbX7_sheet_66 (E : EM p R s m args meth c cX7_sheet 5 (some .int) D cs b H0 XK 1 22 z u) {Q : Int32 → St → Prop}  {x1 : Int32} {t0 : Int32} {t1 : Int32} {f : St} (h : wbX7_sheet_66  Q x1 t0 t1 f) : AM p l e R s m args below meth c D cs b 5 o Z z u (pI Q) 66 [(0, .ref o), (1, .int x1)] [.int t0, .int t1, .ref (o + 23)] f := by
  have E1 := E.1
  obtain ⟨hin, h⟩ := h
  refine am_iast E 37 rfl rfl rfl (by decide) hin dX7_sheet_66 (fun f_6 e_f_6 => ?_)
  have h := h f_6 e_f_6
  refine ag_iconst E1 dX7_sheet_67 ki_0 ?_
  refine ag_istore E1 (lv' := [(4, .int (0 : Int32)), (0, .ref o), (1, .int x1)]) dX7_sheet_68 (Nat.lt_of_lt_of_le (Nat.le_refl _) (Nat.le_of_ble_eq_true rfl)) rfl ?_
  refine ag_sub (lv' := [(0, .ref o), (1, .int x1), (4, .int (0 : Int32))]) [1, 2, 0] rfl ?_
  obtain ⟨n, h⟩ := h
  exact tlX7_sheet_70 E  n _ _ _ h
theorem tbX7_sheet_44 (E : EM p R s m args meth c cX7_sheet 5 (some .int) D cs b H0 XK 1 22 z u) {Q : Int32 → St → Prop}  {x1 : Int32} {x2 : Int32} {x3 : Int32} {f : St} (h : wbX7_sheet_44  Q x1 x2 x3 f) : AM p l e R s m args below meth c D cs b 5 o Z z u (pI Q) 44 [(0, .ref o), (1, .int x1), (2, .int x2), (3, .int x3)] [] f := by
  have E1 := E.1
  refine ag_aload_n E1 dX7_sheet_44 rfl 0 rfl ?_
  refine am_geta E 36 (i := 22) (by decide) (by decide) rfl q1486 dX7_sheet_45 ?_
  refine ag_iload_n E1 dX7_sheet_48 rfl 1 rfl ?_
  refine ag_iload_n E1 dX7_sheet_49 rfl 2 rfl ?_
  obtain ⟨hin, h⟩ := h
  refine am_iast E 36 rfl rfl rfl (by decide) hin dX7_sheet_50 (fun f_5 e_f_5 => ?_)
  have h := h f_5 e_f_5
  refine ag_aload_n E1 dX7_sheet_51 rfl 0 rfl ?_
  refine am_geta E 37 (i := 23) (by decide) (by decide) rfl q1487 dX7_sheet_52 ?_
  refine ag_iload_n E1 dX7_sheet_55 rfl 1 rfl ?_
  refine ag_iload_n E1 dX7_sheet_56 rfl 2 rfl ?_
  refine ag_iconst E1 dX7_sheet_57 ki_m1 ?_
  refine ag_icmp_ne E1 (tgt := 65) dX7_sheet_58 (by decide) (fun c_58 => ?_) (fun c_58 => ?_)
  · have h := h.1 c_58
    refine ag_iload_n E1 dX7_sheet_65 rfl 3 rfl ?_
    refine ag_sub (lv' := [(0, .ref o), (1, .int x1)]) [0, 1] rfl ?_
    exact tbX7_sheet_66 E  h
  · have h := h.2 c_58
    refine ag_iconst E1 dX7_sheet_61 ki_0 ?_
    refine ag_goto E1 (tgt := 66) dX7_sheet_62 (by decide) ?_
    refine ag_sub (lv' := [(0, .ref o), (1, .int x1)]) [0, 1] rfl ?_
    exact tbX7_sheet_66 E  h
theorem tbX7_sheet_32 (E : EM p R s m args meth c cX7_sheet 5 (some .int) D cs b H0 XK 1 22 z u) {Q : Int32 → St → Prop}  {x1 : Int32} {x2 : Int32} {x3 : Int32} {f : St} (h : wbX7_sheet_32  Q x1 x2 x3 f) : AM p l e R s m args below meth c D cs b 5 o Z z u (pI Q) 32 [(0, .ref o), (1, .int x1), (2, .int x2), (3, .int x3)] [] f := by
  have E1 := E.1
  refine ag_iload_n E1 dX7_sheet_32 rfl 2 rfl ?_
  refine ag_iconst E1 dX7_sheet_33 ki_m1 ?_
  refine ag_icmp_eq E1 (tgt := 44) dX7_sheet_34 (by decide) (fun c_34 => ?_) (fun c_34 => ?_)
  · have h := h.1 c_34
    exact tbX7_sheet_44 E  h
  · have h := h.2 c_34
    refine ag_iload_n E1 dX7_sheet_37 rfl 3 rfl ?_
    refine ag_if_ge E1 (tgt := 44) dX7_sheet_38 (by decide) (fun c_38 => ?_) (fun c_38 => ?_)
    · have h := h.1 c_38
      exact tbX7_sheet_44 E  h
    · have h := h.2 c_38
      refine ag_bipush E1 dX7_sheet_41 kb_m14 ?_
      exact am_iret E rfl ⟨_, rfl, h⟩ dX7_sheet_43
theorem kX7_sheet (l : Launch) (D : va_G) (cs : Nat → ClassId) (b : Nat) (H0 : Heap) (XK : State → Prop) (o : Nat) (Z : cP) (z u : Nat) (f : St) (x1 : Int32) (x2 : Int32) (x3 : Int32) (Q : Int32 → St → Prop) (h : wX7_sheet f x1 x2 x3 Q) : CM l D cs b H0 XK o Z z u yX7_sheet cX7_sheet 5 (some .int) 1 22 [.ref o, .int x1, .int x2, .int x3] f (pI Q) := by
  refine cm_of (by decide) rfl (Nat.le_of_ble_eq_true rfl) (fun p e R s m below meth c E => ?_)
  have E1 := E.1
  refine ag_sub (lv' := [(0, .ref o), (1, .int x1), (2, .int x2), (3, .int x3)]) [0, 1, 2, 3] rfl ?_
  refine ag_iload_n E1 dX7_sheet_0 rfl 1 rfl ?_
  refine ag_iconst E1 dX7_sheet_1 ki_0 ?_
  refine ag_iconst E1 dX7_sheet_2 ki_3 ?_
  refine am_callSi E [.int x1, .int (0 : Int32), .int (3 : Int32)] (kX7_in _ _ _ _ _ _ _ _ _ _ _ _ _ _ _ h) (lw_S q1625 q1626 q107 q1627) hdX7_in (Nat.le_of_ble_eq_true rfl) (Nat.le_of_ble_eq_true rfl) rfl (Nat.le_of_ble_eq_true rfl) dX7_sheet_3 rfl (fun r_2 f_1 h => ?_)
  refine ag_if_eq E1 (tgt := 29) dX7_sheet_6 (by decide) (fun c_6 => ?_) (fun c_6 => ?_)
  · have h := h.1 c_6
    refine ag_bipush E1 dX7_sheet_29 kb_m2 ?_
    exact am_iret E rfl ⟨_, rfl, h⟩ dX7_sheet_31
  · have h := h.2 c_6
    refine ag_iload_n E1 dX7_sheet_9 rfl 2 rfl ?_
    refine ag_iconst E1 dX7_sheet_10 ki_m1 ?_
    refine ag_iconst E1 dX7_sheet_11 ki_2 ?_
    refine am_callSi E [.int x2, .int (-1 : Int32), .int (2 : Int32)] (kX7_in _ _ _ _ _ _ _ _ _ _ _ _ _ _ _ h) (lw_S q1625 q1626 q107 q1627) hdX7_in (Nat.le_of_ble_eq_true rfl) (Nat.le_of_ble_eq_true rfl) rfl (Nat.le_of_ble_eq_true rfl) dX7_sheet_12 rfl (fun r_4 f_3 h => ?_)
    refine ag_if_eq E1 (tgt := 29) dX7_sheet_15 (by decide) (fun c_15 => ?_) (fun c_15 => ?_)
    · have h := h.1 c_15
      refine ag_bipush E1 dX7_sheet_29 kb_m2 ?_
      exact am_iret E rfl ⟨_, rfl, h⟩ dX7_sheet_31
    · have h := h.2 c_15
      refine ag_iload_n E1 dX7_sheet_18 rfl 2 rfl ?_
      refine ag_iconst E1 dX7_sheet_19 ki_m1 ?_
      refine ag_icmp_eq E1 (tgt := 32) dX7_sheet_20 (by decide) (fun c_20 => ?_) (fun c_20 => ?_)
      · have h := h.1 c_20
        exact tbX7_sheet_32 E  h
      · have h := h.2 c_20
        refine ag_iload_n E1 dX7_sheet_23 rfl 3 rfl ?_
        refine ag_bipush E1 dX7_sheet_24 kb_40 ?_
        refine ag_icmp_le E1 (tgt := 32) dX7_sheet_26 (by decide) (fun c_26 => ?_) (fun c_26 => ?_)
        · have h := h.1 c_26
          exact tbX7_sheet_32 E  h
        · have h := h.2 c_26
          refine ag_bipush E1 dX7_sheet_29 kb_m2 ?_
          exact am_iret E rfl ⟨_, rfl, h⟩ dX7_sheet_31
theorem hdX7_sheet : yX7_sheet.cls = RX7 ∧ yX7_sheet.cls ≠ "java/lang/invoke/MethodHandle" ∧ yX7_sheet.cls ≠ "java/lang/invoke/VarHandle" ∧ (parseMethodDescriptor yX7_sheet.desc).map (fun d => d.parameters.length) = some 3 := by decide +kernel
theorem kX7_cell (l : Launch) (D : va_G) (cs : Nat → ClassId) (b : Nat) (H0 : Heap) (XK : State → Prop) (o : Nat) (Z : cP) (z u : Nat) (f : St) (x1 : Int32) (x2 : Int32) (x3 : Int32) (Q : Int32 → St → Prop) (h : wX7_cell f x1 x2 x3 Q) : CM l D cs b H0 XK o Z z u yX7_cell cX7_cell 4 (some .int) 1 22 [.ref o, .int x1, .int x2, .int x3] f (pI Q) := by
  refine cm_of (by decide) rfl (Nat.le_of_ble_eq_true rfl) (fun p e R s m below meth c E => ?_)
  have E1 := E.1
  refine ag_sub (lv' := [(0, .ref o), (1, .int x1), (2, .int x2), (3, .int x3)]) [0, 1, 2, 3] rfl ?_
  refine ag_iload_n E1 dX7_cell_0 rfl 1 rfl ?_
  refine ag_iconst E1 dX7_cell_1 ki_0 ?_
  refine ag_iconst E1 dX7_cell_2 ki_3 ?_
  refine am_callSi E [.int x1, .int (0 : Int32), .int (3 : Int32)] (kX7_in _ _ _ _ _ _ _ _ _ _ _ _ _ _ _ h) (lw_S q1625 q1626 q107 q1627) hdX7_in (Nat.le_of_ble_eq_true rfl) (Nat.le_of_ble_eq_true rfl) rfl (Nat.le_of_ble_eq_true rfl) dX7_cell_3 rfl (fun r_2 f_1 h => ?_)
  refine ag_if_ne E1 (tgt := 12) dX7_cell_6 (by decide) (fun c_6 => ?_) (fun c_6 => ?_)
  · have h := h.1 c_6
    refine ag_aload_n E1 dX7_cell_12 rfl 0 rfl ?_
    refine am_geta E 36 (i := 22) (by decide) (by decide) rfl q1486 dX7_cell_13 ?_
    refine ag_iload_n E1 dX7_cell_16 rfl 1 rfl ?_
    obtain ⟨hin, h⟩ := h
    refine am_iald E 36 rfl rfl rfl (by decide) hin dX7_cell_17 ?_
    refine ag_iconst E1 dX7_cell_18 ki_m1 ?_
    refine ag_icmp_ne E1 (tgt := 25) dX7_cell_19 (by decide) (fun c_19 => ?_) (fun c_19 => ?_)
    · have h := h.1 c_19
      refine ag_iload_n E1 dX7_cell_25 rfl 2 rfl ?_
      refine ag_iconst E1 dX7_cell_26 ki_0 ?_
      refine ag_aload_n E1 dX7_cell_27 rfl 0 rfl ?_
      refine am_geta E 37 (i := 23) (by decide) (by decide) rfl q1487 dX7_cell_28 ?_
      refine ag_iload_n E1 dX7_cell_31 rfl 1 rfl ?_
      obtain ⟨hin, h⟩ := h
      refine am_iald E 37 rfl rfl rfl (by decide) hin dX7_cell_32 ?_
      refine ag_iconst E1 dX7_cell_33 ki_1 ?_
      refine ag_isub E1 dX7_cell_34 ?_
      refine am_callSi E [.int x2, .int (0 : Int32), .int ((f_1 37 (Int32.toNatClampNeg x1)) - (1 : Int32))] (kX7_in _ _ _ _ _ _ _ _ _ _ _ _ _ _ _ h) (lw_S q1625 q1626 q107 q1627) hdX7_in (Nat.le_of_ble_eq_true rfl) (Nat.le_of_ble_eq_true rfl) rfl (Nat.le_of_ble_eq_true rfl) dX7_cell_35 rfl (fun r_4 f_3 h => ?_)
      refine ag_if_ne E1 (tgt := 44) dX7_cell_38 (by decide) (fun c_38 => ?_) (fun c_38 => ?_)
      · have h := h.1 c_38
        refine ag_aload_n E1 dX7_cell_44 rfl 0 rfl ?_
        refine am_geta E 38 (i := 24) (by decide) (by decide) rfl q1488 dX7_cell_45 ?_
        refine ag_bipush E1 dX7_cell_48 kb_40 ?_
        refine ag_iload_n E1 dX7_cell_50 rfl 1 rfl ?_
        refine ag_imul E1 dX7_cell_51 ?_
        refine ag_iload_n E1 dX7_cell_52 rfl 2 rfl ?_
        refine ag_iadd E1 dX7_cell_53 ?_
        refine ag_aload_n E1 dX7_cell_54 rfl 0 rfl ?_
        refine am_geta E 36 (i := 22) (by decide) (by decide) rfl q1486 dX7_cell_55 ?_
        refine ag_iload_n E1 dX7_cell_58 rfl 1 rfl ?_
        obtain ⟨hin, h⟩ := h
        refine am_iald E 36 rfl rfl rfl (by decide) hin dX7_cell_59 ?_
        refine ag_if_ne E1 (tgt := 68) dX7_cell_60 (by decide) (fun c_60 => ?_) (fun c_60 => ?_)
        · have h := h.1 c_60
          refine ag_aload_n E1 dX7_cell_68 rfl 0 rfl ?_
          refine am_geta E 36 (i := 22) (by decide) (by decide) rfl q1486 dX7_cell_69 ?_
          refine ag_iload_n E1 dX7_cell_72 rfl 1 rfl ?_
          obtain ⟨hin, h⟩ := h
          refine am_iald E 36 rfl rfl rfl (by decide) hin dX7_cell_73 ?_
          refine ag_iconst E1 dX7_cell_74 ki_1 ?_
          refine ag_icmp_ne E1 (tgt := 83) dX7_cell_75 (by decide) (fun c_75 => ?_) (fun c_75 => ?_)
          · have h := h.1 c_75
            refine ag_iload_n E1 dX7_cell_83 rfl 3 rfl ?_
            obtain ⟨hin, h⟩ := h
            refine am_iast E 38 rfl rfl rfl (by decide) hin dX7_cell_84 (fun f_5 e_f_5 => ?_)
            have h := h f_5 e_f_5
            refine ag_iconst E1 dX7_cell_85 ki_1 ?_
            exact am_iret E rfl ⟨_, rfl, h⟩ dX7_cell_86
          · have h := h.2 c_75
            refine ag_iload_n E1 dX7_cell_78 rfl 3 rfl ?_
            refine ag_i2s E1 dX7_cell_79 ?_
            refine ag_goto E1 (tgt := 84) dX7_cell_80 (by decide) ?_
            obtain ⟨hin, h⟩ := h
            refine am_iast E 38 rfl rfl rfl (by decide) hin dX7_cell_84 (fun f_6 e_f_6 => ?_)
            have h := h f_6 e_f_6
            refine ag_iconst E1 dX7_cell_85 ki_1 ?_
            exact am_iret E rfl ⟨_, rfl, h⟩ dX7_cell_86
        · have h := h.2 c_60
          refine ag_iload_n E1 dX7_cell_63 rfl 3 rfl ?_
          refine ag_i2b E1 dX7_cell_64 ?_
          refine ag_goto E1 (tgt := 84) dX7_cell_65 (by decide) ?_
          obtain ⟨hin, h⟩ := h
          refine am_iast E 38 rfl rfl rfl (by decide) hin dX7_cell_84 (fun f_7 e_f_7 => ?_)
          have h := h f_7 e_f_7
          refine ag_iconst E1 dX7_cell_85 ki_1 ?_
          exact am_iret E rfl ⟨_, rfl, h⟩ dX7_cell_86
      · have h := h.2 c_38
        refine ag_bipush E1 dX7_cell_41 kb_m12 ?_
        exact am_iret E rfl ⟨_, rfl, h⟩ dX7_cell_43
    · have h := h.2 c_19
      refine ag_bipush E1 dX7_cell_22 kb_m11 ?_
      exact am_iret E rfl ⟨_, rfl, h⟩ dX7_cell_24
  · have h := h.2 c_6
    refine ag_bipush E1 dX7_cell_9 kb_m2 ?_
    exact am_iret E rfl ⟨_, rfl, h⟩ dX7_cell_11
theorem hdX7_cell : yX7_cell.cls = RX7 ∧ yX7_cell.cls ≠ "java/lang/invoke/MethodHandle" ∧ yX7_cell.cls ≠ "java/lang/invoke/VarHandle" ∧ (parseMethodDescriptor yX7_cell.desc).map (fun d => d.parameters.length) = some 3 := by decide +kernel
theorem tbX7_copy_173 (E : EM p R s m args meth c cX7_copy 10 (some .int) D cs b H0 XK 1 22 z u) {Q : Int32 → St → Prop} {K147 : Int32 → Int32 → Int32 → Int32 → St → Prop} (hK147 : ∀ (x5 : Int32) (x6 : Int32) (x7 : Int32) (x8 : Int32) (f : St), K147 x5 x6 x7 x8 f → AM p l e R s m args below meth c D cs b 10 o Z z u (pI Q) 147 [(0, .ref o), (5, .int x5), (6, .int x6), (7, .int x7), (8, .int x8)] [] f) {x5 : Int32} {x6 : Int32} {x7 : Int32} {x8 : Int32} {t0 : Int32} {f : St} (h : wbX7_copy_173 K147 Q x5 x6 x7 x8 t0 f) : AM p l e R s m args below meth c D cs b 10 o Z z u (pI Q) 173 [(0, .ref o), (5, .int x5), (6, .int x6), (7, .int x7), (8, .int x8)] [.int t0] f := by
  have E1 := E.1
  refine ag_istore E1 (lv' := [(9, .int t0), (0, .ref o), (5, .int x5), (6, .int x6), (7, .int x7), (8, .int x8)]) dX7_copy_173 (Nat.lt_of_lt_of_le (Nat.le_refl _) (Nat.le_of_ble_eq_true rfl)) rfl ?_
  refine ag_aload_n E1 dX7_copy_175 rfl 1 rfl ?_
  refine am_geta E 38 (i := 24) (by decide) (by decide) rfl q1488 dX7_copy_176 ?_
  refine ag_iload E1 dX7_copy_179 4 rfl ?_
  refine ag_iload E1 dX7_copy_181 0 rfl ?_
  refine ag_iadd E1 dX7_copy_183 ?_
  refine ag_aload_n E1 dX7_copy_184 rfl 1 rfl ?_
  refine am_geta E 38 (i := 24) (by decide) (by decide) rfl q1488 dX7_copy_185 ?_
  refine ag_iload E1 dX7_copy_188 3 rfl ?_
  refine ag_iload E1 dX7_copy_190 0 rfl ?_
  refine ag_iadd E1 dX7_copy_192 ?_
  obtain ⟨hin, h⟩ := h
  refine am_iald E 38 rfl rfl rfl (by decide) hin dX7_copy_193 ?_
  obtain ⟨hin, h⟩ := h
  refine am_iast E 38 rfl rfl rfl (by decide) hin dX7_copy_194 (fun f_7 e_f_7 => ?_)
  have h := h f_7 e_f_7
  refine ag_iincN E1 (lv' := fun x8_8 => [(8, .int x8_8), (9, .int t0), (0, .ref o), (5, .int x5), (6, .int x6), (7, .int x7)]) dX7_copy_195 5 rfl ki_1 (Nat.lt_of_lt_of_le (Nat.le_refl _) (Nat.le_of_ble_eq_true rfl)) (fun _ => rfl) (fun x8_8 e_x8_8 => ?_)
  have h := h x8_8 e_x8_8
  refine ag_goto E1 (tgt := 147) dX7_copy_198 (by decide) ?_
  refine ag_sub (lv' := [(0, .ref o), (5, .int x5), (6, .int x6), (7, .int x7), (8, .int x8_8)]) [2, 3, 4, 5, 0] rfl ?_
  exact hK147 _ _ _ _ _ h
theorem tbX7_copy_147 (E : EM p R s m args meth c cX7_copy 10 (some .int) D cs b H0 XK 1 22 z u) {Q : Int32 → St → Prop} {K147 : Int32 → Int32 → Int32 → Int32 → St → Prop} (hK147 : ∀ (x5 : Int32) (x6 : Int32) (x7 : Int32) (x8 : Int32) (f : St), K147 x5 x6 x7 x8 f → AM p l e R s m args below meth c D cs b 10 o Z z u (pI Q) 147 [(0, .ref o), (5, .int x5), (6, .int x6), (7, .int x7), (8, .int x8)] [] f) {x5 : Int32} {x6 : Int32} {x7 : Int32} {x8 : Int32} {f : St} (h : wbX7_copy_147 K147 Q x5 x6 x7 x8 f) : AM p l e R s m args below meth c D cs b 10 o Z z u (pI Q) 147 [(0, .ref o), (5, .int x5), (6, .int x6), (7, .int x7), (8, .int x8)] [] f := by
  have E1 := E.1
  refine ag_iload E1 dX7_copy_147 4 rfl ?_
  refine ag_iload E1 dX7_copy_149 1 rfl ?_
  refine ag_icmp_ge E1 (tgt := 201) dX7_copy_151 (by decide) (fun c_151 => ?_) (fun c_151 => ?_)
  · have h := h.1 c_151
    refine ag_iload E1 dX7_copy_201 1 rfl ?_
    exact am_iret E rfl ⟨_, rfl, h⟩ dX7_copy_203
  · have h := h.2 c_151
    refine ag_iload E1 dX7_copy_154 2 rfl ?_
    refine ag_iload E1 dX7_copy_156 3 rfl ?_
    refine ag_icmp_ge E1 (tgt := 171) dX7_copy_158 (by decide) (fun c_158 => ?_) (fun c_158 => ?_)
    · have h := h.1 c_158
      refine ag_iload E1 dX7_copy_171 4 rfl ?_
      exact tbX7_copy_173 E hK147 h
    · have h := h.2 c_158
      refine ag_iload E1 dX7_copy_161 1 rfl ?_
      refine ag_iconst E1 dX7_copy_163 ki_1 ?_
      refine ag_isub E1 dX7_copy_164 ?_
      refine ag_iload E1 dX7_copy_165 4 rfl ?_
      refine ag_isub E1 dX7_copy_167 ?_
      refine ag_goto E1 (tgt := 173) dX7_copy_168 (by decide) ?_
      exact tbX7_copy_173 E hK147 h
theorem tlX7_copy_147 (E : EM p R s m args meth c cX7_copy 10 (some .int) D cs b H0 XK 1 22 z u) {Q : Int32 → St → Prop}  : ∀ (n : Nat) (x5 : Int32) (x6 : Int32) (x7 : Int32) (x8 : Int32) (f : St), wlX7_copy_147  Q n x5 x6 x7 x8 f → AM p l e R s m args below meth c D cs b 10 o Z z u (pI Q) 147 [(0, .ref o), (5, .int x5), (6, .int x6), (7, .int x7), (8, .int x8)] [] f := by
  intro n
  induction n with
  | zero => intro _ _ _ _ _ h; exact h.elim
  | succ n ih => intro x5 x6 x7 x8 f h; exact tbX7_copy_147 E ih h
theorem kX7_copy (l : Launch) (D : va_G) (cs : Nat → ClassId) (b : Nat) (H0 : Heap) (XK : State → Prop) (o : Nat) (Z : cP) (z u : Nat) (f : St) (x1 : Int32) (x2 : Int32) (x3 : Int32) (x4 : Int32) (x5 : Int32) (Q : Int32 → St → Prop) (h : wX7_copy f x1 x2 x3 x4 x5 Q) : CM l D cs b H0 XK o Z z u yX7_copy cX7_copy 10 (some .int) 1 22 [.ref o, .int x1, .int x2, .int x3, .int x4, .int x5] f (pI Q) := by
  refine cm_of (by decide) rfl (Nat.le_of_ble_eq_true rfl) (fun p e R s m below meth c E => ?_)
  have E1 := E.1
  refine ag_sub (lv' := [(0, .ref o), (1, .int x1), (2, .int x2), (3, .int x3), (4, .int x4), (5, .int x5)]) [0, 1, 2, 3, 4, 5] rfl ?_
  refine ag_iload_n E1 dX7_copy_0 rfl 1 rfl ?_
  refine ag_iconst E1 dX7_copy_1 ki_0 ?_
  refine ag_iconst E1 dX7_copy_2 ki_3 ?_
  refine am_callSi E [.int x1, .int (0 : Int32), .int (3 : Int32)] (kX7_in _ _ _ _ _ _ _ _ _ _ _ _ _ _ _ h) (lw_S q1625 q1626 q107 q1627) hdX7_in (Nat.le_of_ble_eq_true rfl) (Nat.le_of_ble_eq_true rfl) rfl (Nat.le_of_ble_eq_true rfl) dX7_copy_3 rfl (fun r_2 f_1 h => ?_)
  refine ag_if_eq E1 (tgt := 18) dX7_copy_6 (by decide) (fun c_6 => ?_) (fun c_6 => ?_)
  · have h := h.1 c_6
    refine ag_bipush E1 dX7_copy_18 kb_m2 ?_
    exact am_iret E rfl ⟨_, rfl, h⟩ dX7_copy_20
  · have h := h.2 c_6
    refine ag_iload_n E1 dX7_copy_9 rfl 3 rfl ?_
    refine ag_iconst E1 dX7_copy_10 ki_0 ?_
    refine ag_iconst E1 dX7_copy_11 ki_3 ?_
    refine am_callSi E [.int x3, .int (0 : Int32), .int (3 : Int32)] (kX7_in _ _ _ _ _ _ _ _ _ _ _ _ _ _ _ h) (lw_S q1625 q1626 q107 q1627) hdX7_in (Nat.le_of_ble_eq_true rfl) (Nat.le_of_ble_eq_true rfl) rfl (Nat.le_of_ble_eq_true rfl) dX7_copy_12 rfl (fun r_4 f_3 h => ?_)
    refine ag_if_ne E1 (tgt := 21) dX7_copy_15 (by decide) (fun c_15 => ?_) (fun c_15 => ?_)
    · have h := h.1 c_15
      refine ag_aload_n E1 dX7_copy_21 rfl 0 rfl ?_
      refine am_geta E 36 (i := 22) (by decide) (by decide) rfl q1486 dX7_copy_22 ?_
      refine ag_iload_n E1 dX7_copy_25 rfl 1 rfl ?_
      obtain ⟨hin, h⟩ := h
      refine am_iald E 36 rfl rfl rfl (by decide) hin dX7_copy_26 ?_
      refine ag_iconst E1 dX7_copy_27 ki_m1 ?_
      refine ag_icmp_eq E1 (tgt := 41) dX7_copy_28 (by decide) (fun c_28 => ?_) (fun c_28 => ?_)
      · have h := h.1 c_28
        refine ag_bipush E1 dX7_copy_41 kb_m11 ?_
        exact am_iret E rfl ⟨_, rfl, h⟩ dX7_copy_43
      · have h := h.2 c_28
        refine ag_aload_n E1 dX7_copy_31 rfl 0 rfl ?_
        refine am_geta E 36 (i := 22) (by decide) (by decide) rfl q1486 dX7_copy_32 ?_
        refine ag_iload_n E1 dX7_copy_35 rfl 3 rfl ?_
        obtain ⟨hin, h⟩ := h
        refine am_iald E 36 rfl rfl rfl (by decide) hin dX7_copy_36 ?_
        refine ag_iconst E1 dX7_copy_37 ki_m1 ?_
        refine ag_icmp_ne E1 (tgt := 44) dX7_copy_38 (by decide) (fun c_38 => ?_) (fun c_38 => ?_)
        · have h := h.1 c_38
          refine ag_aload_n E1 dX7_copy_44 rfl 0 rfl ?_
          refine am_geta E 36 (i := 22) (by decide) (by decide) rfl q1486 dX7_copy_45 ?_
          refine ag_iload_n E1 dX7_copy_48 rfl 1 rfl ?_
          obtain ⟨hin, h⟩ := h
          refine am_iald E 36 rfl rfl rfl (by decide) hin dX7_copy_49 ?_
          refine ag_aload_n E1 dX7_copy_50 rfl 0 rfl ?_
          refine am_geta E 36 (i := 22) (by decide) (by decide) rfl q1486 dX7_copy_51 ?_
          refine ag_iload_n E1 dX7_copy_54 rfl 3 rfl ?_
          obtain ⟨hin, h⟩ := h
          refine am_iald E 36 rfl rfl rfl (by decide) hin dX7_copy_55 ?_
          refine ag_icmp_eq E1 (tgt := 62) dX7_copy_56 (by decide) (fun c_56 => ?_) (fun c_56 => ?_)
          · have h := h.1 c_56
            refine ag_iload E1 dX7_copy_62 5 rfl ?_
            refine ag_if_lt E1 (tgt := 124) dX7_copy_64 (by decide) (fun c_64 => ?_) (fun c_64 => ?_)
            · have h := h.1 c_64
              refine ag_bipush E1 dX7_copy_124 kb_m12 ?_
              exact am_iret E rfl ⟨_, rfl, h⟩ dX7_copy_126
            · have h := h.2 c_64
              refine ag_iload_n E1 dX7_copy_67 rfl 2 rfl ?_
              refine ag_if_lt E1 (tgt := 124) dX7_copy_68 (by decide) (fun c_68 => ?_) (fun c_68 => ?_)
              · have h := h.1 c_68
                refine ag_bipush E1 dX7_copy_124 kb_m12 ?_
                exact am_iret E rfl ⟨_, rfl, h⟩ dX7_copy_126
              · have h := h.2 c_68
                refine ag_iload E1 dX7_copy_71 4 rfl ?_
                refine ag_if_lt E1 (tgt := 124) dX7_copy_73 (by decide) (fun c_73 => ?_) (fun c_73 => ?_)
                · have h := h.1 c_73
                  refine ag_bipush E1 dX7_copy_124 kb_m12 ?_
                  exact am_iret E rfl ⟨_, rfl, h⟩ dX7_copy_126
                · have h := h.2 c_73
                  refine ag_iload_n E1 dX7_copy_76 rfl 2 rfl ?_
                  refine ag_aload_n E1 dX7_copy_77 rfl 0 rfl ?_
                  refine am_geta E 37 (i := 23) (by decide) (by decide) rfl q1487 dX7_copy_78 ?_
                  refine ag_iload_n E1 dX7_copy_81 rfl 1 rfl ?_
                  obtain ⟨hin, h⟩ := h
                  refine am_iald E 37 rfl rfl rfl (by decide) hin dX7_copy_82 ?_
                  refine ag_icmp_gt E1 (tgt := 124) dX7_copy_83 (by decide) (fun c_83 => ?_) (fun c_83 => ?_)
                  · have h := h.1 c_83
                    refine ag_bipush E1 dX7_copy_124 kb_m12 ?_
                    exact am_iret E rfl ⟨_, rfl, h⟩ dX7_copy_126
                  · have h := h.2 c_83
                    refine ag_iload E1 dX7_copy_86 4 rfl ?_
                    refine ag_aload_n E1 dX7_copy_88 rfl 0 rfl ?_
                    refine am_geta E 37 (i := 23) (by decide) (by decide) rfl q1487 dX7_copy_89 ?_
                    refine ag_iload_n E1 dX7_copy_92 rfl 3 rfl ?_
                    obtain ⟨hin, h⟩ := h
                    refine am_iald E 37 rfl rfl rfl (by decide) hin dX7_copy_93 ?_
                    refine ag_icmp_gt E1 (tgt := 124) dX7_copy_94 (by decide) (fun c_94 => ?_) (fun c_94 => ?_)
                    · have h := h.1 c_94
                      refine ag_bipush E1 dX7_copy_124 kb_m12 ?_
                      exact am_iret E rfl ⟨_, rfl, h⟩ dX7_copy_126
                    · have h := h.2 c_94
                      refine ag_iload E1 dX7_copy_97 5 rfl ?_
                      refine ag_aload_n E1 dX7_copy_99 rfl 0 rfl ?_
                      refine am_geta E 37 (i := 23) (by decide) (by decide) rfl q1487 dX7_copy_100 ?_
                      refine ag_iload_n E1 dX7_copy_103 rfl 1 rfl ?_
                      obtain ⟨hin, h⟩ := h
                      refine am_iald E 37 rfl rfl rfl (by decide) hin dX7_copy_104 ?_
                      refine ag_iload_n E1 dX7_copy_105 rfl 2 rfl ?_
                      refine ag_isub E1 dX7_copy_106 ?_
                      refine ag_icmp_gt E1 (tgt := 124) dX7_copy_107 (by decide) (fun c_107 => ?_) (fun c_107 => ?_)
                      · have h := h.1 c_107
                        refine ag_bipush E1 dX7_copy_124 kb_m12 ?_
                        exact am_iret E rfl ⟨_, rfl, h⟩ dX7_copy_126
                      · have h := h.2 c_107
                        refine ag_iload E1 dX7_copy_110 5 rfl ?_
                        refine ag_aload_n E1 dX7_copy_112 rfl 0 rfl ?_
                        refine am_geta E 37 (i := 23) (by decide) (by decide) rfl q1487 dX7_copy_113 ?_
                        refine ag_iload_n E1 dX7_copy_116 rfl 3 rfl ?_
                        obtain ⟨hin, h⟩ := h
                        refine am_iald E 37 rfl rfl rfl (by decide) hin dX7_copy_117 ?_
                        refine ag_iload E1 dX7_copy_118 4 rfl ?_
                        refine ag_isub E1 dX7_copy_120 ?_
                        refine ag_icmp_le E1 (tgt := 127) dX7_copy_121 (by decide) (fun c_121 => ?_) (fun c_121 => ?_)
                        · have h := h.1 c_121
                          refine ag_bipush E1 dX7_copy_127 kb_40 ?_
                          refine ag_iload_n E1 dX7_copy_129 rfl 1 rfl ?_
                          refine ag_imul E1 dX7_copy_130 ?_
                          refine ag_iload_n E1 dX7_copy_131 rfl 2 rfl ?_
                          refine ag_iadd E1 dX7_copy_132 ?_
                          refine ag_topi (fun x6_5 e_x6_5 => ?_)
                          have h := h x6_5 e_x6_5
                          refine ag_istore E1 (lv' := [(6, .int x6_5), (0, .ref o), (1, .int x1), (2, .int x2), (3, .int x3), (4, .int x4), (5, .int x5)]) dX7_copy_133 (Nat.lt_of_lt_of_le (Nat.le_refl _) (Nat.le_of_ble_eq_true rfl)) rfl ?_
                          refine ag_bipush E1 dX7_copy_135 kb_40 ?_
                          refine ag_iload_n E1 dX7_copy_137 rfl 4 rfl ?_
                          refine ag_imul E1 dX7_copy_138 ?_
                          refine ag_iload E1 dX7_copy_139 5 rfl ?_
                          refine ag_iadd E1 dX7_copy_141 ?_
                          refine ag_topi (fun x7_6 e_x7_6 => ?_)
                          have h := h x7_6 e_x7_6
                          refine ag_istore E1 (lv' := [(7, .int x7_6), (6, .int x6_5), (0, .ref o), (1, .int x1), (2, .int x2), (3, .int x3), (4, .int x4), (5, .int x5)]) dX7_copy_142 (Nat.lt_of_lt_of_le (Nat.le_refl _) (Nat.le_of_ble_eq_true rfl)) rfl ?_
                          refine ag_iconst E1 dX7_copy_144 ki_0 ?_
                          refine ag_istore E1 (lv' := [(8, .int (0 : Int32)), (7, .int x7_6), (6, .int x6_5), (0, .ref o), (1, .int x1), (2, .int x2), (3, .int x3), (4, .int x4), (5, .int x5)]) dX7_copy_145 (Nat.lt_of_lt_of_le (Nat.le_refl _) (Nat.le_of_ble_eq_true rfl)) rfl ?_
                          refine ag_sub (lv' := [(0, .ref o), (5, .int x5), (6, .int x6_5), (7, .int x7_6), (8, .int (0 : Int32))]) [3, 8, 2, 1, 0] rfl ?_
                          obtain ⟨n, h⟩ := h
                          exact tlX7_copy_147 E  n _ _ _ _ _ h
                        · have h := h.2 c_121
                          refine ag_bipush E1 dX7_copy_124 kb_m12 ?_
                          exact am_iret E rfl ⟨_, rfl, h⟩ dX7_copy_126
          · have h := h.2 c_56
            refine ag_bipush E1 dX7_copy_59 kb_m13 ?_
            exact am_iret E rfl ⟨_, rfl, h⟩ dX7_copy_61
        · have h := h.2 c_38
          refine ag_bipush E1 dX7_copy_41 kb_m11 ?_
          exact am_iret E rfl ⟨_, rfl, h⟩ dX7_copy_43
    · have h := h.2 c_15
      refine ag_bipush E1 dX7_copy_18 kb_m2 ?_
      exact am_iret E rfl ⟨_, rfl, h⟩ dX7_copy_20
theorem hdX7_copy : yX7_copy.cls = RX7 ∧ yX7_copy.cls ≠ "java/lang/invoke/MethodHandle" ∧ yX7_copy.cls ≠ "java/lang/invoke/VarHandle" ∧ (parseMethodDescriptor yX7_copy.desc).map (fun d => d.parameters.length) = some 5 := by decide +kernel
theorem tbX7_roads_153 (E : EM p R s m args meth c cX7_roads 9 (some .int) D cs b H0 XK 3 67 z u) {Q : Int32 → St → Prop} {K64 : Int32 → Int32 → Int32 → Int32 → Int32 → St → Prop} (hK64 : ∀ (x1 : Int32) (x3 : Int32) (x4 : Int32) (x5 : Int32) (x6 : Int32) (f : St), K64 x1 x3 x4 x5 x6 f → AM p l e R s m args below meth c D cs b 9 o Z z u (pI Q) 64 [(0, .ref o), (1, .int x1), (3, .int x3), (4, .int x4), (5, .int x5), (6, .int x6)] [] f) {x1 : Int32} {x3 : Int32} {x4 : Int32} {x6 : Int32} {t0 : Int32} {t1 : Int32} {f : St} (h : wbX7_roads_153 K64 Q x1 x3 x4 x6 t0 t1 f) : AM p l e R s m args below meth c D cs b 9 o Z z u (pI Q) 153 [(0, .ref o), (1, .int x1), (3, .int x3), (4, .int x4), (6, .int x6)] [.int t0, .int t1] f := by
  have E1 := E.1
  refine ag_iadd E1 dX7_roads_153 ?_
  refine ag_topi (fun x5_11 e_x5_11 => ?_)
  have h := h x5_11 e_x5_11
  refine ag_istore E1 (lv' := [(5, .int x5_11), (0, .ref o), (1, .int x1), (3, .int x3), (4, .int x4), (6, .int x6)]) dX7_roads_154 (Nat.lt_of_lt_of_le (Nat.le_refl _) (Nat.le_of_ble_eq_true rfl)) rfl ?_
  refine ag_iincN E1 (lv' := fun x6_12 => [(6, .int x6_12), (5, .int x5_11), (0, .ref o), (1, .int x1), (3, .int x3), (4, .int x4)]) dX7_roads_156 5 rfl ki_1 (Nat.lt_of_lt_of_le (Nat.le_refl _) (Nat.le_of_ble_eq_true rfl)) (fun _ => rfl) (fun x6_12 e_x6_12 => ?_)
  have h := h x6_12 e_x6_12
  refine ag_goto E1 (tgt := 64) dX7_roads_159 (by decide) ?_
  refine ag_sub (lv' := [(0, .ref o), (1, .int x1), (3, .int x3), (4, .int x4), (5, .int x5_11), (6, .int x6_12)]) [2, 3, 4, 5, 1, 0] rfl ?_
  exact hK64 _ _ _ _ _ _ h
theorem tbX7_roads_64 (E : EM p R s m args meth c cX7_roads 9 (some .int) D cs b H0 XK 3 67 z u) {Q : Int32 → St → Prop} {K64 : Int32 → Int32 → Int32 → Int32 → Int32 → St → Prop} (hK64 : ∀ (x1 : Int32) (x3 : Int32) (x4 : Int32) (x5 : Int32) (x6 : Int32) (f : St), K64 x1 x3 x4 x5 x6 f → AM p l e R s m args below meth c D cs b 9 o Z z u (pI Q) 64 [(0, .ref o), (1, .int x1), (3, .int x3), (4, .int x4), (5, .int x5), (6, .int x6)] [] f) {x1 : Int32} {x3 : Int32} {x4 : Int32} {x5 : Int32} {x6 : Int32} {f : St} (h : wbX7_roads_64 K64 Q x1 x3 x4 x5 x6 f) : AM p l e R s m args below meth c D cs b 9 o Z z u (pI Q) 64 [(0, .ref o), (1, .int x1), (3, .int x3), (4, .int x4), (5, .int x5), (6, .int x6)] [] f := by
  have E1 := E.1
  refine ag_iload E1 dX7_roads_64 5 rfl ?_
  refine ag_iload E1 dX7_roads_66 3 rfl ?_
  refine ag_icmp_ge E1 (tgt := 162) dX7_roads_68 (by decide) (fun c_68 => ?_) (fun c_68 => ?_)
  · have h := h.1 c_68
    refine ag_iload E1 dX7_roads_162 4 rfl ?_
    exact am_iret E rfl ⟨_, rfl, h⟩ dX7_roads_164
  · have h := h.2 c_68
    refine ag_iload_n E1 dX7_roads_71 rfl 2 rfl ?_
    refine ag_iconst E1 dX7_roads_72 ki_3 ?_
    refine ag_iload E1 dX7_roads_73 5 rfl ?_
    refine ag_imul E1 dX7_roads_75 ?_
    refine ag_iadd E1 dX7_roads_76 ?_
    refine ag_topi (fun x7_7 e_x7_7 => ?_)
    have h := h x7_7 e_x7_7
    refine ag_istore E1 (lv' := [(7, .int x7_7), (0, .ref o), (1, .int x1), (3, .int x3), (4, .int x4), (5, .int x5), (6, .int x6)]) dX7_roads_77 (Nat.lt_of_lt_of_le (Nat.le_refl _) (Nat.le_of_ble_eq_true rfl)) rfl ?_
    refine ag_iload_n E1 dX7_roads_79 rfl 3 rfl ?_
    refine ag_if_lt E1 (tgt := 102) dX7_roads_80 (by decide) (fun c_80 => ?_) (fun c_80 => ?_)
    · have h := h.1 c_80
      refine ag_bipush E1 dX7_roads_102 kb_m12 ?_
      exact am_iret E rfl ⟨_, rfl, h⟩ dX7_roads_104
    · have h := h.2 c_80
      refine ag_iload E1 dX7_roads_83 0 rfl ?_
      refine ag_iload_n E1 dX7_roads_85 rfl 3 rfl ?_
      refine ag_icmp_lt E1 (tgt := 102) dX7_roads_86 (by decide) (fun c_86 => ?_) (fun c_86 => ?_)
      · have h := h.1 c_86
        refine ag_bipush E1 dX7_roads_102 kb_m12 ?_
        exact am_iret E rfl ⟨_, rfl, h⟩ dX7_roads_104
      · have h := h.2 c_86
        refine ag_iload E1 dX7_roads_89 0 rfl ?_
        refine ag_aload_n E1 dX7_roads_91 rfl 1 rfl ?_
        refine am_geta E 37 (i := 23) (by decide) (by decide) rfl q1487 dX7_roads_92 ?_
        refine ag_iload_n E1 dX7_roads_95 rfl 2 rfl ?_
        obtain ⟨hin, h⟩ := h
        refine am_iald E 37 rfl rfl rfl (by decide) hin dX7_roads_96 ?_
        refine ag_iconst E1 dX7_roads_97 ki_3 ?_
        refine ag_isub E1 dX7_roads_98 ?_
        refine ag_icmp_le E1 (tgt := 105) dX7_roads_99 (by decide) (fun c_99 => ?_) (fun c_99 => ?_)
        · have h := h.1 c_99
          refine ag_bipush E1 dX7_roads_105 kb_40 ?_
          refine ag_iload_n E1 dX7_roads_107 rfl 2 rfl ?_
          refine ag_imul E1 dX7_roads_108 ?_
          refine ag_iload E1 dX7_roads_109 0 rfl ?_
          refine ag_iadd E1 dX7_roads_111 ?_
          refine ag_topi (fun x8_8 e_x8_8 => ?_)
          have h := h x8_8 e_x8_8
          refine ag_istore E1 (lv' := [(8, .int x8_8), (7, .int x7_7), (0, .ref o), (1, .int x1), (3, .int x3), (4, .int x4), (5, .int x5), (6, .int x6)]) dX7_roads_112 (Nat.lt_of_lt_of_le (Nat.le_refl _) (Nat.le_of_ble_eq_true rfl)) rfl ?_
          refine ag_iload E1 dX7_roads_114 6 rfl ?_
          refine ag_aload_n E1 dX7_roads_116 rfl 2 rfl ?_
          refine ag_aload_n E1 dX7_roads_117 rfl 2 rfl ?_
          refine am_geta E 38 (i := 24) (by decide) (by decide) rfl q1488 dX7_roads_118 ?_
          refine ag_iload E1 dX7_roads_121 0 rfl ?_
          obtain ⟨hin, h⟩ := h
          refine am_iald E 38 rfl rfl rfl (by decide) hin dX7_roads_123 ?_
          refine ag_aload_n E1 dX7_roads_124 rfl 2 rfl ?_
          refine am_geta E 38 (i := 24) (by decide) (by decide) rfl q1488 dX7_roads_125 ?_
          refine ag_iload E1 dX7_roads_128 0 rfl ?_
          refine ag_iconst E1 dX7_roads_130 ki_1 ?_
          refine ag_iadd E1 dX7_roads_131 ?_
          obtain ⟨hin, h⟩ := h
          refine am_iald E 38 rfl rfl rfl (by decide) hin dX7_roads_132 ?_
          refine ag_aload_n E1 dX7_roads_133 rfl 2 rfl ?_
          refine am_geta E 38 (i := 24) (by decide) (by decide) rfl q1488 dX7_roads_134 ?_
          refine ag_iload E1 dX7_roads_137 0 rfl ?_
          refine ag_iconst E1 dX7_roads_139 ki_2 ?_
          refine ag_iadd E1 dX7_roads_140 ?_
          obtain ⟨hin, h⟩ := h
          refine am_iald E 38 rfl rfl rfl (by decide) hin dX7_roads_141 ?_
          refine am_callVi E [.int (f 38 (Int32.toNatClampNeg x8_8)), .int (f 38 (Int32.toNatClampNeg (x8_8 + (1 : Int32)))), .int (f 38 (Int32.toNatClampNeg (x8_8 + (2 : Int32))))] (kX7_road _ _ _ _ _ _ _ _ _ _ _ _ _ _ _ h) (lw_V q1927 q1629 q1630 q107 q1631) hdX7_road (Nat.le_of_ble_eq_true rfl) (Nat.le_of_ble_eq_true rfl) rfl (Nat.le_of_ble_eq_true rfl) dX7_roads_142 rfl (fun r_10 f_9 h => ?_)
          refine ag_if_lt E1 (tgt := 152) dX7_roads_145 (by decide) (fun c_145 => ?_) (fun c_145 => ?_)
          · have h := h.1 c_145
            refine ag_iconst E1 dX7_roads_152 ki_0 ?_
            refine ag_sub (lv' := [(0, .ref o), (1, .int x1), (3, .int x3), (4, .int x4), (6, .int x6)]) [2, 3, 4, 5, 7] rfl ?_
            exact tbX7_roads_153 E hK64 h
          · have h := h.2 c_145
            refine ag_iconst E1 dX7_roads_148 ki_1 ?_
            refine ag_goto E1 (tgt := 153) dX7_roads_149 (by decide) ?_
            refine ag_sub (lv' := [(0, .ref o), (1, .int x1), (3, .int x3), (4, .int x4), (6, .int x6)]) [2, 3, 4, 5, 7] rfl ?_
            exact tbX7_roads_153 E hK64 h
        · have h := h.2 c_99
          refine ag_bipush E1 dX7_roads_102 kb_m12 ?_
          exact am_iret E rfl ⟨_, rfl, h⟩ dX7_roads_104
theorem tlX7_roads_64 (E : EM p R s m args meth c cX7_roads 9 (some .int) D cs b H0 XK 3 67 z u) {Q : Int32 → St → Prop}  : ∀ (n : Nat) (x1 : Int32) (x3 : Int32) (x4 : Int32) (x5 : Int32) (x6 : Int32) (f : St), wlX7_roads_64  Q n x1 x3 x4 x5 x6 f → AM p l e R s m args below meth c D cs b 9 o Z z u (pI Q) 64 [(0, .ref o), (1, .int x1), (3, .int x3), (4, .int x4), (5, .int x5), (6, .int x6)] [] f := by
  intro n
  induction n with
  | zero => intro _ _ _ _ _ _ h; exact h.elim
  | succ n ih => intro x1 x3 x4 x5 x6 f h; exact tbX7_roads_64 E ih h
theorem kX7_roads (l : Launch) (D : va_G) (cs : Nat → ClassId) (b : Nat) (H0 : Heap) (XK : State → Prop) (o : Nat) (Z : cP) (z u : Nat) (f : St) (x1 : Int32) (x2 : Int32) (x3 : Int32) (x4 : Int32) (Q : Int32 → St → Prop) (h : wX7_roads f x1 x2 x3 x4 Q) : CM l D cs b H0 XK o Z z u yX7_roads cX7_roads 9 (some .int) 3 67 [.ref o, .int x1, .int x2, .int x3, .int x4] f (pI Q) := by
  refine cm_of (by decide) rfl (Nat.le_of_ble_eq_true rfl) (fun p e R s m below meth c E => ?_)
  have E1 := E.1
  refine ag_sub (lv' := [(0, .ref o), (1, .int x1), (2, .int x2), (3, .int x3), (4, .int x4)]) [0, 1, 2, 3, 4] rfl ?_
  refine ag_iload_n E1 dX7_roads_0 rfl 1 rfl ?_
  refine ag_iconst E1 dX7_roads_1 ki_0 ?_
  refine ag_iconst E1 dX7_roads_2 ki_3 ?_
  refine am_callSi E [.int x1, .int (0 : Int32), .int (3 : Int32)] (kX7_in _ _ _ _ _ _ _ _ _ _ _ _ _ _ _ h) (lw_S q1625 q1626 q107 q1627) hdX7_in (Nat.le_of_ble_eq_true rfl) (Nat.le_of_ble_eq_true rfl) rfl (Nat.le_of_ble_eq_true rfl) dX7_roads_3 rfl (fun r_2 f_1 h => ?_)
  refine ag_if_eq E1 (tgt := 29) dX7_roads_6 (by decide) (fun c_6 => ?_) (fun c_6 => ?_)
  · have h := h.1 c_6
    refine ag_bipush E1 dX7_roads_29 kb_m2 ?_
    exact am_iret E rfl ⟨_, rfl, h⟩ dX7_roads_31
  · have h := h.2 c_6
    refine ag_iload_n E1 dX7_roads_9 rfl 2 rfl ?_
    refine ag_iconst E1 dX7_roads_10 ki_0 ?_
    refine ag_iconst E1 dX7_roads_11 ki_2 ?_
    refine am_callSi E [.int x2, .int (0 : Int32), .int (2 : Int32)] (kX7_in _ _ _ _ _ _ _ _ _ _ _ _ _ _ _ h) (lw_S q1625 q1626 q107 q1627) hdX7_in (Nat.le_of_ble_eq_true rfl) (Nat.le_of_ble_eq_true rfl) rfl (Nat.le_of_ble_eq_true rfl) dX7_roads_12 rfl (fun r_4 f_3 h => ?_)
    refine ag_if_eq E1 (tgt := 29) dX7_roads_15 (by decide) (fun c_15 => ?_) (fun c_15 => ?_)
    · have h := h.1 c_15
      refine ag_bipush E1 dX7_roads_29 kb_m2 ?_
      exact am_iret E rfl ⟨_, rfl, h⟩ dX7_roads_31
    · have h := h.2 c_15
      refine ag_iload E1 dX7_roads_18 4 rfl ?_
      refine ag_iconst E1 dX7_roads_20 ki_0 ?_
      refine ag_bipush E1 dX7_roads_21 kb_13 ?_
      refine am_callSi E [.int x4, .int (0 : Int32), .int (13 : Int32)] (kX7_in _ _ _ _ _ _ _ _ _ _ _ _ _ _ _ h) (lw_S q1625 q1626 q107 q1627) hdX7_in (Nat.le_of_ble_eq_true rfl) (Nat.le_of_ble_eq_true rfl) rfl (Nat.le_of_ble_eq_true rfl) dX7_roads_23 rfl (fun r_6 f_5 h => ?_)
      refine ag_if_ne E1 (tgt := 32) dX7_roads_26 (by decide) (fun c_26 => ?_) (fun c_26 => ?_)
      · have h := h.1 c_26
        refine ag_aload_n E1 dX7_roads_32 rfl 0 rfl ?_
        refine am_geta E 36 (i := 22) (by decide) (by decide) rfl q1486 dX7_roads_33 ?_
        refine ag_iload_n E1 dX7_roads_36 rfl 1 rfl ?_
        obtain ⟨hin, h⟩ := h
        refine am_iald E 36 rfl rfl rfl (by decide) hin dX7_roads_37 ?_
        refine ag_iconst E1 dX7_roads_38 ki_m1 ?_
        refine ag_icmp_ne E1 (tgt := 45) dX7_roads_39 (by decide) (fun c_39 => ?_) (fun c_39 => ?_)
        · have h := h.1 c_39
          refine ag_aload_n E1 dX7_roads_45 rfl 0 rfl ?_
          refine am_geta E 36 (i := 22) (by decide) (by decide) rfl q1486 dX7_roads_46 ?_
          refine ag_iload_n E1 dX7_roads_49 rfl 1 rfl ?_
          obtain ⟨hin, h⟩ := h
          refine am_iald E 36 rfl rfl rfl (by decide) hin dX7_roads_50 ?_
          refine ag_iload_n E1 dX7_roads_51 rfl 2 rfl ?_
          refine ag_icmp_eq E1 (tgt := 58) dX7_roads_52 (by decide) (fun c_52 => ?_) (fun c_52 => ?_)
          · have h := h.1 c_52
            refine ag_iconst E1 dX7_roads_58 ki_0 ?_
            refine ag_istore E1 (lv' := [(5, .int (0 : Int32)), (0, .ref o), (1, .int x1), (2, .int x2), (3, .int x3), (4, .int x4)]) dX7_roads_59 (Nat.lt_of_lt_of_le (Nat.le_refl _) (Nat.le_of_ble_eq_true rfl)) rfl ?_
            refine ag_iconst E1 dX7_roads_61 ki_0 ?_
            refine ag_istore E1 (lv' := [(6, .int (0 : Int32)), (5, .int (0 : Int32)), (0, .ref o), (1, .int x1), (2, .int x2), (3, .int x3), (4, .int x4)]) dX7_roads_62 (Nat.lt_of_lt_of_le (Nat.le_refl _) (Nat.le_of_ble_eq_true rfl)) rfl ?_
            refine ag_sub (lv' := [(0, .ref o), (1, .int x1), (3, .int x3), (4, .int x4), (5, .int (0 : Int32)), (6, .int (0 : Int32))]) [2, 3, 5, 6, 1, 0] rfl ?_
            obtain ⟨n, h⟩ := h
            exact tlX7_roads_64 E  n _ _ _ _ _ _ h
          · have h := h.2 c_52
            refine ag_bipush E1 dX7_roads_55 kb_m13 ?_
            exact am_iret E rfl ⟨_, rfl, h⟩ dX7_roads_57
        · have h := h.2 c_39
          refine ag_bipush E1 dX7_roads_42 kb_m11 ?_
          exact am_iret E rfl ⟨_, rfl, h⟩ dX7_roads_44
      · have h := h.2 c_26
        refine ag_bipush E1 dX7_roads_29 kb_m2 ?_
        exact am_iret E rfl ⟨_, rfl, h⟩ dX7_roads_31
theorem hdX7_roads : yX7_roads.cls = RX7 ∧ yX7_roads.cls ≠ "java/lang/invoke/MethodHandle" ∧ yX7_roads.cls ≠ "java/lang/invoke/VarHandle" ∧ (parseMethodDescriptor yX7_roads.desc).map (fun d => d.parameters.length) = some 4 := by decide +kernel
theorem tbX7_isUnder_29 (E : EM p R s m args meth c cX7_isUnder 2 (some .boolean) D cs b H0 XK 0 0 z u) {Q : Int32 → St → Prop}   {f : St} (h : wbX7_isUnder_29  Q  f) : AM p l e R s m args below meth c D cs b 2 o Z z u (pI Q) 29 [] [] f := by
  have E1 := E.1
  refine ag_iconst E1 dX7_isUnder_29 ki_1 ?_
  refine ag_goto E1 (tgt := 34) dX7_isUnder_30 (by decide) ?_
  exact am_zret E rfl (Or.inr rfl) ⟨_, rfl, h⟩ dX7_isUnder_34
theorem tbX7_isUnder_19 (E : EM p R s m args meth c cX7_isUnder 2 (some .boolean) D cs b H0 XK 0 0 z u) {Q : Int32 → St → Prop}  {x0 : Int32} {x1 : Int32} {f : St} (h : wbX7_isUnder_19  Q x0 x1 f) : AM p l e R s m args below meth c D cs b 2 o Z z u (pI Q) 19 [(0, .int x0), (1, .int x1)] [] f := by
  have E1 := E.1
  refine ag_iload_n E1 dX7_isUnder_19 rfl 1 rfl ?_
  refine ag_iconst E1 dX7_isUnder_20 ki_3 ?_
  refine ag_icmp_ne E1 (tgt := 33) dX7_isUnder_21 (by decide) (fun c_21 => ?_) (fun c_21 => ?_)
  · have h := h.1 c_21
    refine ag_iconst E1 dX7_isUnder_33 ki_0 ?_
    exact am_zret E rfl (Or.inl rfl) ⟨_, rfl, h⟩ dX7_isUnder_34
  · have h := h.2 c_21
    refine ag_iload_n E1 dX7_isUnder_24 rfl 0 rfl ?_
    refine ag_iconst E1 dX7_isUnder_25 ki_4 ?_
    refine ag_icmp_ne E1 (tgt := 33) dX7_isUnder_26 (by decide) (fun c_26 => ?_) (fun c_26 => ?_)
    · have h := h.1 c_26
      refine ag_iconst E1 dX7_isUnder_33 ki_0 ?_
      exact am_zret E rfl (Or.inl rfl) ⟨_, rfl, h⟩ dX7_isUnder_34
    · have h := h.2 c_26
      refine ag_sub (lv' := []) [] rfl ?_
      exact tbX7_isUnder_29 E  h
theorem kX7_isUnder (l : Launch) (D : va_G) (cs : Nat → ClassId) (b : Nat) (H0 : Heap) (XK : State → Prop) (o : Nat) (Z : cP) (z u : Nat) (f : St) (x0 : Int32) (x1 : Int32) (Q : Int32 → St → Prop) (h : wX7_isUnder f x0 x1 Q) : CM l D cs b H0 XK o Z z u yX7_isUnder cX7_isUnder 2 (some .boolean) 0 0 [.int x0, .int x1] f (pI Q) := by
  refine cm_of (by decide) rfl (Nat.le_of_ble_eq_true rfl) (fun p e R s m below meth c E => ?_)
  have E1 := E.1
  refine ag_sub (lv' := [(0, .int x0), (1, .int x1)]) [0, 1] rfl ?_
  refine ag_iload_n E1 dX7_isUnder_0 rfl 1 rfl ?_
  refine ag_if_eq E1 (tgt := 29) dX7_isUnder_1 (by decide) (fun c_1 => ?_) (fun c_1 => ?_)
  · have h := h.1 c_1
    refine ag_sub (lv' := []) [] rfl ?_
    exact tbX7_isUnder_29 E  h
  · have h := h.2 c_1
    refine ag_iload_n E1 dX7_isUnder_4 rfl 0 rfl ?_
    refine ag_iload_n E1 dX7_isUnder_5 rfl 1 rfl ?_
    refine ag_icmp_eq E1 (tgt := 29) dX7_isUnder_6 (by decide) (fun c_6 => ?_) (fun c_6 => ?_)
    · have h := h.1 c_6
      refine ag_sub (lv' := []) [] rfl ?_
      exact tbX7_isUnder_29 E  h
    · have h := h.2 c_6
      refine ag_iload_n E1 dX7_isUnder_9 rfl 1 rfl ?_
      refine ag_iconst E1 dX7_isUnder_10 ki_1 ?_
      refine ag_icmp_ne E1 (tgt := 19) dX7_isUnder_11 (by decide) (fun c_11 => ?_) (fun c_11 => ?_)
      · have h := h.1 c_11
        exact tbX7_isUnder_19 E  h
      · have h := h.2 c_11
        refine ag_iload_n E1 dX7_isUnder_14 rfl 0 rfl ?_
        refine ag_iconst E1 dX7_isUnder_15 ki_5 ?_
        refine ag_icmp_eq E1 (tgt := 29) dX7_isUnder_16 (by decide) (fun c_16 => ?_) (fun c_16 => ?_)
        · have h := h.1 c_16
          refine ag_sub (lv' := []) [] rfl ?_
          exact tbX7_isUnder_29 E  h
        · have h := h.2 c_16
          exact tbX7_isUnder_19 E  h
theorem hdX7_isUnder : yX7_isUnder.cls ≠ "java/lang/invoke/MethodHandle" ∧ yX7_isUnder.cls ≠ "java/lang/invoke/VarHandle" ∧ (parseMethodDescriptor yX7_isUnder.desc).map (fun d => d.parameters.length) = some 2 := by decide +kernel
theorem kX7_taken (l : Launch) (D : va_G) (cs : Nat → ClassId) (b : Nat) (H0 : Heap) (XK : State → Prop) (o : Nat) (Z : cP) (z u : Nat) (f : St) (x1 : Int32) (x2 : Int32) (Q : Int32 → St → Prop) (h : wX7_taken f x1 x2 Q) : CM l D cs b H0 XK o Z z u yX7_taken cX7_taken 3 (some .int) 1 22 [.ref o, .int x1, .int x2] f (pI Q) := by
  refine cm_of (by decide) rfl (Nat.le_of_ble_eq_true rfl) (fun p e R s m below meth c E => ?_)
  have E1 := E.1
  refine ag_sub (lv' := [(0, .ref o), (1, .int x1), (2, .int x2)]) [0, 1, 2] rfl ?_
  refine ag_iload_n E1 dX7_taken_0 rfl 2 rfl ?_
  refine ag_iconst E1 dX7_taken_1 ki_0 ?_
  refine ag_bipush E1 dX7_taken_2 kb_6 ?_
  refine am_callSi E [.int x2, .int (0 : Int32), .int (6 : Int32)] (kX7_in _ _ _ _ _ _ _ _ _ _ _ _ _ _ _ h) (lw_S q1625 q1626 q107 q1627) hdX7_in (Nat.le_of_ble_eq_true rfl) (Nat.le_of_ble_eq_true rfl) rfl (Nat.le_of_ble_eq_true rfl) dX7_taken_4 rfl (fun r_2 f_1 h => ?_)
  refine ag_if_ne E1 (tgt := 13) dX7_taken_7 (by decide) (fun c_7 => ?_) (fun c_7 => ?_)
  · have h := h.1 c_7
    refine ag_iload_n E1 dX7_taken_13 rfl 1 rfl ?_
    refine ag_iconst E1 dX7_taken_14 ki_0 ?_
    refine ag_bipush E1 dX7_taken_15 kb_17 ?_
    refine am_callSi E [.int x1, .int (0 : Int32), .int (17 : Int32)] (kX7_in _ _ _ _ _ _ _ _ _ _ _ _ _ _ _ h) (lw_S q1625 q1626 q107 q1627) hdX7_in (Nat.le_of_ble_eq_true rfl) (Nat.le_of_ble_eq_true rfl) rfl (Nat.le_of_ble_eq_true rfl) dX7_taken_17 rfl (fun r_4 f_3 h => ?_)
    refine ag_if_ne E1 (tgt := 26) dX7_taken_20 (by decide) (fun c_20 => ?_) (fun c_20 => ?_)
    · have h := h.1 c_20
      refine ag_iload_n E1 dX7_taken_26 rfl 1 rfl ?_
      refine ag_bipush E1 dX7_taken_27 kb_6 ?_
      refine ag_icmp_ge E1 (tgt := 63) dX7_taken_29 (by decide) (fun c_29 => ?_) (fun c_29 => ?_)
      · have h := h.1 c_29
        refine ag_iload_n E1 dX7_taken_63 rfl 1 rfl ?_
        refine ag_bipush E1 dX7_taken_64 kb_6 ?_
        refine ag_isub E1 dX7_taken_66 ?_
        refine ag_aload_n E1 dX7_taken_67 rfl 0 rfl ?_
        refine am_geti E 16 (by decide) rfl q1466 dX7_taken_68 ?_
        refine ag_icmp_lt E1 (tgt := 79) dX7_taken_71 (by decide) (fun c_71 => ?_) (fun c_71 => ?_)
        · have h := h.1 c_71
          refine ag_iload_n E1 dX7_taken_79 rfl 2 rfl ?_
          refine ag_bipush E1 dX7_taken_80 kb_6 ?_
          refine ag_icmp_ge E1 (tgt := 108) dX7_taken_82 (by decide) (fun c_82 => ?_) (fun c_82 => ?_)
          · have h := h.1 c_82
            refine ag_bipush E1 dX7_taken_108 kb_m13 ?_
            exact am_iret E rfl ⟨_, rfl, h⟩ dX7_taken_110
          · have h := h.2 c_82
            refine ag_aload_n E1 dX7_taken_85 rfl 0 rfl ?_
            refine am_geta E 17 (i := 11) (by decide) (by decide) rfl q1467 dX7_taken_86 ?_
            refine ag_iload_n E1 dX7_taken_89 rfl 1 rfl ?_
            refine ag_bipush E1 dX7_taken_90 kb_6 ?_
            refine ag_isub E1 dX7_taken_92 ?_
            obtain ⟨hin, h⟩ := h
            refine am_iald E 17 rfl rfl rfl (by decide) hin dX7_taken_93 ?_
            refine ag_iload_n E1 dX7_taken_94 rfl 2 rfl ?_
            refine am_callSi E [.int (f_3 17 (Int32.toNatClampNeg (x1 - (6 : Int32)))), .int x2] (kX7_isUnder _ _ _ _ _ _ _ _ _ _ _ _ _ _ h) (lw_S q1932 q1933 q107 q1934) hdX7_isUnder (Nat.le_of_ble_eq_true rfl) (Nat.le_of_ble_eq_true rfl) rfl (Nat.le_of_ble_eq_true rfl) dX7_taken_95 rfl (fun r_6 f_5 h => ?_)
            refine ag_if_eq E1 (tgt := 108) dX7_taken_98 (by decide) (fun c_98 => ?_) (fun c_98 => ?_)
            · have h := h.1 c_98
              refine ag_bipush E1 dX7_taken_108 kb_m13 ?_
              exact am_iret E rfl ⟨_, rfl, h⟩ dX7_taken_110
            · have h := h.2 c_98
              refine ag_iload_n E1 dX7_taken_101 rfl 1 rfl ?_
              refine ag_bipush E1 dX7_taken_102 kb_6 ?_
              refine ag_isub E1 dX7_taken_104 ?_
              refine ag_goto E1 (tgt := 110) dX7_taken_105 (by decide) ?_
              exact am_iret E rfl ⟨_, rfl, h⟩ dX7_taken_110
        · have h := h.2 c_71
          refine ag_bipush E1 dX7_taken_74 kb_m11 ?_
          refine ag_goto E1 (tgt := 110) dX7_taken_76 (by decide) ?_
          exact am_iret E rfl ⟨_, rfl, h⟩ dX7_taken_110
      · have h := h.2 c_29
        refine ag_iload_n E1 dX7_taken_32 rfl 1 rfl ?_
        refine ag_aload_n E1 dX7_taken_33 rfl 0 rfl ?_
        refine am_geti E 0 (by decide) rfl q1450 dX7_taken_34 ?_
        refine ag_icmp_lt E1 (tgt := 45) dX7_taken_37 (by decide) (fun c_37 => ?_) (fun c_37 => ?_)
        · have h := h.1 c_37
          refine ag_iload_n E1 dX7_taken_45 rfl 2 rfl ?_
          refine ag_bipush E1 dX7_taken_46 kb_6 ?_
          refine ag_icmp_ne E1 (tgt := 60) dX7_taken_48 (by decide) (fun c_48 => ?_) (fun c_48 => ?_)
          · have h := h.1 c_48
            refine ag_bipush E1 dX7_taken_60 kb_m13 ?_
            exact am_iret E rfl ⟨_, rfl, h⟩ dX7_taken_62
          · have h := h.2 c_48
            refine ag_aload_n E1 dX7_taken_51 rfl 0 rfl ?_
            refine am_geta E 1 (i := 1) (by decide) (by decide) rfl q1451 dX7_taken_52 ?_
            refine ag_iload_n E1 dX7_taken_55 rfl 1 rfl ?_
            obtain ⟨hin, h⟩ := h
            refine am_iald E 1 rfl rfl rfl (by decide) hin dX7_taken_56 ?_
            refine ag_goto E1 (tgt := 62) dX7_taken_57 (by decide) ?_
            exact am_iret E rfl ⟨_, rfl, h⟩ dX7_taken_62
        · have h := h.2 c_37
          refine ag_bipush E1 dX7_taken_40 kb_m11 ?_
          refine ag_goto E1 (tgt := 62) dX7_taken_42 (by decide) ?_
          exact am_iret E rfl ⟨_, rfl, h⟩ dX7_taken_62
    · have h := h.2 c_20
      refine ag_bipush E1 dX7_taken_23 kb_m12 ?_
      exact am_iret E rfl ⟨_, rfl, h⟩ dX7_taken_25
  · have h := h.2 c_7
    refine ag_bipush E1 dX7_taken_10 kb_m2 ?_
    exact am_iret E rfl ⟨_, rfl, h⟩ dX7_taken_12
theorem hdX7_taken : yX7_taken.cls = RX7 ∧ yX7_taken.cls ≠ "java/lang/invoke/MethodHandle" ∧ yX7_taken.cls ≠ "java/lang/invoke/VarHandle" ∧ (parseMethodDescriptor yX7_taken.desc).map (fun d => d.parameters.length) = some 2 := by decide +kernel
end
