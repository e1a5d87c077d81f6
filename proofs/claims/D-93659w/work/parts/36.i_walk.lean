/-! their walks (by program) -/
set_option maxRecDepth 100000
set_option maxHeartbeats 4000000
section
variable {p : Program} {l : Launch} {e : Env} {R : Room} {s : State} {m : MethodId} {args : Array Value} {below : List Frame} {meth : Method} {c : Code} {D : va_G} {cs : Nat → ClassId} {b z u n : Nat} {H0 : Heap} {ad : Nat → Nat} {vs : Nat → Option Nat}
theorem kX0_init (l : Launch) (D : va_G) (cs : Nat → ClassId) (b : Nat) (H0 : Heap) (ad : Nat → Nat) (vs : Nat → Option Nat) (f : cW) (x0 : Nat) (Q : cW → Prop) (h : wX0_init b cs ad vs f x0 Q) : CON l D clC (tysC cs) b H0 (XKd b H0 ad vs) yX0_init cX0_init 1 none 77 2850 [.ref x0] f (qV Q) := by
  refine con_of (by decide) (Nat.le_of_ble_eq_true rfl) (fun p e R s m below meth c E1 h0 hin0 => ?_)
  have E : EX p R s m ([.ref x0] : List Value).toArray meth c cX0_init 1 RX0 none D cs b H0 (XKd b H0 ad vs) [] 77 2850 f.2.1 f.2.2 := ⟨E1, h0⟩
  have hin : meth.name = "<init>" := hin0 rfl
  refine ag_sub (lv' := [(0, .ref x0)]) [0] rfl ?_
  refine ag_aload_n E1 dX0_init_0 rfl 0 rfl ?_
  refine ag_objInit E1 q125 q126 q127 (Nat.le_of_ble_eq_true rfl) (Nat.le_of_ble_eq_true rfl) (Nat.le_of_ble_eq_true rfl) dX0_init_1 ?_
  refine ag_aload_n E1 dX0_init_4 rfl 0 rfl ?_
  refine ag_bipush E1 dX0_init_5 kb_6 ?_
  obtain ⟨V_1, hP_2, h⟩ := h
  obtain ⟨ht_3, h⟩ := h
  obtain ⟨hb_6, hb_7, hb_8, h⟩ := h
  refine ag_newarr_int E1 (t0 := 0) q154 rfl hb_6 rfl hb_7 hb_8 dX0_init_7 (fun a_4 f_5 e_9 e_10 => ?_)
  have h := h a_4 f_5 e_9 e_10
  have hP_11 : f_5.1 a_4 = some (.inl (cs 0, (Int32.toNatClampNeg (6 : Int32)), .inl (fun _ => 0))) := by rw [e_10, e_9]; exact wNew_s
  have hP_12 : f_5.1 x0 = some (.inr (1, V_1)) := by rw [e_10]; exact (wNew_o ht_3).trans hP_2
  have ht_13 : x0 < f_5.2.1 := by rw [e_10]; exact Nat.lt_succ_of_lt ht_3
  refine ag_putF E1 (ci := 1) (C := RX0) (T := TX0) (N := 43) (k := 0) (ty := (.array .int)) tyX0 tyX0_ok nmX0 rfl in_X0 (by decide) q666 (fun _ h => h) rfl hin rfl (by decide +kernel) rfl rfl dX0_init_9 hP_12 ?_
  refine ag_named (fun f_14 e_16 => ?_)
  obtain ⟨V_15, e_17⟩ : ∃ V_ : Nat → Value, V_ = updV V_1 0 (.ref a_4) := ⟨_, rfl⟩
  rw [← e_17] at e_16
  have h := h V_15 f_14 e_17 e_16
  have hP_18 : f_14.1 x0 = some (.inr (1, V_15)) := by rw [e_16]; exact updP_s
  have ht_19 : x0 < f_14.2.1 := by rw [e_16]; exact ht_13
  refine ag_aload_n E1 dX0_init_12 rfl 0 rfl ?_
  refine ag_bipush E1 dX0_init_13 kb_6 ?_
  obtain ⟨hb_22, hb_23, hb_24, h⟩ := h
  refine ag_newarr_int E1 (t0 := 0) q154 rfl hb_22 rfl hb_23 hb_24 dX0_init_15 (fun a_20 f_21 e_25 e_26 => ?_)
  have h := h a_20 f_21 e_25 e_26
  have hP_27 : f_21.1 a_20 = some (.inl (cs 0, (Int32.toNatClampNeg (6 : Int32)), .inl (fun _ => 0))) := by rw [e_26, e_25]; exact wNew_s
  have hP_28 : f_21.1 x0 = some (.inr (1, V_15)) := by rw [e_26]; exact (wNew_o ht_19).trans hP_18
  have ht_29 : x0 < f_21.2.1 := by rw [e_26]; exact Nat.lt_succ_of_lt ht_19
  refine ag_putF E1 (ci := 1) (C := RX0) (T := TX0) (N := 43) (k := 1) (ty := (.array .int)) tyX0 tyX0_ok nmX0 rfl in_X0 (by decide) q667 (fun _ h => h) rfl hin rfl (by decide +kernel) rfl rfl dX0_init_17 hP_28 ?_
  refine ag_named (fun f_30 e_32 => ?_)
  obtain ⟨V_31, e_33⟩ : ∃ V_ : Nat → Value, V_ = updV V_15 1 (.ref a_20) := ⟨_, rfl⟩
  rw [← e_33] at e_32
  have h := h V_31 f_30 e_33 e_32
  have hP_34 : f_30.1 x0 = some (.inr (1, V_31)) := by rw [e_32]; exact updP_s
  have ht_35 : x0 < f_30.2.1 := by rw [e_32]; exact ht_29
  refine ag_aload_n E1 dX0_init_20 rfl 0 rfl ?_
  refine ag_bipush E1 dX0_init_21 kb_6 ?_
  obtain ⟨hb_38, hb_39, hb_40, h⟩ := h
  refine ag_newarr_int E1 (t0 := 0) q154 rfl hb_38 rfl hb_39 hb_40 dX0_init_23 (fun a_36 f_37 e_41 e_42 => ?_)
  have h := h a_36 f_37 e_41 e_42
  have hP_43 : f_37.1 a_36 = some (.inl (cs 0, (Int32.toNatClampNeg (6 : Int32)), .inl (fun _ => 0))) := by rw [e_42, e_41]; exact wNew_s
  have hP_44 : f_37.1 x0 = some (.inr (1, V_31)) := by rw [e_42]; exact (wNew_o ht_35).trans hP_34
  have ht_45 : x0 < f_37.2.1 := by rw [e_42]; exact Nat.lt_succ_of_lt ht_35
  refine ag_putF E1 (ci := 1) (C := RX0) (T := TX0) (N := 43) (k := 2) (ty := (.array .int)) tyX0 tyX0_ok nmX0 rfl in_X0 (by decide) q668 (fun _ h => h) rfl hin rfl (by decide +kernel) rfl rfl dX0_init_25 hP_44 ?_
  refine ag_named (fun f_46 e_48 => ?_)
  obtain ⟨V_47, e_49⟩ : ∃ V_ : Nat → Value, V_ = updV V_31 2 (.ref a_36) := ⟨_, rfl⟩
  rw [← e_49] at e_48
  have h := h V_47 f_46 e_49 e_48
  have hP_50 : f_46.1 x0 = some (.inr (1, V_47)) := by rw [e_48]; exact updP_s
  have ht_51 : x0 < f_46.2.1 := by rw [e_48]; exact ht_45
  refine ag_aload_n E1 dX0_init_28 rfl 0 rfl ?_
  refine ag_bipush E1 dX0_init_29 kb_6 ?_
  obtain ⟨hb_54, hb_55, hb_56, h⟩ := h
  refine ag_newarr_int E1 (t0 := 0) q154 rfl hb_54 rfl hb_55 hb_56 dX0_init_31 (fun a_52 f_53 e_57 e_58 => ?_)
  have h := h a_52 f_53 e_57 e_58
  have hP_59 : f_53.1 a_52 = some (.inl (cs 0, (Int32.toNatClampNeg (6 : Int32)), .inl (fun _ => 0))) := by rw [e_58, e_57]; exact wNew_s
  have hP_60 : f_53.1 x0 = some (.inr (1, V_47)) := by rw [e_58]; exact (wNew_o ht_51).trans hP_50
  have ht_61 : x0 < f_53.2.1 := by rw [e_58]; exact Nat.lt_succ_of_lt ht_51
  refine ag_putF E1 (ci := 1) (C := RX0) (T := TX0) (N := 43) (k := 3) (ty := (.array .int)) tyX0 tyX0_ok nmX0 rfl in_X0 (by decide) q669 (fun _ h => h) rfl hin rfl (by decide +kernel) rfl rfl dX0_init_33 hP_60 ?_
  refine ag_named (fun f_62 e_64 => ?_)
  obtain ⟨V_63, e_65⟩ : ∃ V_ : Nat → Value, V_ = updV V_47 3 (.ref a_52) := ⟨_, rfl⟩
  rw [← e_65] at e_64
  have h := h V_63 f_62 e_65 e_64
  have hP_66 : f_62.1 x0 = some (.inr (1, V_63)) := by rw [e_64]; exact updP_s
  have ht_67 : x0 < f_62.2.1 := by rw [e_64]; exact ht_61
  refine ag_aload_n E1 dX0_init_36 rfl 0 rfl ?_
  refine ag_bipush E1 dX0_init_37 kb_36 ?_
  obtain ⟨hb_70, hb_71, hb_72, h⟩ := h
  refine ag_newarr_int E1 (t0 := 0) q154 rfl hb_70 rfl hb_71 hb_72 dX0_init_39 (fun a_68 f_69 e_73 e_74 => ?_)
  have h := h a_68 f_69 e_73 e_74
  have hP_75 : f_69.1 a_68 = some (.inl (cs 0, (Int32.toNatClampNeg (36 : Int32)), .inl (fun _ => 0))) := by rw [e_74, e_73]; exact wNew_s
  have hP_76 : f_69.1 x0 = some (.inr (1, V_63)) := by rw [e_74]; exact (wNew_o ht_67).trans hP_66
  have ht_77 : x0 < f_69.2.1 := by rw [e_74]; exact Nat.lt_succ_of_lt ht_67
  refine ag_putF E1 (ci := 1) (C := RX0) (T := TX0) (N := 43) (k := 4) (ty := (.array .int)) tyX0 tyX0_ok nmX0 rfl in_X0 (by decide) q670 (fun _ h => h) rfl hin rfl (by decide +kernel) rfl rfl dX0_init_41 hP_76 ?_
  refine ag_named (fun f_78 e_80 => ?_)
  obtain ⟨V_79, e_81⟩ : ∃ V_ : Nat → Value, V_ = updV V_63 4 (.ref a_68) := ⟨_, rfl⟩
  rw [← e_81] at e_80
  have h := h V_79 f_78 e_81 e_80
  have hP_82 : f_78.1 x0 = some (.inr (1, V_79)) := by rw [e_80]; exact updP_s
  have ht_83 : x0 < f_78.2.1 := by rw [e_80]; exact ht_77
  refine ag_aload_n E1 dX0_init_44 rfl 0 rfl ?_
  refine ag_bipush E1 dX0_init_45 kb_36 ?_
  obtain ⟨hb_86, hb_87, hb_88, h⟩ := h
  refine ag_newarr_int E1 (t0 := 0) q154 rfl hb_86 rfl hb_87 hb_88 dX0_init_47 (fun a_84 f_85 e_89 e_90 => ?_)
  have h := h a_84 f_85 e_89 e_90
  have hP_91 : f_85.1 a_84 = some (.inl (cs 0, (Int32.toNatClampNeg (36 : Int32)), .inl (fun _ => 0))) := by rw [e_90, e_89]; exact wNew_s
  have hP_92 : f_85.1 x0 = some (.inr (1, V_79)) := by rw [e_90]; exact (wNew_o ht_83).trans hP_82
  have ht_93 : x0 < f_85.2.1 := by rw [e_90]; exact Nat.lt_succ_of_lt ht_83
  refine ag_putF E1 (ci := 1) (C := RX0) (T := TX0) (N := 43) (k := 5) (ty := (.array .int)) tyX0 tyX0_ok nmX0 rfl in_X0 (by decide) q671 (fun _ h => h) rfl hin rfl (by decide +kernel) rfl rfl dX0_init_49 hP_92 ?_
  refine ag_named (fun f_94 e_96 => ?_)
  obtain ⟨V_95, e_97⟩ : ∃ V_ : Nat → Value, V_ = updV V_79 5 (.ref a_84) := ⟨_, rfl⟩
  rw [← e_97] at e_96
  have h := h V_95 f_94 e_97 e_96
  have hP_98 : f_94.1 x0 = some (.inr (1, V_95)) := by rw [e_96]; exact updP_s
  have ht_99 : x0 < f_94.2.1 := by rw [e_96]; exact ht_93
  refine ag_aload_n E1 dX0_init_52 rfl 0 rfl ?_
  refine ag_bipush E1 dX0_init_53 kb_6 ?_
  refine ag_put E1 (ci := 1) (C := RX0) (T := TX0) (N := 43) (k := 7) (ty := .int) tyX0 tyX0_ok nmX0 rfl in_X0 (by decide) q673 (fun _ h => h) rfl (by decide +kernel) rfl rfl dX0_init_55 hP_98 ?_
  refine ag_named (fun f_100 e_102 => ?_)
  obtain ⟨V_101, e_103⟩ : ∃ V_ : Nat → Value, V_ = updV V_95 7 (.int (6 : Int32)) := ⟨_, rfl⟩
  rw [← e_103] at e_102
  have h := h V_101 f_100 e_103 e_102
  have hP_104 : f_100.1 x0 = some (.inr (1, V_101)) := by rw [e_102]; exact updP_s
  have ht_105 : x0 < f_100.2.1 := by rw [e_102]; exact ht_99
  refine ag_aload_n E1 dX0_init_58 rfl 0 rfl ?_
  refine ag_bipush E1 dX0_init_59 kb_10 ?_
  obtain ⟨hb_108, hb_109, hb_110, h⟩ := h
  refine ag_newarr_int E1 (t0 := 0) q154 rfl hb_108 rfl hb_109 hb_110 dX0_init_61 (fun a_106 f_107 e_111 e_112 => ?_)
  have h := h a_106 f_107 e_111 e_112
  have hP_113 : f_107.1 a_106 = some (.inl (cs 0, (Int32.toNatClampNeg (10 : Int32)), .inl (fun _ => 0))) := by rw [e_112, e_111]; exact wNew_s
  have hP_114 : f_107.1 x0 = some (.inr (1, V_101)) := by rw [e_112]; exact (wNew_o ht_105).trans hP_104
  have ht_115 : x0 < f_107.2.1 := by rw [e_112]; exact Nat.lt_succ_of_lt ht_105
  refine ag_putF E1 (ci := 1) (C := RX0) (T := TX0) (N := 43) (k := 8) (ty := (.array .int)) tyX0 tyX0_ok nmX0 rfl in_X0 (by decide) q674 (fun _ h => h) rfl hin rfl (by decide +kernel) rfl rfl dX0_init_63 hP_114 ?_
  refine ag_named (fun f_116 e_118 => ?_)
  obtain ⟨V_117, e_119⟩ : ∃ V_ : Nat → Value, V_ = updV V_101 8 (.ref a_106) := ⟨_, rfl⟩
  rw [← e_119] at e_118
  have h := h V_117 f_116 e_119 e_118
  have hP_120 : f_116.1 x0 = some (.inr (1, V_117)) := by rw [e_118]; exact updP_s
  have ht_121 : x0 < f_116.2.1 := by rw [e_118]; exact ht_115
  refine ag_aload_n E1 dX0_init_66 rfl 0 rfl ?_
  refine ag_bipush E1 dX0_init_67 kb_10 ?_
  obtain ⟨hb_124, hb_125, hb_126, h⟩ := h
  refine ag_newarr_int E1 (t0 := 0) q154 rfl hb_124 rfl hb_125 hb_126 dX0_init_69 (fun a_122 f_123 e_127 e_128 => ?_)
  have h := h a_122 f_123 e_127 e_128
  have hP_129 : f_123.1 a_122 = some (.inl (cs 0, (Int32.toNatClampNeg (10 : Int32)), .inl (fun _ => 0))) := by rw [e_128, e_127]; exact wNew_s
  have hP_130 : f_123.1 x0 = some (.inr (1, V_117)) := by rw [e_128]; exact (wNew_o ht_121).trans hP_120
  have ht_131 : x0 < f_123.2.1 := by rw [e_128]; exact Nat.lt_succ_of_lt ht_121
  refine ag_putF E1 (ci := 1) (C := RX0) (T := TX0) (N := 43) (k := 9) (ty := (.array .int)) tyX0 tyX0_ok nmX0 rfl in_X0 (by decide) q675 (fun _ h => h) rfl hin rfl (by decide +kernel) rfl rfl dX0_init_71 hP_130 ?_
  refine ag_named (fun f_132 e_134 => ?_)
  obtain ⟨V_133, e_135⟩ : ∃ V_ : Nat → Value, V_ = updV V_117 9 (.ref a_122) := ⟨_, rfl⟩
  rw [← e_135] at e_134
  have h := h V_133 f_132 e_135 e_134
  have hP_136 : f_132.1 x0 = some (.inr (1, V_133)) := by rw [e_134]; exact updP_s
  have ht_137 : x0 < f_132.2.1 := by rw [e_134]; exact ht_131
  refine ag_aload_n E1 dX0_init_74 rfl 0 rfl ?_
  obtain ⟨hb_140, h⟩ := h
  refine ag_new E1 (ci := 16) (C := RJ2) (T := TJ2) (N := 3) (fs := [.int (0 : Int32), .null, .int (0 : Int32)]) tyJ2 tyJ2_ok in_J2 q128 q129 q86 rfl rfl hb_140 dX0_init_75 (fun a_138 f_139 e_141 e_142 => ?_)
  have h := h a_138 f_139 e_141 e_142
  have hP_143 : f_139.1 a_138 = some (.inr (16, vp_V [.int (0 : Int32), .null, .int (0 : Int32)])) := by rw [e_142, e_141]; exact wNew_s
  have hP_144 : f_139.1 x0 = some (.inr (1, V_133)) := by rw [e_142]; exact (wNew_o ht_137).trans hP_136
  have ht_145 : x0 < f_139.2.1 := by rw [e_142]; exact Nat.lt_succ_of_lt ht_137
  refine ag_dup E1 dX0_init_78 rfl ?_
  refine ag_callI E1 (kJ2_init _ _ _ _ _ _ _ _ _ _ h) q132 q86 q130 q131 rfl hdJ2_init (Nat.le_of_ble_eq_true rfl) (Nat.le_of_ble_eq_true rfl) (As := []) rfl (Nat.le_of_ble_eq_true rfl) dX0_init_79 (fun v_ f_146 hv => ?_) rfl
  obtain ⟨rfl, h⟩ := hv
  obtain ⟨V_147, hP_148, h⟩ := h
  refine ag_putF E1 (ci := 1) (C := RX0) (T := TX0) (N := 43) (k := 11) (ty := (.object "java/util/ArrayList")) tyX0 tyX0_ok nmX0 rfl in_X0 (by decide) q677 (fun _ h => h) rfl hin rfl (by decide +kernel) rfl rfl dX0_init_82 hP_148 ?_
  refine ag_named (fun f_149 e_151 => ?_)
  obtain ⟨V_150, e_152⟩ : ∃ V_ : Nat → Value, V_ = updV V_147 11 (.ref a_138) := ⟨_, rfl⟩
  rw [← e_152] at e_151
  have h := h V_150 f_149 e_152 e_151
  have hP_153 : f_149.1 x0 = some (.inr (1, V_150)) := by rw [e_151]; exact updP_s
  refine ag_aload_n E1 dX0_init_85 rfl 0 rfl ?_
  refine ag_bipush E1 dX0_init_86 kb_6 ?_
  obtain ⟨ht_154, h⟩ := h
  obtain ⟨hb_157, hb_158, hb_159, h⟩ := h
  refine ag_newarr_int E1 (t0 := 0) q154 rfl hb_157 rfl hb_158 hb_159 dX0_init_88 (fun a_155 f_156 e_160 e_161 => ?_)
  have h := h a_155 f_156 e_160 e_161
  have hP_162 : f_156.1 a_155 = some (.inl (cs 0, (Int32.toNatClampNeg (6 : Int32)), .inl (fun _ => 0))) := by rw [e_161, e_160]; exact wNew_s
  have hP_163 : f_156.1 x0 = some (.inr (1, V_150)) := by rw [e_161]; exact (wNew_o ht_154).trans hP_153
  have ht_164 : x0 < f_156.2.1 := by rw [e_161]; exact Nat.lt_succ_of_lt ht_154
  refine ag_putF E1 (ci := 1) (C := RX0) (T := TX0) (N := 43) (k := 12) (ty := (.array .int)) tyX0 tyX0_ok nmX0 rfl in_X0 (by decide) q678 (fun _ h => h) rfl hin rfl (by decide +kernel) rfl rfl dX0_init_90 hP_163 ?_
  refine ag_named (fun f_165 e_167 => ?_)
  obtain ⟨V_166, e_168⟩ : ∃ V_ : Nat → Value, V_ = updV V_150 12 (.ref a_155) := ⟨_, rfl⟩
  rw [← e_168] at e_167
  have h := h V_166 f_165 e_168 e_167
  have hP_169 : f_165.1 x0 = some (.inr (1, V_166)) := by rw [e_167]; exact updP_s
  have ht_170 : x0 < f_165.2.1 := by rw [e_167]; exact ht_164
  refine ag_aload_n E1 dX0_init_93 rfl 0 rfl ?_
  refine ag_bipush E1 dX0_init_94 kb_6 ?_
  obtain ⟨hb_173, hb_174, hb_175, h⟩ := h
  refine ag_newarr_int E1 (t0 := 0) q154 rfl hb_173 rfl hb_174 hb_175 dX0_init_96 (fun a_171 f_172 e_176 e_177 => ?_)
  have h := h a_171 f_172 e_176 e_177
  have hP_178 : f_172.1 a_171 = some (.inl (cs 0, (Int32.toNatClampNeg (6 : Int32)), .inl (fun _ => 0))) := by rw [e_177, e_176]; exact wNew_s
  have hP_179 : f_172.1 x0 = some (.inr (1, V_166)) := by rw [e_177]; exact (wNew_o ht_170).trans hP_169
  have ht_180 : x0 < f_172.2.1 := by rw [e_177]; exact Nat.lt_succ_of_lt ht_170
  refine ag_putF E1 (ci := 1) (C := RX0) (T := TX0) (N := 43) (k := 14) (ty := (.array .int)) tyX0 tyX0_ok nmX0 rfl in_X0 (by decide) q680 (fun _ h => h) rfl hin rfl (by decide +kernel) rfl rfl dX0_init_98 hP_179 ?_
  refine ag_named (fun f_181 e_183 => ?_)
  obtain ⟨V_182, e_184⟩ : ∃ V_ : Nat → Value, V_ = updV V_166 14 (.ref a_171) := ⟨_, rfl⟩
  rw [← e_184] at e_183
  have h := h V_182 f_181 e_184 e_183
  have hP_185 : f_181.1 x0 = some (.inr (1, V_182)) := by rw [e_183]; exact updP_s
  have ht_186 : x0 < f_181.2.1 := by rw [e_183]; exact ht_180
  refine ag_aload_n E1 dX0_init_101 rfl 0 rfl ?_
  refine ag_bipush E1 dX0_init_102 kb_6 ?_
  obtain ⟨hb_189, hb_190, hb_191, h⟩ := h
  refine ag_newarr_byte E1 (t0 := 1) q177 rfl hb_189 rfl hb_190 hb_191 dX0_init_104 (fun a_187 f_188 e_192 e_193 => ?_)
  have h := h a_187 f_188 e_192 e_193
  have hP_194 : f_188.1 a_187 = some (.inl (cs 1, (Int32.toNatClampNeg (6 : Int32)), .inl (fun _ => 0))) := by rw [e_193, e_192]; exact wNew_s
  have hP_195 : f_188.1 x0 = some (.inr (1, V_182)) := by rw [e_193]; exact (wNew_o ht_186).trans hP_185
  have ht_196 : x0 < f_188.2.1 := by rw [e_193]; exact Nat.lt_succ_of_lt ht_186
  refine ag_putF E1 (ci := 1) (C := RX0) (T := TX0) (N := 43) (k := 19) (ty := (.array .byte)) tyX0 tyX0_ok nmX0 rfl in_X0 (by decide) q685 (fun _ h => h) rfl hin rfl (by decide +kernel) rfl rfl dX0_init_106 hP_195 ?_
  refine ag_named (fun f_197 e_199 => ?_)
  obtain ⟨V_198, e_200⟩ : ∃ V_ : Nat → Value, V_ = updV V_182 19 (.ref a_187) := ⟨_, rfl⟩
  rw [← e_200] at e_199
  have h := h V_198 f_197 e_200 e_199
  have hP_201 : f_197.1 x0 = some (.inr (1, V_198)) := by rw [e_199]; exact updP_s
  have ht_202 : x0 < f_197.2.1 := by rw [e_199]; exact ht_196
  refine ag_aload_n E1 dX0_init_109 rfl 0 rfl ?_
  refine ag_bipush E1 dX0_init_110 kb_6 ?_
  obtain ⟨hb_205, hb_206, hb_207, h⟩ := h
  refine ag_newarr_byte E1 (t0 := 1) q177 rfl hb_205 rfl hb_206 hb_207 dX0_init_112 (fun a_203 f_204 e_208 e_209 => ?_)
  have h := h a_203 f_204 e_208 e_209
  have hP_210 : f_204.1 a_203 = some (.inl (cs 1, (Int32.toNatClampNeg (6 : Int32)), .inl (fun _ => 0))) := by rw [e_209, e_208]; exact wNew_s
  have hP_211 : f_204.1 x0 = some (.inr (1, V_198)) := by rw [e_209]; exact (wNew_o ht_202).trans hP_201
  have ht_212 : x0 < f_204.2.1 := by rw [e_209]; exact Nat.lt_succ_of_lt ht_202
  refine ag_putF E1 (ci := 1) (C := RX0) (T := TX0) (N := 43) (k := 20) (ty := (.array .byte)) tyX0 tyX0_ok nmX0 rfl in_X0 (by decide) q686 (fun _ h => h) rfl hin rfl (by decide +kernel) rfl rfl dX0_init_114 hP_211 ?_
  refine ag_named (fun f_213 e_215 => ?_)
  obtain ⟨V_214, e_216⟩ : ∃ V_ : Nat → Value, V_ = updV V_198 20 (.ref a_203) := ⟨_, rfl⟩
  rw [← e_216] at e_215
  have h := h V_214 f_213 e_216 e_215
  have hP_217 : f_213.1 x0 = some (.inr (1, V_214)) := by rw [e_215]; exact updP_s
  have ht_218 : x0 < f_213.2.1 := by rw [e_215]; exact ht_212
  refine ag_aload_n E1 dX0_init_117 rfl 0 rfl ?_
  refine ag_sipush E1 dX0_init_118 ks_1764 ?_
  obtain ⟨hb_221, hb_222, hb_223, h⟩ := h
  refine ag_newarr_int E1 (t0 := 0) q154 rfl hb_221 rfl hb_222 hb_223 dX0_init_121 (fun a_219 f_220 e_224 e_225 => ?_)
  have h := h a_219 f_220 e_224 e_225
  have hP_226 : f_220.1 a_219 = some (.inl (cs 0, (Int32.toNatClampNeg (1764 : Int32)), .inl (fun _ => 0))) := by rw [e_225, e_224]; exact wNew_s
  have hP_227 : f_220.1 x0 = some (.inr (1, V_214)) := by rw [e_225]; exact (wNew_o ht_218).trans hP_217
  have ht_228 : x0 < f_220.2.1 := by rw [e_225]; exact Nat.lt_succ_of_lt ht_218
  refine ag_putF E1 (ci := 1) (C := RX0) (T := TX0) (N := 43) (k := 23) (ty := (.array .int)) tyX0 tyX0_ok nmX0 rfl in_X0 (by decide) q689 (fun _ h => h) rfl hin rfl (by decide +kernel) rfl rfl dX0_init_123 hP_227 ?_
  refine ag_named (fun f_229 e_231 => ?_)
  obtain ⟨V_230, e_232⟩ : ∃ V_ : Nat → Value, V_ = updV V_214 23 (.ref a_219) := ⟨_, rfl⟩
  rw [← e_232] at e_231
  have h := h V_230 f_229 e_232 e_231
  have hP_233 : f_229.1 x0 = some (.inr (1, V_230)) := by rw [e_231]; exact updP_s
  have ht_234 : x0 < f_229.2.1 := by rw [e_231]; exact ht_228
  refine ag_aload_n E1 dX0_init_126 rfl 0 rfl ?_
  refine ag_bipush E1 dX0_init_127 kb_6 ?_
  obtain ⟨hb_237, hb_238, hb_239, h⟩ := h
  refine ag_newarr_byte E1 (t0 := 1) q177 rfl hb_237 rfl hb_238 hb_239 dX0_init_129 (fun a_235 f_236 e_240 e_241 => ?_)
  have h := h a_235 f_236 e_240 e_241
  have hP_242 : f_236.1 a_235 = some (.inl (cs 1, (Int32.toNatClampNeg (6 : Int32)), .inl (fun _ => 0))) := by rw [e_241, e_240]; exact wNew_s
  have hP_243 : f_236.1 x0 = some (.inr (1, V_230)) := by rw [e_241]; exact (wNew_o ht_234).trans hP_233
  have ht_244 : x0 < f_236.2.1 := by rw [e_241]; exact Nat.lt_succ_of_lt ht_234
  refine ag_putF E1 (ci := 1) (C := RX0) (T := TX0) (N := 43) (k := 26) (ty := (.array .byte)) tyX0 tyX0_ok nmX0 rfl in_X0 (by decide) q692 (fun _ h => h) rfl hin rfl (by decide +kernel) rfl rfl dX0_init_131 hP_243 ?_
  refine ag_named (fun f_245 e_247 => ?_)
  obtain ⟨V_246, e_248⟩ : ∃ V_ : Nat → Value, V_ = updV V_230 26 (.ref a_235) := ⟨_, rfl⟩
  rw [← e_248] at e_247
  have h := h V_246 f_245 e_248 e_247
  have hP_249 : f_245.1 x0 = some (.inr (1, V_246)) := by rw [e_247]; exact updP_s
  have ht_250 : x0 < f_245.2.1 := by rw [e_247]; exact ht_244
  refine ag_aload_n E1 dX0_init_134 rfl 0 rfl ?_
  refine ag_sipush E1 dX0_init_135 ks_1968 ?_
  obtain ⟨hb_253, hb_254, hb_255, h⟩ := h
  refine ag_newarr_int E1 (t0 := 0) q154 rfl hb_253 rfl hb_254 hb_255 dX0_init_138 (fun a_251 f_252 e_256 e_257 => ?_)
  have h := h a_251 f_252 e_256 e_257
  have hP_258 : f_252.1 a_251 = some (.inl (cs 0, (Int32.toNatClampNeg (1968 : Int32)), .inl (fun _ => 0))) := by rw [e_257, e_256]; exact wNew_s
  have hP_259 : f_252.1 x0 = some (.inr (1, V_246)) := by rw [e_257]; exact (wNew_o ht_250).trans hP_249
  have ht_260 : x0 < f_252.2.1 := by rw [e_257]; exact Nat.lt_succ_of_lt ht_250
  refine ag_putF E1 (ci := 1) (C := RX0) (T := TX0) (N := 43) (k := 27) (ty := (.array .int)) tyX0 tyX0_ok nmX0 rfl in_X0 (by decide) q693 (fun _ h => h) rfl hin rfl (by decide +kernel) rfl rfl dX0_init_140 hP_259 ?_
  refine ag_named (fun f_261 e_263 => ?_)
  obtain ⟨V_262, e_264⟩ : ∃ V_ : Nat → Value, V_ = updV V_246 27 (.ref a_251) := ⟨_, rfl⟩
  rw [← e_264] at e_263
  have h := h V_262 f_261 e_264 e_263
  have hP_265 : f_261.1 x0 = some (.inr (1, V_262)) := by rw [e_263]; exact updP_s
  have ht_266 : x0 < f_261.2.1 := by rw [e_263]; exact ht_260
  refine ag_aload_n E1 dX0_init_143 rfl 0 rfl ?_
  refine ag_bipush E1 dX0_init_144 kb_7 ?_
  obtain ⟨hb_269, hb_270, hb_271, h⟩ := h
  refine ag_newarr_int E1 (t0 := 0) q154 rfl hb_269 rfl hb_270 hb_271 dX0_init_146 (fun a_267 f_268 e_272 e_273 => ?_)
  have h := h a_267 f_268 e_272 e_273
  have hP_274 : f_268.1 a_267 = some (.inl (cs 0, (Int32.toNatClampNeg (7 : Int32)), .inl (fun _ => 0))) := by rw [e_273, e_272]; exact wNew_s
  have hP_275 : f_268.1 x0 = some (.inr (1, V_262)) := by rw [e_273]; exact (wNew_o ht_266).trans hP_265
  have ht_276 : x0 < f_268.2.1 := by rw [e_273]; exact Nat.lt_succ_of_lt ht_266
  refine ag_putF E1 (ci := 1) (C := RX0) (T := TX0) (N := 43) (k := 29) (ty := (.array .int)) tyX0 tyX0_ok nmX0 rfl in_X0 (by decide) q695 (fun _ h => h) rfl hin rfl (by decide +kernel) rfl rfl dX0_init_148 hP_275 ?_
  refine ag_named (fun f_277 e_279 => ?_)
  obtain ⟨V_278, e_280⟩ : ∃ V_ : Nat → Value, V_ = updV V_262 29 (.ref a_267) := ⟨_, rfl⟩
  rw [← e_280] at e_279
  have h := h V_278 f_277 e_280 e_279
  have hP_281 : f_277.1 x0 = some (.inr (1, V_278)) := by rw [e_279]; exact updP_s
  have ht_282 : x0 < f_277.2.1 := by rw [e_279]; exact ht_276
  refine ag_aload_n E1 dX0_init_151 rfl 0 rfl ?_
  refine ag_bipush E1 dX0_init_152 kb_6 ?_
  obtain ⟨hb_285, hb_286, hb_287, h⟩ := h
  refine ag_newarr_int E1 (t0 := 0) q154 rfl hb_285 rfl hb_286 hb_287 dX0_init_154 (fun a_283 f_284 e_288 e_289 => ?_)
  have h := h a_283 f_284 e_288 e_289
  have hP_290 : f_284.1 a_283 = some (.inl (cs 0, (Int32.toNatClampNeg (6 : Int32)), .inl (fun _ => 0))) := by rw [e_289, e_288]; exact wNew_s
  have hP_291 : f_284.1 x0 = some (.inr (1, V_278)) := by rw [e_289]; exact (wNew_o ht_282).trans hP_281
  have ht_292 : x0 < f_284.2.1 := by rw [e_289]; exact Nat.lt_succ_of_lt ht_282
  refine ag_putF E1 (ci := 1) (C := RX0) (T := TX0) (N := 43) (k := 30) (ty := (.array .int)) tyX0 tyX0_ok nmX0 rfl in_X0 (by decide) q696 (fun _ h => h) rfl hin rfl (by decide +kernel) rfl rfl dX0_init_156 hP_291 ?_
  refine ag_named (fun f_293 e_295 => ?_)
  obtain ⟨V_294, e_296⟩ : ∃ V_ : Nat → Value, V_ = updV V_278 30 (.ref a_283) := ⟨_, rfl⟩
  rw [← e_296] at e_295
  have h := h V_294 f_293 e_296 e_295
  have hP_297 : f_293.1 x0 = some (.inr (1, V_294)) := by rw [e_295]; exact updP_s
  have ht_298 : x0 < f_293.2.1 := by rw [e_295]; exact ht_292
  refine ag_aload_n E1 dX0_init_159 rfl 0 rfl ?_
  refine ag_bipush E1 dX0_init_160 kb_6 ?_
  obtain ⟨hb_301, hb_302, hb_303, h⟩ := h
  refine ag_newarr_int E1 (t0 := 0) q154 rfl hb_301 rfl hb_302 hb_303 dX0_init_162 (fun a_299 f_300 e_304 e_305 => ?_)
  have h := h a_299 f_300 e_304 e_305
  have hP_306 : f_300.1 a_299 = some (.inl (cs 0, (Int32.toNatClampNeg (6 : Int32)), .inl (fun _ => 0))) := by rw [e_305, e_304]; exact wNew_s
  have hP_307 : f_300.1 x0 = some (.inr (1, V_294)) := by rw [e_305]; exact (wNew_o ht_298).trans hP_297
  have ht_308 : x0 < f_300.2.1 := by rw [e_305]; exact Nat.lt_succ_of_lt ht_298
  refine ag_putF E1 (ci := 1) (C := RX0) (T := TX0) (N := 43) (k := 31) (ty := (.array .int)) tyX0 tyX0_ok nmX0 rfl in_X0 (by decide) q697 (fun _ h => h) rfl hin rfl (by decide +kernel) rfl rfl dX0_init_164 hP_307 ?_
  refine ag_named (fun f_309 e_311 => ?_)
  obtain ⟨V_310, e_312⟩ : ∃ V_ : Nat → Value, V_ = updV V_294 31 (.ref a_299) := ⟨_, rfl⟩
  rw [← e_312] at e_311
  have h := h V_310 f_309 e_312 e_311
  have hP_313 : f_309.1 x0 = some (.inr (1, V_310)) := by rw [e_311]; exact updP_s
  have ht_314 : x0 < f_309.2.1 := by rw [e_311]; exact ht_308
  refine ag_aload_n E1 dX0_init_167 rfl 0 rfl ?_
  refine ag_bipush E1 dX0_init_168 kb_6 ?_
  obtain ⟨hb_317, hb_318, hb_319, h⟩ := h
  refine ag_newarr_int E1 (t0 := 0) q154 rfl hb_317 rfl hb_318 hb_319 dX0_init_170 (fun a_315 f_316 e_320 e_321 => ?_)
  have h := h a_315 f_316 e_320 e_321
  have hP_322 : f_316.1 a_315 = some (.inl (cs 0, (Int32.toNatClampNeg (6 : Int32)), .inl (fun _ => 0))) := by rw [e_321, e_320]; exact wNew_s
  have hP_323 : f_316.1 x0 = some (.inr (1, V_310)) := by rw [e_321]; exact (wNew_o ht_314).trans hP_313
  have ht_324 : x0 < f_316.2.1 := by rw [e_321]; exact Nat.lt_succ_of_lt ht_314
  refine ag_putF E1 (ci := 1) (C := RX0) (T := TX0) (N := 43) (k := 32) (ty := (.array .int)) tyX0 tyX0_ok nmX0 rfl in_X0 (by decide) q698 (fun _ h => h) rfl hin rfl (by decide +kernel) rfl rfl dX0_init_172 hP_323 ?_
  refine ag_named (fun f_325 e_327 => ?_)
  obtain ⟨V_326, e_328⟩ : ∃ V_ : Nat → Value, V_ = updV V_310 32 (.ref a_315) := ⟨_, rfl⟩
  rw [← e_328] at e_327
  have h := h V_326 f_325 e_328 e_327
  have hP_329 : f_325.1 x0 = some (.inr (1, V_326)) := by rw [e_327]; exact updP_s
  have ht_330 : x0 < f_325.2.1 := by rw [e_327]; exact ht_324
  refine ag_aload_n E1 dX0_init_175 rfl 0 rfl ?_
  refine ag_bipush E1 dX0_init_176 kb_36 ?_
  obtain ⟨hb_333, hb_334, hb_335, h⟩ := h
  refine ag_newarr_int E1 (t0 := 0) q154 rfl hb_333 rfl hb_334 hb_335 dX0_init_178 (fun a_331 f_332 e_336 e_337 => ?_)
  have h := h a_331 f_332 e_336 e_337
  have hP_338 : f_332.1 a_331 = some (.inl (cs 0, (Int32.toNatClampNeg (36 : Int32)), .inl (fun _ => 0))) := by rw [e_337, e_336]; exact wNew_s
  have hP_339 : f_332.1 x0 = some (.inr (1, V_326)) := by rw [e_337]; exact (wNew_o ht_330).trans hP_329
  have ht_340 : x0 < f_332.2.1 := by rw [e_337]; exact Nat.lt_succ_of_lt ht_330
  refine ag_putF E1 (ci := 1) (C := RX0) (T := TX0) (N := 43) (k := 33) (ty := (.array .int)) tyX0 tyX0_ok nmX0 rfl in_X0 (by decide) q699 (fun _ h => h) rfl hin rfl (by decide +kernel) rfl rfl dX0_init_180 hP_339 ?_
  refine ag_named (fun f_341 e_343 => ?_)
  obtain ⟨V_342, e_344⟩ : ∃ V_ : Nat → Value, V_ = updV V_326 33 (.ref a_331) := ⟨_, rfl⟩
  rw [← e_344] at e_343
  have h := h V_342 f_341 e_344 e_343
  have hP_345 : f_341.1 x0 = some (.inr (1, V_342)) := by rw [e_343]; exact updP_s
  have ht_346 : x0 < f_341.2.1 := by rw [e_343]; exact ht_340
  refine ag_aload_n E1 dX0_init_183 rfl 0 rfl ?_
  refine ag_iconst E1 dX0_init_184 ki_m1 ?_
  refine ag_put E1 (ci := 1) (C := RX0) (T := TX0) (N := 43) (k := 34) (ty := .int) tyX0 tyX0_ok nmX0 rfl in_X0 (by decide) q700 (fun _ h => h) rfl (by decide +kernel) rfl rfl dX0_init_185 hP_345 ?_
  refine ag_named (fun f_347 e_349 => ?_)
  obtain ⟨V_348, e_350⟩ : ∃ V_ : Nat → Value, V_ = updV V_342 34 (.int (-1 : Int32)) := ⟨_, rfl⟩
  rw [← e_350] at e_349
  have h := h V_348 f_347 e_350 e_349
  have hP_351 : f_347.1 x0 = some (.inr (1, V_348)) := by rw [e_349]; exact updP_s
  have ht_352 : x0 < f_347.2.1 := by rw [e_349]; exact ht_346
  refine ag_aload_n E1 dX0_init_188 rfl 0 rfl ?_
  refine ag_bipush E1 dX0_init_189 kb_6 ?_
  obtain ⟨hb_355, hb_356, hb_357, h⟩ := h
  refine ag_anewA E1 (t0 := 6) (t := .object "MarketDays$Node") (by rw [show (FieldType.array (.object "MarketDays$Node")).toString = "[LMarketDays$Node;" from by decide +kernel]; exact q155) (xk_over q156) rfl hb_355 rfl hb_356 hb_357 dX0_init_191 (fun a_353 f_354 e_358 e_359 => ?_)
  have h := h a_353 f_354 e_358 e_359
  have hP_360 : f_354.1 a_353 = some (.inl (cs 6, (Int32.toNatClampNeg (6 : Int32)), .inr (.inr (.inr (.inr (fun _ => none)))))) := by rw [e_359, e_358]; exact wNew_s
  have hP_361 : f_354.1 x0 = some (.inr (1, V_348)) := by rw [e_359]; exact (wNew_o ht_352).trans hP_351
  have ht_362 : x0 < f_354.2.1 := by rw [e_359]; exact Nat.lt_succ_of_lt ht_352
  refine ag_putF E1 (ci := 1) (C := RX0) (T := TX0) (N := 43) (k := 38) (ty := (.array (.array (.object "MarketDays$Node")))) tyX0 tyX0_ok nmX0 rfl in_X0 (by decide) q704 (fun _ h => h) rfl hin rfl (by decide +kernel) rfl rfl dX0_init_194 hP_361 ?_
  refine ag_named (fun f_363 e_365 => ?_)
  obtain ⟨V_364, e_366⟩ : ∃ V_ : Nat → Value, V_ = updV V_348 38 (.ref a_353) := ⟨_, rfl⟩
  rw [← e_366] at e_365
  have h := h V_364 f_363 e_366 e_365
  have hP_367 : f_363.1 x0 = some (.inr (1, V_364)) := by rw [e_365]; exact updP_s
  have ht_368 : x0 < f_363.2.1 := by rw [e_365]; exact ht_362
  refine ag_aload_n E1 dX0_init_197 rfl 0 rfl ?_
  refine ag_sipush E1 dX0_init_198 ks_160 ?_
  obtain ⟨hb_371, hb_372, hb_373, h⟩ := h
  refine ag_newarr_byte E1 (t0 := 1) q177 rfl hb_371 rfl hb_372 hb_373 dX0_init_201 (fun a_369 f_370 e_374 e_375 => ?_)
  have h := h a_369 f_370 e_374 e_375
  have hP_376 : f_370.1 a_369 = some (.inl (cs 1, (Int32.toNatClampNeg (160 : Int32)), .inl (fun _ => 0))) := by rw [e_375, e_374]; exact wNew_s
  have hP_377 : f_370.1 x0 = some (.inr (1, V_364)) := by rw [e_375]; exact (wNew_o ht_368).trans hP_367
  have ht_378 : x0 < f_370.2.1 := by rw [e_375]; exact Nat.lt_succ_of_lt ht_368
  refine ag_putF E1 (ci := 1) (C := RX0) (T := TX0) (N := 43) (k := 40) (ty := (.array .byte)) tyX0 tyX0_ok nmX0 rfl in_X0 (by decide) q706 (fun _ h => h) rfl hin rfl (by decide +kernel) rfl rfl dX0_init_203 hP_377 ?_
  refine ag_named (fun f_379 e_381 => ?_)
  obtain ⟨V_380, e_382⟩ : ∃ V_ : Nat → Value, V_ = updV V_364 40 (.ref a_369) := ⟨_, rfl⟩
  rw [← e_382] at e_381
  have h := h V_380 f_379 e_382 e_381
  have hP_383 : f_379.1 x0 = some (.inr (1, V_380)) := by rw [e_381]; exact updP_s
  have ht_384 : x0 < f_379.2.1 := by rw [e_381]; exact ht_378
  refine ag_aload_n E1 dX0_init_206 rfl 0 rfl ?_
  refine ag_iconst E1 dX0_init_207 ki_4 ?_
  obtain ⟨hb_387, hb_388, hb_389, h⟩ := h
  refine ag_anew E1 (t0 := 7) q157 (xk_over q158) rfl hb_387 rfl hb_388 hb_389 dX0_init_208 (fun a_385 f_386 e_390 e_391 => ?_)
  have h := h a_385 f_386 e_390 e_391
  have hP_392 : f_386.1 a_385 = some (.inl (cs 7, (Int32.toNatClampNeg (4 : Int32)), .inr (.inr (.inr (.inr (fun _ => none)))))) := by rw [e_391, e_390]; exact wNew_s
  have hP_393 : f_386.1 x0 = some (.inr (1, V_380)) := by rw [e_391]; exact (wNew_o ht_384).trans hP_383
  have ht_394 : x0 < f_386.2.1 := by rw [e_391]; exact Nat.lt_succ_of_lt ht_384
  refine ag_dup E1 dX0_init_211 rfl ?_
  refine ag_iconst E1 dX0_init_212 ki_0 ?_
  obtain ⟨hb_397, h⟩ := h
  refine ag_new E1 (ci := 2) (C := RX1) (T := TX1) (N := 3) (fs := [.int (0 : Int32), .int (0 : Int32), .null]) tyX1 tyX1_ok in_X1 q157 q159 q87 rfl rfl hb_397 dX0_init_213 (fun a_395 f_396 e_398 e_399 => ?_)
  have h := h a_395 f_396 e_398 e_399
  have hP_400 : f_396.1 a_395 = some (.inr (2, vp_V [.int (0 : Int32), .int (0 : Int32), .null])) := by rw [e_399, e_398]; exact wNew_s
  have hP_401 : f_396.1 x0 = some (.inr (1, V_380)) := by rw [e_399]; exact (wNew_o ht_394).trans hP_393
  have ht_402 : x0 < f_396.2.1 := by rw [e_399]; exact Nat.lt_succ_of_lt ht_394
  refine ag_dup E1 dX0_init_216 rfl ?_
  refine ag_callIN E1 (kX1_init _ _ _ _ _ _ _ _ _ _ h) q162 (xk_nw q160 rfl) q87 q161 rfl hdX1_init (Nat.le_of_ble_eq_true rfl) (Nat.le_of_ble_eq_true rfl) (As := []) rfl (Nat.le_of_ble_eq_true rfl) dX0_init_217 rfl (fun v_ f_403 hv => ?_)
  obtain ⟨rfl, h⟩ := hv
  obtain ⟨n_404, c_405, hP_406, h⟩ := h
  obtain ⟨hin_407, h⟩ := h
  obtain ⟨ci_408, cV_409, hv_410, ho_411, h⟩ := h
  refine ag_aastO E1 (t0 := 7) hP_406 rfl hv_410 (sOk_ok ho_411) hin_407 dX0_init_220 (fun f_412 e_413 => ?_)
  have h := h f_412 e_413
  refine ag_dup E1 dX0_init_221 rfl ?_
  refine ag_iconst E1 dX0_init_222 ki_1 ?_
  obtain ⟨V_414, hP_415, h⟩ := h
  obtain ⟨ht_416, h⟩ := h
  obtain ⟨hb_419, h⟩ := h
  refine ag_new E1 (ci := 2) (C := RX1) (T := TX1) (N := 3) (fs := [.int (0 : Int32), .int (0 : Int32), .null]) tyX1 tyX1_ok in_X1 q157 q159 q87 rfl rfl hb_419 dX0_init_223 (fun a_417 f_418 e_420 e_421 => ?_)
  have h := h a_417 f_418 e_420 e_421
  have hP_422 : f_418.1 a_417 = some (.inr (2, vp_V [.int (0 : Int32), .int (0 : Int32), .null])) := by rw [e_421, e_420]; exact wNew_s
  have hP_423 : f_418.1 x0 = some (.inr (1, V_414)) := by rw [e_421]; exact (wNew_o ht_416).trans hP_415
  have ht_424 : x0 < f_418.2.1 := by rw [e_421]; exact Nat.lt_succ_of_lt ht_416
  refine ag_dup E1 dX0_init_226 rfl ?_
  refine ag_callIN E1 (kX1_init _ _ _ _ _ _ _ _ _ _ h) q162 (xk_nw q160 rfl) q87 q161 rfl hdX1_init (Nat.le_of_ble_eq_true rfl) (Nat.le_of_ble_eq_true rfl) (As := []) rfl (Nat.le_of_ble_eq_true rfl) dX0_init_227 rfl (fun v_ f_425 hv => ?_)
  obtain ⟨rfl, h⟩ := hv
  obtain ⟨n_426, c_427, hP_428, h⟩ := h
  obtain ⟨hin_429, h⟩ := h
  obtain ⟨ci_430, cV_431, hv_432, ho_433, h⟩ := h
  refine ag_aastO E1 (t0 := 7) hP_428 rfl hv_432 (sOk_ok ho_433) hin_429 dX0_init_230 (fun f_434 e_435 => ?_)
  have h := h f_434 e_435
  refine ag_dup E1 dX0_init_231 rfl ?_
  refine ag_iconst E1 dX0_init_232 ki_2 ?_
  obtain ⟨V_436, hP_437, h⟩ := h
  obtain ⟨ht_438, h⟩ := h
  obtain ⟨hb_441, h⟩ := h
  refine ag_new E1 (ci := 2) (C := RX1) (T := TX1) (N := 3) (fs := [.int (0 : Int32), .int (0 : Int32), .null]) tyX1 tyX1_ok in_X1 q157 q159 q87 rfl rfl hb_441 dX0_init_233 (fun a_439 f_440 e_442 e_443 => ?_)
  have h := h a_439 f_440 e_442 e_443
  have hP_444 : f_440.1 a_439 = some (.inr (2, vp_V [.int (0 : Int32), .int (0 : Int32), .null])) := by rw [e_443, e_442]; exact wNew_s
  have hP_445 : f_440.1 x0 = some (.inr (1, V_436)) := by rw [e_443]; exact (wNew_o ht_438).trans hP_437
  have ht_446 : x0 < f_440.2.1 := by rw [e_443]; exact Nat.lt_succ_of_lt ht_438
  refine ag_dup E1 dX0_init_236 rfl ?_
  refine ag_callIN E1 (kX1_init _ _ _ _ _ _ _ _ _ _ h) q162 (xk_nw q160 rfl) q87 q161 rfl hdX1_init (Nat.le_of_ble_eq_true rfl) (Nat.le_of_ble_eq_true rfl) (As := []) rfl (Nat.le_of_ble_eq_true rfl) dX0_init_237 rfl (fun v_ f_447 hv => ?_)
  obtain ⟨rfl, h⟩ := hv
  obtain ⟨n_448, c_449, hP_450, h⟩ := h
  obtain ⟨hin_451, h⟩ := h
  obtain ⟨ci_452, cV_453, hv_454, ho_455, h⟩ := h
  refine ag_aastO E1 (t0 := 7) hP_450 rfl hv_454 (sOk_ok ho_455) hin_451 dX0_init_240 (fun f_456 e_457 => ?_)
  have h := h f_456 e_457
  refine ag_dup E1 dX0_init_241 rfl ?_
  refine ag_iconst E1 dX0_init_242 ki_3 ?_
  obtain ⟨V_458, hP_459, h⟩ := h
  obtain ⟨ht_460, h⟩ := h
  obtain ⟨hb_463, h⟩ := h
  refine ag_new E1 (ci := 2) (C := RX1) (T := TX1) (N := 3) (fs := [.int (0 : Int32), .int (0 : Int32), .null]) tyX1 tyX1_ok in_X1 q157 q159 q87 rfl rfl hb_463 dX0_init_243 (fun a_461 f_462 e_464 e_465 => ?_)
  have h := h a_461 f_462 e_464 e_465
  have hP_466 : f_462.1 a_461 = some (.inr (2, vp_V [.int (0 : Int32), .int (0 : Int32), .null])) := by rw [e_465, e_464]; exact wNew_s
  have hP_467 : f_462.1 x0 = some (.inr (1, V_458)) := by rw [e_465]; exact (wNew_o ht_460).trans hP_459
  have ht_468 : x0 < f_462.2.1 := by rw [e_465]; exact Nat.lt_succ_of_lt ht_460
  refine ag_dup E1 dX0_init_246 rfl ?_
  refine ag_callIN E1 (kX1_init _ _ _ _ _ _ _ _ _ _ h) q162 (xk_nw q160 rfl) q87 q161 rfl hdX1_init (Nat.le_of_ble_eq_true rfl) (Nat.le_of_ble_eq_true rfl) (As := []) rfl (Nat.le_of_ble_eq_true rfl) dX0_init_247 rfl (fun v_ f_469 hv => ?_)
  obtain ⟨rfl, h⟩ := hv
  obtain ⟨n_470, c_471, hP_472, h⟩ := h
  obtain ⟨hin_473, h⟩ := h
  obtain ⟨ci_474, cV_475, hv_476, ho_477, h⟩ := h
  refine ag_aastO E1 (t0 := 7) hP_472 rfl hv_476 (sOk_ok ho_477) hin_473 dX0_init_250 (fun f_478 e_479 => ?_)
  have h := h f_478 e_479
  obtain ⟨V_480, hP_481, h⟩ := h
  refine ag_putF E1 (ci := 1) (C := RX0) (T := TX0) (N := 43) (k := 42) (ty := (.array (.object "MarketDays$Sheet"))) tyX0 tyX0_ok nmX0 rfl in_X0 (by decide) q708 (fun _ h => h) rfl hin rfl (by decide +kernel) rfl rfl dX0_init_251 hP_481 ?_
  refine ag_named (fun f_482 e_484 => ?_)
  obtain ⟨V_483, e_485⟩ : ∃ V_ : Nat → Value, V_ = updV V_480 42 (.ref a_385) := ⟨_, rfl⟩
  rw [← e_485] at e_484
  have h := h V_483 f_482 e_485 e_484
  have hP_486 : f_482.1 x0 = some (.inr (1, V_483)) := by rw [e_484]; exact updP_s
  refine ag_aload_n E1 dX0_init_254 rfl 0 rfl ?_
  obtain ⟨a_487, e_488, h⟩ := h
  refine ag_get E1 (ci := 1) (C := RX0) (T := TX0) (N := 43) (k := 38) rfl in_X0 (by decide) q704 (fun _ h => h) dX0_init_255 hP_486 e_488 ?_
  refine ag_iconst E1 dX0_init_258 ki_0 ?_
  refine ag_ldcS E1 (xk_r 8 rfl) dX0_init_259 ?_
  refine ag_callSX E1 (kX0_read _ _ _ _ _ _ _ _ _ _ _ h) (lw_S q179 q180 q83 q181) hdX0_read (Nat.le_of_ble_eq_true rfl) (Nat.le_of_ble_eq_true rfl) (As := [.ref (ad 8)]) rfl (Nat.le_of_ble_eq_true rfl) dX0_init_261 rfl (fun v_ f_489 hv => ?_) (fun a_ w_ hx => hx.elim)
  obtain ⟨r_490, rfl, h⟩ := hv
  obtain ⟨n_491, c_492, hP_493, h⟩ := h
  obtain ⟨hin_494, h⟩ := h
  obtain ⟨n_495, c_496, hP_497, h⟩ := h
  refine ag_aastA E1 (t0 := 6) (t1 := 5) hP_493 rfl hP_497 rfl rfl (xk_over q156) hin_494 dX0_init_264 (fun f_498 e_499 => ?_)
  have h := h f_498 e_499
  refine ag_aload_n E1 dX0_init_265 rfl 0 rfl ?_
  refine ag_iconst E1 dX0_init_266 ki_1 ?_
  obtain ⟨V_500, hP_501, h⟩ := h
  refine ag_put E1 (ci := 1) (C := RX0) (T := TX0) (N := 43) (k := 39) (ty := .int) tyX0 tyX0_ok nmX0 rfl in_X0 (by decide) q705 (fun _ h => h) rfl (by decide +kernel) rfl rfl dX0_init_267 hP_501 ?_
  refine ag_named (fun f_502 e_504 => ?_)
  obtain ⟨V_503, e_505⟩ : ∃ V_ : Nat → Value, V_ = updV V_500 39 (.int (1 : Int32)) := ⟨_, rfl⟩
  rw [← e_505] at e_504
  have h := h V_503 f_502 e_505 e_504
  have hP_506 : f_502.1 x0 = some (.inr (1, V_503)) := by rw [e_504]; exact updP_s
  exact gw_vret E rfl ⟨rfl, h⟩ dX0_init_270
theorem hdX0_init : yX0_init.cls ≠ "java/lang/invoke/MethodHandle" ∧ yX0_init.cls ≠ "java/lang/invoke/VarHandle" ∧ (parseMethodDescriptor yX0_init.desc).map (fun d => d.parameters.length) = some 0 := by decide +kernel
theorem kX7_init (l : Launch) (D : va_G) (cs : Nat → ClassId) (b : Nat) (H0 : Heap) (ad : Nat → Nat) (vs : Nat → Option Nat) (f : cW) (x0 : Nat) (Q : cW → Prop) (h : wX7_init b cs ad vs f x0 Q) : CON l D clC (tysC cs) b H0 (XKd b H0 ad vs) yX7_init cX7_init 1 none 1 25 [.ref x0] f (qV Q) := by
  refine con_of (by decide) (Nat.le_of_ble_eq_true rfl) (fun p e R s m below meth c E1 h0 hin0 => ?_)
  have E : EX p R s m ([.ref x0] : List Value).toArray meth c cX7_init 1 RX7 none D cs b H0 (XKd b H0 ad vs) [] 1 25 f.2.1 f.2.2 := ⟨E1, h0⟩
  have hin : meth.name = "<init>" := hin0 rfl
  refine ag_sub (lv' := [(0, .ref x0)]) [0] rfl ?_
  refine ag_aload_n E1 dX7_init_0 rfl 0 rfl ?_
  refine ag_objInit E1 q1430 q126 q127 (Nat.le_of_ble_eq_true rfl) (Nat.le_of_ble_eq_true rfl) (Nat.le_of_ble_eq_true rfl) dX7_init_1 ?_
  refine ag_aload_n E1 dX7_init_4 rfl 0 rfl ?_
  refine ag_bipush E1 dX7_init_5 kb_6 ?_
  obtain ⟨V_1, hP_2, h⟩ := h
  obtain ⟨ht_3, h⟩ := h
  obtain ⟨hb_6, hb_7, hb_8, h⟩ := h
  refine ag_newarr_int E1 (t0 := 0) q154 rfl hb_6 rfl hb_7 hb_8 dX7_init_7 (fun a_4 f_5 e_9 e_10 => ?_)
  have h := h a_4 f_5 e_9 e_10
  have hP_11 : f_5.1 a_4 = some (.inl (cs 0, (Int32.toNatClampNeg (6 : Int32)), .inl (fun _ => 0))) := by rw [e_10, e_9]; exact wNew_s
  have hP_12 : f_5.1 x0 = some (.inr (0, V_1)) := by rw [e_10]; exact (wNew_o ht_3).trans hP_2
  have ht_13 : x0 < f_5.2.1 := by rw [e_10]; exact Nat.lt_succ_of_lt ht_3
  refine ag_putF E1 (ci := 0) (C := RX7) (T := TX7) (N := 56) (k := 1) (ty := (.array .int)) tyX7 tyX7_ok nmX7 rfl in_X7 (by decide) q1451 (fun _ h => h) rfl hin rfl (by decide +kernel) rfl rfl dX7_init_9 hP_12 ?_
  refine ag_named (fun f_14 e_16 => ?_)
  obtain ⟨V_15, e_17⟩ : ∃ V_ : Nat → Value, V_ = updV V_1 1 (.ref a_4) := ⟨_, rfl⟩
  rw [← e_17] at e_16
  have h := h V_15 f_14 e_17 e_16
  have hP_18 : f_14.1 x0 = some (.inr (0, V_15)) := by rw [e_16]; exact updP_s
  have ht_19 : x0 < f_14.2.1 := by rw [e_16]; exact ht_13
  refine ag_aload_n E1 dX7_init_12 rfl 0 rfl ?_
  refine ag_bipush E1 dX7_init_13 kb_6 ?_
  obtain ⟨hb_22, hb_23, hb_24, h⟩ := h
  refine ag_newarr_int E1 (t0 := 0) q154 rfl hb_22 rfl hb_23 hb_24 dX7_init_15 (fun a_20 f_21 e_25 e_26 => ?_)
  have h := h a_20 f_21 e_25 e_26
  have hP_27 : f_21.1 a_20 = some (.inl (cs 0, (Int32.toNatClampNeg (6 : Int32)), .inl (fun _ => 0))) := by rw [e_26, e_25]; exact wNew_s
  have hP_28 : f_21.1 x0 = some (.inr (0, V_15)) := by rw [e_26]; exact (wNew_o ht_19).trans hP_18
  have ht_29 : x0 < f_21.2.1 := by rw [e_26]; exact Nat.lt_succ_of_lt ht_19
  refine ag_putF E1 (ci := 0) (C := RX7) (T := TX7) (N := 56) (k := 2) (ty := (.array .int)) tyX7 tyX7_ok nmX7 rfl in_X7 (by decide) q1452 (fun _ h => h) rfl hin rfl (by decide +kernel) rfl rfl dX7_init_17 hP_28 ?_
  refine ag_named (fun f_30 e_32 => ?_)
  obtain ⟨V_31, e_33⟩ : ∃ V_ : Nat → Value, V_ = updV V_15 2 (.ref a_20) := ⟨_, rfl⟩
  rw [← e_33] at e_32
  have h := h V_31 f_30 e_33 e_32
  have hP_34 : f_30.1 x0 = some (.inr (0, V_31)) := by rw [e_32]; exact updP_s
  have ht_35 : x0 < f_30.2.1 := by rw [e_32]; exact ht_29
  refine ag_aload_n E1 dX7_init_20 rfl 0 rfl ?_
  refine ag_bipush E1 dX7_init_21 kb_6 ?_
  obtain ⟨hb_38, hb_39, hb_40, h⟩ := h
  refine ag_newarr_int E1 (t0 := 0) q154 rfl hb_38 rfl hb_39 hb_40 dX7_init_23 (fun a_36 f_37 e_41 e_42 => ?_)
  have h := h a_36 f_37 e_41 e_42
  have hP_43 : f_37.1 a_36 = some (.inl (cs 0, (Int32.toNatClampNeg (6 : Int32)), .inl (fun _ => 0))) := by rw [e_42, e_41]; exact wNew_s
  have hP_44 : f_37.1 x0 = some (.inr (0, V_31)) := by rw [e_42]; exact (wNew_o ht_35).trans hP_34
  have ht_45 : x0 < f_37.2.1 := by rw [e_42]; exact Nat.lt_succ_of_lt ht_35
  refine ag_putF E1 (ci := 0) (C := RX7) (T := TX7) (N := 56) (k := 3) (ty := (.array .int)) tyX7 tyX7_ok nmX7 rfl in_X7 (by decide) q1453 (fun _ h => h) rfl hin rfl (by decide +kernel) rfl rfl dX7_init_25 hP_44 ?_
  refine ag_named (fun f_46 e_48 => ?_)
  obtain ⟨V_47, e_49⟩ : ∃ V_ : Nat → Value, V_ = updV V_31 3 (.ref a_36) := ⟨_, rfl⟩
  rw [← e_49] at e_48
  have h := h V_47 f_46 e_49 e_48
  have hP_50 : f_46.1 x0 = some (.inr (0, V_47)) := by rw [e_48]; exact updP_s
  have ht_51 : x0 < f_46.2.1 := by rw [e_48]; exact ht_45
  refine ag_aload_n E1 dX7_init_28 rfl 0 rfl ?_
  refine ag_bipush E1 dX7_init_29 kb_6 ?_
  obtain ⟨hb_54, hb_55, hb_56, h⟩ := h
  refine ag_newarr_int E1 (t0 := 0) q154 rfl hb_54 rfl hb_55 hb_56 dX7_init_31 (fun a_52 f_53 e_57 e_58 => ?_)
  have h := h a_52 f_53 e_57 e_58
  have hP_59 : f_53.1 a_52 = some (.inl (cs 0, (Int32.toNatClampNeg (6 : Int32)), .inl (fun _ => 0))) := by rw [e_58, e_57]; exact wNew_s
  have hP_60 : f_53.1 x0 = some (.inr (0, V_47)) := by rw [e_58]; exact (wNew_o ht_51).trans hP_50
  have ht_61 : x0 < f_53.2.1 := by rw [e_58]; exact Nat.lt_succ_of_lt ht_51
  refine ag_putF E1 (ci := 0) (C := RX7) (T := TX7) (N := 56) (k := 4) (ty := (.array .int)) tyX7 tyX7_ok nmX7 rfl in_X7 (by decide) q1454 (fun _ h => h) rfl hin rfl (by decide +kernel) rfl rfl dX7_init_33 hP_60 ?_
  refine ag_named (fun f_62 e_64 => ?_)
  obtain ⟨V_63, e_65⟩ : ∃ V_ : Nat → Value, V_ = updV V_47 4 (.ref a_52) := ⟨_, rfl⟩
  rw [← e_65] at e_64
  have h := h V_63 f_62 e_65 e_64
  have hP_66 : f_62.1 x0 = some (.inr (0, V_63)) := by rw [e_64]; exact updP_s
  have ht_67 : x0 < f_62.2.1 := by rw [e_64]; exact ht_61
  refine ag_aload_n E1 dX7_init_36 rfl 0 rfl ?_
  refine ag_bipush E1 dX7_init_37 kb_36 ?_
  obtain ⟨hb_70, hb_71, hb_72, h⟩ := h
  refine ag_newarr_int E1 (t0 := 0) q154 rfl hb_70 rfl hb_71 hb_72 dX7_init_39 (fun a_68 f_69 e_73 e_74 => ?_)
  have h := h a_68 f_69 e_73 e_74
  have hP_75 : f_69.1 a_68 = some (.inl (cs 0, (Int32.toNatClampNeg (36 : Int32)), .inl (fun _ => 0))) := by rw [e_74, e_73]; exact wNew_s
  have hP_76 : f_69.1 x0 = some (.inr (0, V_63)) := by rw [e_74]; exact (wNew_o ht_67).trans hP_66
  have ht_77 : x0 < f_69.2.1 := by rw [e_74]; exact Nat.lt_succ_of_lt ht_67
  refine ag_putF E1 (ci := 0) (C := RX7) (T := TX7) (N := 56) (k := 5) (ty := (.array .int)) tyX7 tyX7_ok nmX7 rfl in_X7 (by decide) q1455 (fun _ h => h) rfl hin rfl (by decide +kernel) rfl rfl dX7_init_41 hP_76 ?_
  refine ag_named (fun f_78 e_80 => ?_)
  obtain ⟨V_79, e_81⟩ : ∃ V_ : Nat → Value, V_ = updV V_63 5 (.ref a_68) := ⟨_, rfl⟩
  rw [← e_81] at e_80
  have h := h V_79 f_78 e_81 e_80
  have hP_82 : f_78.1 x0 = some (.inr (0, V_79)) := by rw [e_80]; exact updP_s
  have ht_83 : x0 < f_78.2.1 := by rw [e_80]; exact ht_77
  refine ag_aload_n E1 dX7_init_44 rfl 0 rfl ?_
  refine ag_bipush E1 dX7_init_45 kb_6 ?_
  refine ag_put E1 (ci := 0) (C := RX7) (T := TX7) (N := 56) (k := 6) (ty := .int) tyX7 tyX7_ok nmX7 rfl in_X7 (by decide) q1456 (fun _ h => h) rfl (by decide +kernel) rfl rfl dX7_init_47 hP_82 ?_
  refine ag_named (fun f_84 e_86 => ?_)
  obtain ⟨V_85, e_87⟩ : ∃ V_ : Nat → Value, V_ = updV V_79 6 (.int (6 : Int32)) := ⟨_, rfl⟩
  rw [← e_87] at e_86
  have h := h V_85 f_84 e_87 e_86
  have hP_88 : f_84.1 x0 = some (.inr (0, V_85)) := by rw [e_86]; exact updP_s
  have ht_89 : x0 < f_84.2.1 := by rw [e_86]; exact ht_83
  refine ag_aload_n E1 dX7_init_50 rfl 0 rfl ?_
  refine ag_bipush E1 dX7_init_51 kb_10 ?_
  obtain ⟨hb_92, hb_93, hb_94, h⟩ := h
  refine ag_newarr_int E1 (t0 := 0) q154 rfl hb_92 rfl hb_93 hb_94 dX7_init_53 (fun a_90 f_91 e_95 e_96 => ?_)
  have h := h a_90 f_91 e_95 e_96
  have hP_97 : f_91.1 a_90 = some (.inl (cs 0, (Int32.toNatClampNeg (10 : Int32)), .inl (fun _ => 0))) := by rw [e_96, e_95]; exact wNew_s
  have hP_98 : f_91.1 x0 = some (.inr (0, V_85)) := by rw [e_96]; exact (wNew_o ht_89).trans hP_88
  have ht_99 : x0 < f_91.2.1 := by rw [e_96]; exact Nat.lt_succ_of_lt ht_89
  refine ag_putF E1 (ci := 0) (C := RX7) (T := TX7) (N := 56) (k := 8) (ty := (.array .int)) tyX7 tyX7_ok nmX7 rfl in_X7 (by decide) q1458 (fun _ h => h) rfl hin rfl (by decide +kernel) rfl rfl dX7_init_55 hP_98 ?_
  refine ag_named (fun f_100 e_102 => ?_)
  obtain ⟨V_101, e_103⟩ : ∃ V_ : Nat → Value, V_ = updV V_85 8 (.ref a_90) := ⟨_, rfl⟩
  rw [← e_103] at e_102
  have h := h V_101 f_100 e_103 e_102
  have hP_104 : f_100.1 x0 = some (.inr (0, V_101)) := by rw [e_102]; exact updP_s
  have ht_105 : x0 < f_100.2.1 := by rw [e_102]; exact ht_99
  refine ag_aload_n E1 dX7_init_58 rfl 0 rfl ?_
  refine ag_bipush E1 dX7_init_59 kb_10 ?_
  obtain ⟨hb_108, hb_109, hb_110, h⟩ := h
  refine ag_newarr_int E1 (t0 := 0) q154 rfl hb_108 rfl hb_109 hb_110 dX7_init_61 (fun a_106 f_107 e_111 e_112 => ?_)
  have h := h a_106 f_107 e_111 e_112
  have hP_113 : f_107.1 a_106 = some (.inl (cs 0, (Int32.toNatClampNeg (10 : Int32)), .inl (fun _ => 0))) := by rw [e_112, e_111]; exact wNew_s
  have hP_114 : f_107.1 x0 = some (.inr (0, V_101)) := by rw [e_112]; exact (wNew_o ht_105).trans hP_104
  have ht_115 : x0 < f_107.2.1 := by rw [e_112]; exact Nat.lt_succ_of_lt ht_105
  refine ag_putF E1 (ci := 0) (C := RX7) (T := TX7) (N := 56) (k := 9) (ty := (.array .int)) tyX7 tyX7_ok nmX7 rfl in_X7 (by decide) q1459 (fun _ h => h) rfl hin rfl (by decide +kernel) rfl rfl dX7_init_63 hP_114 ?_
  refine ag_named (fun f_116 e_118 => ?_)
  obtain ⟨V_117, e_119⟩ : ∃ V_ : Nat → Value, V_ = updV V_101 9 (.ref a_106) := ⟨_, rfl⟩
  rw [← e_119] at e_118
  have h := h V_117 f_116 e_119 e_118
  have hP_120 : f_116.1 x0 = some (.inr (0, V_117)) := by rw [e_118]; exact updP_s
  have ht_121 : x0 < f_116.2.1 := by rw [e_118]; exact ht_115
  refine ag_aload_n E1 dX7_init_66 rfl 0 rfl ?_
  refine ag_sipush E1 dX7_init_67 ks_160 ?_
  obtain ⟨hb_124, hb_125, hb_126, h⟩ := h
  refine ag_newarr_int E1 (t0 := 0) q154 rfl hb_124 rfl hb_125 hb_126 dX7_init_70 (fun a_122 f_123 e_127 e_128 => ?_)
  have h := h a_122 f_123 e_127 e_128
  have hP_129 : f_123.1 a_122 = some (.inl (cs 0, (Int32.toNatClampNeg (160 : Int32)), .inl (fun _ => 0))) := by rw [e_128, e_127]; exact wNew_s
  have hP_130 : f_123.1 x0 = some (.inr (0, V_117)) := by rw [e_128]; exact (wNew_o ht_121).trans hP_120
  have ht_131 : x0 < f_123.2.1 := by rw [e_128]; exact Nat.lt_succ_of_lt ht_121
  refine ag_putF E1 (ci := 0) (C := RX7) (T := TX7) (N := 56) (k := 10) (ty := (.array .int)) tyX7 tyX7_ok nmX7 rfl in_X7 (by decide) q1460 (fun _ h => h) rfl hin rfl (by decide +kernel) rfl rfl dX7_init_72 hP_130 ?_
  refine ag_named (fun f_132 e_134 => ?_)
  obtain ⟨V_133, e_135⟩ : ∃ V_ : Nat → Value, V_ = updV V_117 10 (.ref a_122) := ⟨_, rfl⟩
  rw [← e_135] at e_134
  have h := h V_133 f_132 e_135 e_134
  have hP_136 : f_132.1 x0 = some (.inr (0, V_133)) := by rw [e_134]; exact updP_s
  have ht_137 : x0 < f_132.2.1 := by rw [e_134]; exact ht_131
  refine ag_aload_n E1 dX7_init_75 rfl 0 rfl ?_
  refine ag_sipush E1 dX7_init_76 ks_1200 ?_
  obtain ⟨hb_140, hb_141, hb_142, h⟩ := h
  refine ag_newarr_int E1 (t0 := 0) q154 rfl hb_140 rfl hb_141 hb_142 dX7_init_79 (fun a_138 f_139 e_143 e_144 => ?_)
  have h := h a_138 f_139 e_143 e_144
  have hP_145 : f_139.1 a_138 = some (.inl (cs 0, (Int32.toNatClampNeg (1200 : Int32)), .inl (fun _ => 0))) := by rw [e_144, e_143]; exact wNew_s
  have hP_146 : f_139.1 x0 = some (.inr (0, V_133)) := by rw [e_144]; exact (wNew_o ht_137).trans hP_136
  have ht_147 : x0 < f_139.2.1 := by rw [e_144]; exact Nat.lt_succ_of_lt ht_137
  refine ag_putF E1 (ci := 0) (C := RX7) (T := TX7) (N := 56) (k := 12) (ty := (.array .int)) tyX7 tyX7_ok nmX7 rfl in_X7 (by decide) q1462 (fun _ h => h) rfl hin rfl (by decide +kernel) rfl rfl dX7_init_81 hP_146 ?_
  refine ag_named (fun f_148 e_150 => ?_)
  obtain ⟨V_149, e_151⟩ : ∃ V_ : Nat → Value, V_ = updV V_133 12 (.ref a_138) := ⟨_, rfl⟩
  rw [← e_151] at e_150
  have h := h V_149 f_148 e_151 e_150
  have hP_152 : f_148.1 x0 = some (.inr (0, V_149)) := by rw [e_150]; exact updP_s
  have ht_153 : x0 < f_148.2.1 := by rw [e_150]; exact ht_147
  refine ag_aload_n E1 dX7_init_84 rfl 0 rfl ?_
  refine ag_bipush E1 dX7_init_85 kb_24 ?_
  obtain ⟨hb_156, hb_157, hb_158, h⟩ := h
  refine ag_newarr_int E1 (t0 := 0) q154 rfl hb_156 rfl hb_157 hb_158 dX7_init_87 (fun a_154 f_155 e_159 e_160 => ?_)
  have h := h a_154 f_155 e_159 e_160
  have hP_161 : f_155.1 a_154 = some (.inl (cs 0, (Int32.toNatClampNeg (24 : Int32)), .inl (fun _ => 0))) := by rw [e_160, e_159]; exact wNew_s
  have hP_162 : f_155.1 x0 = some (.inr (0, V_149)) := by rw [e_160]; exact (wNew_o ht_153).trans hP_152
  have ht_163 : x0 < f_155.2.1 := by rw [e_160]; exact Nat.lt_succ_of_lt ht_153
  refine ag_putF E1 (ci := 0) (C := RX7) (T := TX7) (N := 56) (k := 13) (ty := (.array .int)) tyX7 tyX7_ok nmX7 rfl in_X7 (by decide) q1463 (fun _ h => h) rfl hin rfl (by decide +kernel) rfl rfl dX7_init_89 hP_162 ?_
  refine ag_named (fun f_164 e_166 => ?_)
  obtain ⟨V_165, e_167⟩ : ∃ V_ : Nat → Value, V_ = updV V_149 13 (.ref a_154) := ⟨_, rfl⟩
  rw [← e_167] at e_166
  have h := h V_165 f_164 e_167 e_166
  have hP_168 : f_164.1 x0 = some (.inr (0, V_165)) := by rw [e_166]; exact updP_s
  have ht_169 : x0 < f_164.2.1 := by rw [e_166]; exact ht_163
  refine ag_aload_n E1 dX7_init_92 rfl 0 rfl ?_
  refine ag_iconst E1 dX7_init_93 ki_1 ?_
  refine ag_put E1 (ci := 0) (C := RX7) (T := TX7) (N := 56) (k := 14) (ty := .int) tyX7 tyX7_ok nmX7 rfl in_X7 (by decide) q1464 (fun _ h => h) rfl (by decide +kernel) rfl rfl dX7_init_94 hP_168 ?_
  refine ag_named (fun f_170 e_172 => ?_)
  obtain ⟨V_171, e_173⟩ : ∃ V_ : Nat → Value, V_ = updV V_165 14 (.int (1 : Int32)) := ⟨_, rfl⟩
  rw [← e_173] at e_172
  have h := h V_171 f_170 e_173 e_172
  have hP_174 : f_170.1 x0 = some (.inr (0, V_171)) := by rw [e_172]; exact updP_s
  have ht_175 : x0 < f_170.2.1 := by rw [e_172]; exact ht_169
  refine ag_aload_n E1 dX7_init_97 rfl 0 rfl ?_
  refine ag_bipush E1 dX7_init_98 kb_12 ?_
  obtain ⟨hb_178, hb_179, hb_180, h⟩ := h
  refine ag_newarr_int E1 (t0 := 0) q154 rfl hb_178 rfl hb_179 hb_180 dX7_init_100 (fun a_176 f_177 e_181 e_182 => ?_)
  have h := h a_176 f_177 e_181 e_182
  have hP_183 : f_177.1 a_176 = some (.inl (cs 0, (Int32.toNatClampNeg (12 : Int32)), .inl (fun _ => 0))) := by rw [e_182, e_181]; exact wNew_s
  have hP_184 : f_177.1 x0 = some (.inr (0, V_171)) := by rw [e_182]; exact (wNew_o ht_175).trans hP_174
  have ht_185 : x0 < f_177.2.1 := by rw [e_182]; exact Nat.lt_succ_of_lt ht_175
  refine ag_putF E1 (ci := 0) (C := RX7) (T := TX7) (N := 56) (k := 17) (ty := (.array .int)) tyX7 tyX7_ok nmX7 rfl in_X7 (by decide) q1467 (fun _ h => h) rfl hin rfl (by decide +kernel) rfl rfl dX7_init_102 hP_184 ?_
  refine ag_named (fun f_186 e_188 => ?_)
  obtain ⟨V_187, e_189⟩ : ∃ V_ : Nat → Value, V_ = updV V_171 17 (.ref a_176) := ⟨_, rfl⟩
  rw [← e_189] at e_188
  have h := h V_187 f_186 e_189 e_188
  have hP_190 : f_186.1 x0 = some (.inr (0, V_187)) := by rw [e_188]; exact updP_s
  have ht_191 : x0 < f_186.2.1 := by rw [e_188]; exact ht_185
  refine ag_aload_n E1 dX7_init_105 rfl 0 rfl ?_
  refine ag_bipush E1 dX7_init_106 kb_12 ?_
  obtain ⟨hb_194, hb_195, hb_196, h⟩ := h
  refine ag_newarr_int E1 (t0 := 0) q154 rfl hb_194 rfl hb_195 hb_196 dX7_init_108 (fun a_192 f_193 e_197 e_198 => ?_)
  have h := h a_192 f_193 e_197 e_198
  have hP_199 : f_193.1 a_192 = some (.inl (cs 0, (Int32.toNatClampNeg (12 : Int32)), .inl (fun _ => 0))) := by rw [e_198, e_197]; exact wNew_s
  have hP_200 : f_193.1 x0 = some (.inr (0, V_187)) := by rw [e_198]; exact (wNew_o ht_191).trans hP_190
  have ht_201 : x0 < f_193.2.1 := by rw [e_198]; exact Nat.lt_succ_of_lt ht_191
  refine ag_putF E1 (ci := 0) (C := RX7) (T := TX7) (N := 56) (k := 18) (ty := (.array .int)) tyX7 tyX7_ok nmX7 rfl in_X7 (by decide) q1468 (fun _ h => h) rfl hin rfl (by decide +kernel) rfl rfl dX7_init_110 hP_200 ?_
  refine ag_named (fun f_202 e_204 => ?_)
  obtain ⟨V_203, e_205⟩ : ∃ V_ : Nat → Value, V_ = updV V_187 18 (.ref a_192) := ⟨_, rfl⟩
  rw [← e_205] at e_204
  have h := h V_203 f_202 e_205 e_204
  have hP_206 : f_202.1 x0 = some (.inr (0, V_203)) := by rw [e_204]; exact updP_s
  have ht_207 : x0 < f_202.2.1 := by rw [e_204]; exact ht_201
  refine ag_aload_n E1 dX7_init_113 rfl 0 rfl ?_
  refine ag_bipush E1 dX7_init_114 kb_72 ?_
  obtain ⟨hb_210, hb_211, hb_212, h⟩ := h
  refine ag_newarr_int E1 (t0 := 0) q154 rfl hb_210 rfl hb_211 hb_212 dX7_init_116 (fun a_208 f_209 e_213 e_214 => ?_)
  have h := h a_208 f_209 e_213 e_214
  have hP_215 : f_209.1 a_208 = some (.inl (cs 0, (Int32.toNatClampNeg (72 : Int32)), .inl (fun _ => 0))) := by rw [e_214, e_213]; exact wNew_s
  have hP_216 : f_209.1 x0 = some (.inr (0, V_203)) := by rw [e_214]; exact (wNew_o ht_207).trans hP_206
  have ht_217 : x0 < f_209.2.1 := by rw [e_214]; exact Nat.lt_succ_of_lt ht_207
  refine ag_putF E1 (ci := 0) (C := RX7) (T := TX7) (N := 56) (k := 19) (ty := (.array .int)) tyX7 tyX7_ok nmX7 rfl in_X7 (by decide) q1469 (fun _ h => h) rfl hin rfl (by decide +kernel) rfl rfl dX7_init_118 hP_216 ?_
  refine ag_named (fun f_218 e_220 => ?_)
  obtain ⟨V_219, e_221⟩ : ∃ V_ : Nat → Value, V_ = updV V_203 19 (.ref a_208) := ⟨_, rfl⟩
  rw [← e_221] at e_220
  have h := h V_219 f_218 e_221 e_220
  have hP_222 : f_218.1 x0 = some (.inr (0, V_219)) := by rw [e_220]; exact updP_s
  have ht_223 : x0 < f_218.2.1 := by rw [e_220]; exact ht_217
  refine ag_aload_n E1 dX7_init_121 rfl 0 rfl ?_
  refine ag_bipush E1 dX7_init_122 kb_6 ?_
  obtain ⟨hb_226, hb_227, hb_228, h⟩ := h
  refine ag_newarr_int E1 (t0 := 0) q154 rfl hb_226 rfl hb_227 hb_228 dX7_init_124 (fun a_224 f_225 e_229 e_230 => ?_)
  have h := h a_224 f_225 e_229 e_230
  have hP_231 : f_225.1 a_224 = some (.inl (cs 0, (Int32.toNatClampNeg (6 : Int32)), .inl (fun _ => 0))) := by rw [e_230, e_229]; exact wNew_s
  have hP_232 : f_225.1 x0 = some (.inr (0, V_219)) := by rw [e_230]; exact (wNew_o ht_223).trans hP_222
  have ht_233 : x0 < f_225.2.1 := by rw [e_230]; exact Nat.lt_succ_of_lt ht_223
  refine ag_putF E1 (ci := 0) (C := RX7) (T := TX7) (N := 56) (k := 22) (ty := (.array .int)) tyX7 tyX7_ok nmX7 rfl in_X7 (by decide) q1472 (fun _ h => h) rfl hin rfl (by decide +kernel) rfl rfl dX7_init_126 hP_232 ?_
  refine ag_named (fun f_234 e_236 => ?_)
  obtain ⟨V_235, e_237⟩ : ∃ V_ : Nat → Value, V_ = updV V_219 22 (.ref a_224) := ⟨_, rfl⟩
  rw [← e_237] at e_236
  have h := h V_235 f_234 e_237 e_236
  have hP_238 : f_234.1 x0 = some (.inr (0, V_235)) := by rw [e_236]; exact updP_s
  have ht_239 : x0 < f_234.2.1 := by rw [e_236]; exact ht_233
  refine ag_aload_n E1 dX7_init_129 rfl 0 rfl ?_
  refine ag_bipush E1 dX7_init_130 kb_7 ?_
  obtain ⟨hb_242, hb_243, hb_244, h⟩ := h
  refine ag_newarr_int E1 (t0 := 0) q154 rfl hb_242 rfl hb_243 hb_244 dX7_init_132 (fun a_240 f_241 e_245 e_246 => ?_)
  have h := h a_240 f_241 e_245 e_246
  have hP_247 : f_241.1 a_240 = some (.inl (cs 0, (Int32.toNatClampNeg (7 : Int32)), .inl (fun _ => 0))) := by rw [e_246, e_245]; exact wNew_s
  have hP_248 : f_241.1 x0 = some (.inr (0, V_235)) := by rw [e_246]; exact (wNew_o ht_239).trans hP_238
  have ht_249 : x0 < f_241.2.1 := by rw [e_246]; exact Nat.lt_succ_of_lt ht_239
  refine ag_putF E1 (ci := 0) (C := RX7) (T := TX7) (N := 56) (k := 24) (ty := (.array .int)) tyX7 tyX7_ok nmX7 rfl in_X7 (by decide) q1474 (fun _ h => h) rfl hin rfl (by decide +kernel) rfl rfl dX7_init_134 hP_248 ?_
  refine ag_named (fun f_250 e_252 => ?_)
  obtain ⟨V_251, e_253⟩ : ∃ V_ : Nat → Value, V_ = updV V_235 24 (.ref a_240) := ⟨_, rfl⟩
  rw [← e_253] at e_252
  have h := h V_251 f_250 e_253 e_252
  have hP_254 : f_250.1 x0 = some (.inr (0, V_251)) := by rw [e_252]; exact updP_s
  have ht_255 : x0 < f_250.2.1 := by rw [e_252]; exact ht_249
  refine ag_aload_n E1 dX7_init_137 rfl 0 rfl ?_
  refine ag_bipush E1 dX7_init_138 kb_6 ?_
  obtain ⟨hb_258, hb_259, hb_260, h⟩ := h
  refine ag_newarr_int E1 (t0 := 0) q154 rfl hb_258 rfl hb_259 hb_260 dX7_init_140 (fun a_256 f_257 e_261 e_262 => ?_)
  have h := h a_256 f_257 e_261 e_262
  have hP_263 : f_257.1 a_256 = some (.inl (cs 0, (Int32.toNatClampNeg (6 : Int32)), .inl (fun _ => 0))) := by rw [e_262, e_261]; exact wNew_s
  have hP_264 : f_257.1 x0 = some (.inr (0, V_251)) := by rw [e_262]; exact (wNew_o ht_255).trans hP_254
  have ht_265 : x0 < f_257.2.1 := by rw [e_262]; exact Nat.lt_succ_of_lt ht_255
  refine ag_putF E1 (ci := 0) (C := RX7) (T := TX7) (N := 56) (k := 30) (ty := (.array .int)) tyX7 tyX7_ok nmX7 rfl in_X7 (by decide) q1480 (fun _ h => h) rfl hin rfl (by decide +kernel) rfl rfl dX7_init_142 hP_264 ?_
  refine ag_named (fun f_266 e_268 => ?_)
  obtain ⟨V_267, e_269⟩ : ∃ V_ : Nat → Value, V_ = updV V_251 30 (.ref a_256) := ⟨_, rfl⟩
  rw [← e_269] at e_268
  have h := h V_267 f_266 e_269 e_268
  have hP_270 : f_266.1 x0 = some (.inr (0, V_267)) := by rw [e_268]; exact updP_s
  have ht_271 : x0 < f_266.2.1 := by rw [e_268]; exact ht_265
  refine ag_aload_n E1 dX7_init_145 rfl 0 rfl ?_
  refine ag_bipush E1 dX7_init_146 kb_6 ?_
  obtain ⟨hb_274, hb_275, hb_276, h⟩ := h
  refine ag_newarr_int E1 (t0 := 0) q154 rfl hb_274 rfl hb_275 hb_276 dX7_init_148 (fun a_272 f_273 e_277 e_278 => ?_)
  have h := h a_272 f_273 e_277 e_278
  have hP_279 : f_273.1 a_272 = some (.inl (cs 0, (Int32.toNatClampNeg (6 : Int32)), .inl (fun _ => 0))) := by rw [e_278, e_277]; exact wNew_s
  have hP_280 : f_273.1 x0 = some (.inr (0, V_267)) := by rw [e_278]; exact (wNew_o ht_271).trans hP_270
  have ht_281 : x0 < f_273.2.1 := by rw [e_278]; exact Nat.lt_succ_of_lt ht_271
  refine ag_putF E1 (ci := 0) (C := RX7) (T := TX7) (N := 56) (k := 31) (ty := (.array .int)) tyX7 tyX7_ok nmX7 rfl in_X7 (by decide) q1481 (fun _ h => h) rfl hin rfl (by decide +kernel) rfl rfl dX7_init_150 hP_280 ?_
  refine ag_named (fun f_282 e_284 => ?_)
  obtain ⟨V_283, e_285⟩ : ∃ V_ : Nat → Value, V_ = updV V_267 31 (.ref a_272) := ⟨_, rfl⟩
  rw [← e_285] at e_284
  have h := h V_283 f_282 e_285 e_284
  have hP_286 : f_282.1 x0 = some (.inr (0, V_283)) := by rw [e_284]; exact updP_s
  have ht_287 : x0 < f_282.2.1 := by rw [e_284]; exact ht_281
  refine ag_aload_n E1 dX7_init_153 rfl 0 rfl ?_
  refine ag_bipush E1 dX7_init_154 kb_6 ?_
  obtain ⟨hb_290, hb_291, hb_292, h⟩ := h
  refine ag_newarr_int E1 (t0 := 0) q154 rfl hb_290 rfl hb_291 hb_292 dX7_init_156 (fun a_288 f_289 e_293 e_294 => ?_)
  have h := h a_288 f_289 e_293 e_294
  have hP_295 : f_289.1 a_288 = some (.inl (cs 0, (Int32.toNatClampNeg (6 : Int32)), .inl (fun _ => 0))) := by rw [e_294, e_293]; exact wNew_s
  have hP_296 : f_289.1 x0 = some (.inr (0, V_283)) := by rw [e_294]; exact (wNew_o ht_287).trans hP_286
  have ht_297 : x0 < f_289.2.1 := by rw [e_294]; exact Nat.lt_succ_of_lt ht_287
  refine ag_putF E1 (ci := 0) (C := RX7) (T := TX7) (N := 56) (k := 32) (ty := (.array .int)) tyX7 tyX7_ok nmX7 rfl in_X7 (by decide) q1482 (fun _ h => h) rfl hin rfl (by decide +kernel) rfl rfl dX7_init_158 hP_296 ?_
  refine ag_named (fun f_298 e_300 => ?_)
  obtain ⟨V_299, e_301⟩ : ∃ V_ : Nat → Value, V_ = updV V_283 32 (.ref a_288) := ⟨_, rfl⟩
  rw [← e_301] at e_300
  have h := h V_299 f_298 e_301 e_300
  have hP_302 : f_298.1 x0 = some (.inr (0, V_299)) := by rw [e_300]; exact updP_s
  have ht_303 : x0 < f_298.2.1 := by rw [e_300]; exact ht_297
  refine ag_aload_n E1 dX7_init_161 rfl 0 rfl ?_
  refine ag_bipush E1 dX7_init_162 kb_36 ?_
  obtain ⟨hb_306, hb_307, hb_308, h⟩ := h
  refine ag_newarr_int E1 (t0 := 0) q154 rfl hb_306 rfl hb_307 hb_308 dX7_init_164 (fun a_304 f_305 e_309 e_310 => ?_)
  have h := h a_304 f_305 e_309 e_310
  have hP_311 : f_305.1 a_304 = some (.inl (cs 0, (Int32.toNatClampNeg (36 : Int32)), .inl (fun _ => 0))) := by rw [e_310, e_309]; exact wNew_s
  have hP_312 : f_305.1 x0 = some (.inr (0, V_299)) := by rw [e_310]; exact (wNew_o ht_303).trans hP_302
  have ht_313 : x0 < f_305.2.1 := by rw [e_310]; exact Nat.lt_succ_of_lt ht_303
  refine ag_putF E1 (ci := 0) (C := RX7) (T := TX7) (N := 56) (k := 33) (ty := (.array .int)) tyX7 tyX7_ok nmX7 rfl in_X7 (by decide) q1483 (fun _ h => h) rfl hin rfl (by decide +kernel) rfl rfl dX7_init_166 hP_312 ?_
  refine ag_named (fun f_314 e_316 => ?_)
  obtain ⟨V_315, e_317⟩ : ∃ V_ : Nat → Value, V_ = updV V_299 33 (.ref a_304) := ⟨_, rfl⟩
  rw [← e_317] at e_316
  have h := h V_315 f_314 e_317 e_316
  have hP_318 : f_314.1 x0 = some (.inr (0, V_315)) := by rw [e_316]; exact updP_s
  have ht_319 : x0 < f_314.2.1 := by rw [e_316]; exact ht_313
  refine ag_aload_n E1 dX7_init_169 rfl 0 rfl ?_
  refine ag_bipush E1 dX7_init_170 kb_10 ?_
  obtain ⟨hb_322, hb_323, hb_324, h⟩ := h
  refine ag_newarr_int E1 (t0 := 0) q154 rfl hb_322 rfl hb_323 hb_324 dX7_init_172 (fun a_320 f_321 e_325 e_326 => ?_)
  have h := h a_320 f_321 e_325 e_326
  have hP_327 : f_321.1 a_320 = some (.inl (cs 0, (Int32.toNatClampNeg (10 : Int32)), .inl (fun _ => 0))) := by rw [e_326, e_325]; exact wNew_s
  have hP_328 : f_321.1 x0 = some (.inr (0, V_315)) := by rw [e_326]; exact (wNew_o ht_319).trans hP_318
  have ht_329 : x0 < f_321.2.1 := by rw [e_326]; exact Nat.lt_succ_of_lt ht_319
  refine ag_putF E1 (ci := 0) (C := RX7) (T := TX7) (N := 56) (k := 34) (ty := (.array .int)) tyX7 tyX7_ok nmX7 rfl in_X7 (by decide) q1484 (fun _ h => h) rfl hin rfl (by decide +kernel) rfl rfl dX7_init_174 hP_328 ?_
  refine ag_named (fun f_330 e_332 => ?_)
  obtain ⟨V_331, e_333⟩ : ∃ V_ : Nat → Value, V_ = updV V_315 34 (.ref a_320) := ⟨_, rfl⟩
  rw [← e_333] at e_332
  have h := h V_331 f_330 e_333 e_332
  have hP_334 : f_330.1 x0 = some (.inr (0, V_331)) := by rw [e_332]; exact updP_s
  have ht_335 : x0 < f_330.2.1 := by rw [e_332]; exact ht_329
  refine ag_aload_n E1 dX7_init_177 rfl 0 rfl ?_
  refine ag_bipush E1 dX7_init_178 kb_10 ?_
  obtain ⟨hb_338, hb_339, hb_340, h⟩ := h
  refine ag_newarr_int E1 (t0 := 0) q154 rfl hb_338 rfl hb_339 hb_340 dX7_init_180 (fun a_336 f_337 e_341 e_342 => ?_)
  have h := h a_336 f_337 e_341 e_342
  have hP_343 : f_337.1 a_336 = some (.inl (cs 0, (Int32.toNatClampNeg (10 : Int32)), .inl (fun _ => 0))) := by rw [e_342, e_341]; exact wNew_s
  have hP_344 : f_337.1 x0 = some (.inr (0, V_331)) := by rw [e_342]; exact (wNew_o ht_335).trans hP_334
  have ht_345 : x0 < f_337.2.1 := by rw [e_342]; exact Nat.lt_succ_of_lt ht_335
  refine ag_putF E1 (ci := 0) (C := RX7) (T := TX7) (N := 56) (k := 35) (ty := (.array .int)) tyX7 tyX7_ok nmX7 rfl in_X7 (by decide) q1485 (fun _ h => h) rfl hin rfl (by decide +kernel) rfl rfl dX7_init_182 hP_344 ?_
  refine ag_named (fun f_346 e_348 => ?_)
  obtain ⟨V_347, e_349⟩ : ∃ V_ : Nat → Value, V_ = updV V_331 35 (.ref a_336) := ⟨_, rfl⟩
  rw [← e_349] at e_348
  have h := h V_347 f_346 e_349 e_348
  have hP_350 : f_346.1 x0 = some (.inr (0, V_347)) := by rw [e_348]; exact updP_s
  have ht_351 : x0 < f_346.2.1 := by rw [e_348]; exact ht_345
  refine ag_aload_n E1 dX7_init_185 rfl 0 rfl ?_
  refine ag_iconst E1 dX7_init_186 ki_4 ?_
  obtain ⟨hb_354, hb_355, hb_356, h⟩ := h
  refine ag_newarr_int E1 (t0 := 0) q154 rfl hb_354 rfl hb_355 hb_356 dX7_init_187 (fun a_352 f_353 e_357 e_358 => ?_)
  have h := h a_352 f_353 e_357 e_358
  have hP_359 : f_353.1 a_352 = some (.inl (cs 0, (Int32.toNatClampNeg (4 : Int32)), .inl (fun _ => 0))) := by rw [e_358, e_357]; exact wNew_s
  have hP_360 : f_353.1 x0 = some (.inr (0, V_347)) := by rw [e_358]; exact (wNew_o ht_351).trans hP_350
  have ht_361 : x0 < f_353.2.1 := by rw [e_358]; exact Nat.lt_succ_of_lt ht_351
  refine ag_dup E1 dX7_init_189 rfl ?_
  refine ag_iconst E1 dX7_init_190 ki_0 ?_
  refine ag_iconst E1 dX7_init_191 ki_m1 ?_
  obtain ⟨hin_362, h⟩ := h
  refine ag_iast E1 (t0 := 0) hP_359 rfl hin_362 dX7_init_192 ?_
  refine ag_named (fun f_363 e_364 => ?_)
  have h := h f_363 e_364
  refine ag_dup E1 dX7_init_193 rfl ?_
  refine ag_iconst E1 dX7_init_194 ki_1 ?_
  refine ag_iconst E1 dX7_init_195 ki_m1 ?_
  obtain ⟨n_365, c_366, hP_367, h⟩ := h
  obtain ⟨hin_368, h⟩ := h
  refine ag_iast E1 (t0 := 0) hP_367 rfl hin_368 dX7_init_196 ?_
  refine ag_named (fun f_369 e_370 => ?_)
  have h := h f_369 e_370
  refine ag_dup E1 dX7_init_197 rfl ?_
  refine ag_iconst E1 dX7_init_198 ki_2 ?_
  refine ag_iconst E1 dX7_init_199 ki_m1 ?_
  obtain ⟨n_371, c_372, hP_373, h⟩ := h
  obtain ⟨hin_374, h⟩ := h
  refine ag_iast E1 (t0 := 0) hP_373 rfl hin_374 dX7_init_200 ?_
  refine ag_named (fun f_375 e_376 => ?_)
  have h := h f_375 e_376
  refine ag_dup E1 dX7_init_201 rfl ?_
  refine ag_iconst E1 dX7_init_202 ki_3 ?_
  refine ag_iconst E1 dX7_init_203 ki_m1 ?_
  obtain ⟨n_377, c_378, hP_379, h⟩ := h
  obtain ⟨hin_380, h⟩ := h
  refine ag_iast E1 (t0 := 0) hP_379 rfl hin_380 dX7_init_204 ?_
  refine ag_named (fun f_381 e_382 => ?_)
  have h := h f_381 e_382
  obtain ⟨V_383, hP_384, h⟩ := h
  refine ag_putF E1 (ci := 0) (C := RX7) (T := TX7) (N := 56) (k := 36) (ty := (.array .int)) tyX7 tyX7_ok nmX7 rfl in_X7 (by decide) q1486 (fun _ h => h) rfl hin rfl (by decide +kernel) rfl rfl dX7_init_205 hP_384 ?_
  refine ag_named (fun f_385 e_387 => ?_)
  obtain ⟨V_386, e_388⟩ : ∃ V_ : Nat → Value, V_ = updV V_383 36 (.ref a_352) := ⟨_, rfl⟩
  rw [← e_388] at e_387
  have h := h V_386 f_385 e_388 e_387
  have hP_389 : f_385.1 x0 = some (.inr (0, V_386)) := by rw [e_387]; exact updP_s
  refine ag_aload_n E1 dX7_init_208 rfl 0 rfl ?_
  refine ag_iconst E1 dX7_init_209 ki_4 ?_
  obtain ⟨ht_390, h⟩ := h
  obtain ⟨hb_393, hb_394, hb_395, h⟩ := h
  refine ag_newarr_int E1 (t0 := 0) q154 rfl hb_393 rfl hb_394 hb_395 dX7_init_210 (fun a_391 f_392 e_396 e_397 => ?_)
  have h := h a_391 f_392 e_396 e_397
  have hP_398 : f_392.1 a_391 = some (.inl (cs 0, (Int32.toNatClampNeg (4 : Int32)), .inl (fun _ => 0))) := by rw [e_397, e_396]; exact wNew_s
  have hP_399 : f_392.1 x0 = some (.inr (0, V_386)) := by rw [e_397]; exact (wNew_o ht_390).trans hP_389
  have ht_400 : x0 < f_392.2.1 := by rw [e_397]; exact Nat.lt_succ_of_lt ht_390
  refine ag_putF E1 (ci := 0) (C := RX7) (T := TX7) (N := 56) (k := 37) (ty := (.array .int)) tyX7 tyX7_ok nmX7 rfl in_X7 (by decide) q1487 (fun _ h => h) rfl hin rfl (by decide +kernel) rfl rfl dX7_init_212 hP_399 ?_
  refine ag_named (fun f_401 e_403 => ?_)
  obtain ⟨V_402, e_404⟩ : ∃ V_ : Nat → Value, V_ = updV V_386 37 (.ref a_391) := ⟨_, rfl⟩
  rw [← e_404] at e_403
  have h := h V_402 f_401 e_404 e_403
  have hP_405 : f_401.1 x0 = some (.inr (0, V_402)) := by rw [e_403]; exact updP_s
  have ht_406 : x0 < f_401.2.1 := by rw [e_403]; exact ht_400
  refine ag_aload_n E1 dX7_init_215 rfl 0 rfl ?_
  refine ag_sipush E1 dX7_init_216 ks_160 ?_
  obtain ⟨hb_409, hb_410, hb_411, h⟩ := h
  refine ag_newarr_int E1 (t0 := 0) q154 rfl hb_409 rfl hb_410 hb_411 dX7_init_219 (fun a_407 f_408 e_412 e_413 => ?_)
  have h := h a_407 f_408 e_412 e_413
  have hP_414 : f_408.1 a_407 = some (.inl (cs 0, (Int32.toNatClampNeg (160 : Int32)), .inl (fun _ => 0))) := by rw [e_413, e_412]; exact wNew_s
  have hP_415 : f_408.1 x0 = some (.inr (0, V_402)) := by rw [e_413]; exact (wNew_o ht_406).trans hP_405
  have ht_416 : x0 < f_408.2.1 := by rw [e_413]; exact Nat.lt_succ_of_lt ht_406
  refine ag_putF E1 (ci := 0) (C := RX7) (T := TX7) (N := 56) (k := 38) (ty := (.array .int)) tyX7 tyX7_ok nmX7 rfl in_X7 (by decide) q1488 (fun _ h => h) rfl hin rfl (by decide +kernel) rfl rfl dX7_init_221 hP_415 ?_
  refine ag_named (fun f_417 e_419 => ?_)
  obtain ⟨V_418, e_420⟩ : ∃ V_ : Nat → Value, V_ = updV V_402 38 (.ref a_407) := ⟨_, rfl⟩
  rw [← e_420] at e_419
  have h := h V_418 f_417 e_420 e_419
  have hP_421 : f_417.1 x0 = some (.inr (0, V_418)) := by rw [e_419]; exact updP_s
  have ht_422 : x0 < f_417.2.1 := by rw [e_419]; exact ht_416
  refine ag_aload_n E1 dX7_init_224 rfl 0 rfl ?_
  refine ag_bipush E1 dX7_init_225 kb_36 ?_
  obtain ⟨hb_425, hb_426, hb_427, h⟩ := h
  refine ag_newarr_int E1 (t0 := 0) q154 rfl hb_425 rfl hb_426 hb_427 dX7_init_227 (fun a_423 f_424 e_428 e_429 => ?_)
  have h := h a_423 f_424 e_428 e_429
  have hP_430 : f_424.1 a_423 = some (.inl (cs 0, (Int32.toNatClampNeg (36 : Int32)), .inl (fun _ => 0))) := by rw [e_429, e_428]; exact wNew_s
  have hP_431 : f_424.1 x0 = some (.inr (0, V_418)) := by rw [e_429]; exact (wNew_o ht_422).trans hP_421
  have ht_432 : x0 < f_424.2.1 := by rw [e_429]; exact Nat.lt_succ_of_lt ht_422
  refine ag_putF E1 (ci := 0) (C := RX7) (T := TX7) (N := 56) (k := 39) (ty := (.array .int)) tyX7 tyX7_ok nmX7 rfl in_X7 (by decide) q1489 (fun _ h => h) rfl hin rfl (by decide +kernel) rfl rfl dX7_init_229 hP_431 ?_
  refine ag_named (fun f_433 e_435 => ?_)
  obtain ⟨V_434, e_436⟩ : ∃ V_ : Nat → Value, V_ = updV V_418 39 (.ref a_423) := ⟨_, rfl⟩
  rw [← e_436] at e_435
  have h := h V_434 f_433 e_436 e_435
  have hP_437 : f_433.1 x0 = some (.inr (0, V_434)) := by rw [e_435]; exact updP_s
  have ht_438 : x0 < f_433.2.1 := by rw [e_435]; exact ht_432
  refine ag_aload_n E1 dX7_init_232 rfl 0 rfl ?_
  refine ag_bipush E1 dX7_init_233 kb_11 ?_
  obtain ⟨hb_441, hb_442, hb_443, h⟩ := h
  refine ag_newarr_long E1 (t0 := 3) q1619 rfl hb_441 rfl hb_442 hb_443 dX7_init_235 (fun a_439 f_440 e_444 e_445 => ?_)
  have h := h a_439 f_440 e_444 e_445
  have hP_446 : f_440.1 a_439 = some (.inl (cs 3, (Int32.toNatClampNeg (11 : Int32)), .inr (.inl (fun _ => 0)))) := by rw [e_445, e_444]; exact wNew_s
  have hP_447 : f_440.1 x0 = some (.inr (0, V_434)) := by rw [e_445]; exact (wNew_o ht_438).trans hP_437
  have ht_448 : x0 < f_440.2.1 := by rw [e_445]; exact Nat.lt_succ_of_lt ht_438
  refine ag_dup E1 dX7_init_237 rfl ?_
  refine ag_iconst E1 dX7_init_238 ki_0 ?_
  refine ag_ldc2 E1 q1431 dX7_init_239 ?_
  obtain ⟨hin_449, h⟩ := h
  refine ag_last E1 (t0 := 3) hP_446 rfl hin_449 dX7_init_242 ?_
  refine ag_named (fun f_450 e_451 => ?_)
  have h := h f_450 e_451
  refine ag_dup E1 dX7_init_243 rfl ?_
  refine ag_iconst E1 dX7_init_244 ki_1 ?_
  refine ag_ldc2 E1 q1432 dX7_init_245 ?_
  obtain ⟨n_452, c_453, hP_454, h⟩ := h
  obtain ⟨hin_455, h⟩ := h
  refine ag_last E1 (t0 := 3) hP_454 rfl hin_455 dX7_init_248 ?_
  refine ag_named (fun f_456 e_457 => ?_)
  have h := h f_456 e_457
  refine ag_dup E1 dX7_init_249 rfl ?_
  refine ag_iconst E1 dX7_init_250 ki_2 ?_
  refine ag_ldc2 E1 q1433 dX7_init_251 ?_
  obtain ⟨n_458, c_459, hP_460, h⟩ := h
  obtain ⟨hin_461, h⟩ := h
  refine ag_last E1 (t0 := 3) hP_460 rfl hin_461 dX7_init_254 ?_
  refine ag_named (fun f_462 e_463 => ?_)
  have h := h f_462 e_463
  refine ag_dup E1 dX7_init_255 rfl ?_
  refine ag_iconst E1 dX7_init_256 ki_3 ?_
  refine ag_ldc2 E1 q1434 dX7_init_257 ?_
  obtain ⟨n_464, c_465, hP_466, h⟩ := h
  obtain ⟨hin_467, h⟩ := h
  refine ag_last E1 (t0 := 3) hP_466 rfl hin_467 dX7_init_260 ?_
  refine ag_named (fun f_468 e_469 => ?_)
  have h := h f_468 e_469
  refine ag_dup E1 dX7_init_261 rfl ?_
  refine ag_iconst E1 dX7_init_262 ki_4 ?_
  refine ag_ldc2 E1 q1435 dX7_init_263 ?_
  obtain ⟨n_470, c_471, hP_472, h⟩ := h
  obtain ⟨hin_473, h⟩ := h
  refine ag_last E1 (t0 := 3) hP_472 rfl hin_473 dX7_init_266 ?_
  refine ag_named (fun f_474 e_475 => ?_)
  have h := h f_474 e_475
  refine ag_dup E1 dX7_init_267 rfl ?_
  refine ag_iconst E1 dX7_init_268 ki_5 ?_
  refine ag_ldc2 E1 q1436 dX7_init_269 ?_
  obtain ⟨n_476, c_477, hP_478, h⟩ := h
  obtain ⟨hin_479, h⟩ := h
  refine ag_last E1 (t0 := 3) hP_478 rfl hin_479 dX7_init_272 ?_
  refine ag_named (fun f_480 e_481 => ?_)
  have h := h f_480 e_481
  refine ag_dup E1 dX7_init_273 rfl ?_
  refine ag_bipush E1 dX7_init_274 kb_6 ?_
  refine ag_ldc2 E1 q1437 dX7_init_276 ?_
  obtain ⟨n_482, c_483, hP_484, h⟩ := h
  obtain ⟨hin_485, h⟩ := h
  refine ag_last E1 (t0 := 3) hP_484 rfl hin_485 dX7_init_279 ?_
  refine ag_named (fun f_486 e_487 => ?_)
  have h := h f_486 e_487
  refine ag_dup E1 dX7_init_280 rfl ?_
  refine ag_bipush E1 dX7_init_281 kb_7 ?_
  refine ag_ldc2 E1 q1438 dX7_init_283 ?_
  obtain ⟨n_488, c_489, hP_490, h⟩ := h
  obtain ⟨hin_491, h⟩ := h
  refine ag_last E1 (t0 := 3) hP_490 rfl hin_491 dX7_init_286 ?_
  refine ag_named (fun f_492 e_493 => ?_)
  have h := h f_492 e_493
  refine ag_dup E1 dX7_init_287 rfl ?_
  refine ag_bipush E1 dX7_init_288 kb_8 ?_
  refine ag_ldc2 E1 q1439 dX7_init_290 ?_
  obtain ⟨n_494, c_495, hP_496, h⟩ := h
  obtain ⟨hin_497, h⟩ := h
  refine ag_last E1 (t0 := 3) hP_496 rfl hin_497 dX7_init_293 ?_
  refine ag_named (fun f_498 e_499 => ?_)
  have h := h f_498 e_499
  refine ag_dup E1 dX7_init_294 rfl ?_
  refine ag_bipush E1 dX7_init_295 kb_9 ?_
  refine ag_ldc2 E1 q1440 dX7_init_297 ?_
  obtain ⟨n_500, c_501, hP_502, h⟩ := h
  obtain ⟨hin_503, h⟩ := h
  refine ag_last E1 (t0 := 3) hP_502 rfl hin_503 dX7_init_300 ?_
  refine ag_named (fun f_504 e_505 => ?_)
  have h := h f_504 e_505
  refine ag_dup E1 dX7_init_301 rfl ?_
  refine ag_bipush E1 dX7_init_302 kb_10 ?_
  refine ag_ldc2 E1 q1441 dX7_init_304 ?_
  obtain ⟨n_506, c_507, hP_508, h⟩ := h
  obtain ⟨hin_509, h⟩ := h
  refine ag_last E1 (t0 := 3) hP_508 rfl hin_509 dX7_init_307 ?_
  refine ag_named (fun f_510 e_511 => ?_)
  have h := h f_510 e_511
  obtain ⟨V_512, hP_513, h⟩ := h
  refine ag_putF E1 (ci := 0) (C := RX7) (T := TX7) (N := 56) (k := 44) (ty := (.array .long)) tyX7 tyX7_ok nmX7 rfl in_X7 (by decide) q1494 (fun _ h => h) rfl hin rfl (by decide +kernel) rfl rfl dX7_init_308 hP_513 ?_
  refine ag_named (fun f_514 e_516 => ?_)
  obtain ⟨V_515, e_517⟩ : ∃ V_ : Nat → Value, V_ = updV V_512 44 (.ref a_439) := ⟨_, rfl⟩
  rw [← e_517] at e_516
  have h := h V_515 f_514 e_517 e_516
  have hP_518 : f_514.1 x0 = some (.inr (0, V_515)) := by rw [e_516]; exact updP_s
  refine ag_aload_n E1 dX7_init_311 rfl 0 rfl ?_
  refine ag_sipush E1 dX7_init_312 ks_200 ?_
  obtain ⟨ht_519, h⟩ := h
  obtain ⟨hb_522, hb_523, hb_524, h⟩ := h
  refine ag_newarr_int E1 (t0 := 0) q154 rfl hb_522 rfl hb_523 hb_524 dX7_init_315 (fun a_520 f_521 e_525 e_526 => ?_)
  have h := h a_520 f_521 e_525 e_526
  have hP_527 : f_521.1 a_520 = some (.inl (cs 0, (Int32.toNatClampNeg (200 : Int32)), .inl (fun _ => 0))) := by rw [e_526, e_525]; exact wNew_s
  have hP_528 : f_521.1 x0 = some (.inr (0, V_515)) := by rw [e_526]; exact (wNew_o ht_519).trans hP_518
  have ht_529 : x0 < f_521.2.1 := by rw [e_526]; exact Nat.lt_succ_of_lt ht_519
  refine ag_putF E1 (ci := 0) (C := RX7) (T := TX7) (N := 56) (k := 45) (ty := (.array .int)) tyX7 tyX7_ok nmX7 rfl in_X7 (by decide) q1495 (fun _ h => h) rfl hin rfl (by decide +kernel) rfl rfl dX7_init_317 hP_528 ?_
  refine ag_named (fun f_530 e_532 => ?_)
  obtain ⟨V_531, e_533⟩ : ∃ V_ : Nat → Value, V_ = updV V_515 45 (.ref a_520) := ⟨_, rfl⟩
  rw [← e_533] at e_532
  have h := h V_531 f_530 e_533 e_532
  have hP_534 : f_530.1 x0 = some (.inr (0, V_531)) := by rw [e_532]; exact updP_s
  have ht_535 : x0 < f_530.2.1 := by rw [e_532]; exact ht_529
  refine ag_aload_n E1 dX7_init_320 rfl 0 rfl ?_
  refine ag_sipush E1 dX7_init_321 ks_200 ?_
  obtain ⟨hb_538, hb_539, hb_540, h⟩ := h
  refine ag_newarr_int E1 (t0 := 0) q154 rfl hb_538 rfl hb_539 hb_540 dX7_init_324 (fun a_536 f_537 e_541 e_542 => ?_)
  have h := h a_536 f_537 e_541 e_542
  have hP_543 : f_537.1 a_536 = some (.inl (cs 0, (Int32.toNatClampNeg (200 : Int32)), .inl (fun _ => 0))) := by rw [e_542, e_541]; exact wNew_s
  have hP_544 : f_537.1 x0 = some (.inr (0, V_531)) := by rw [e_542]; exact (wNew_o ht_535).trans hP_534
  have ht_545 : x0 < f_537.2.1 := by rw [e_542]; exact Nat.lt_succ_of_lt ht_535
  refine ag_putF E1 (ci := 0) (C := RX7) (T := TX7) (N := 56) (k := 49) (ty := (.array .int)) tyX7 tyX7_ok nmX7 rfl in_X7 (by decide) q1499 (fun _ h => h) rfl hin rfl (by decide +kernel) rfl rfl dX7_init_326 hP_544 ?_
  refine ag_named (fun f_546 e_548 => ?_)
  obtain ⟨V_547, e_549⟩ : ∃ V_ : Nat → Value, V_ = updV V_531 49 (.ref a_536) := ⟨_, rfl⟩
  rw [← e_549] at e_548
  have h := h V_547 f_546 e_549 e_548
  have hP_550 : f_546.1 x0 = some (.inr (0, V_547)) := by rw [e_548]; exact updP_s
  have ht_551 : x0 < f_546.2.1 := by rw [e_548]; exact ht_545
  refine ag_aload_n E1 dX7_init_329 rfl 0 rfl ?_
  refine ag_bipush E1 dX7_init_330 kb_6 ?_
  obtain ⟨hb_554, hb_555, hb_556, h⟩ := h
  refine ag_newarr_int E1 (t0 := 0) q154 rfl hb_554 rfl hb_555 hb_556 dX7_init_332 (fun a_552 f_553 e_557 e_558 => ?_)
  have h := h a_552 f_553 e_557 e_558
  have hP_559 : f_553.1 a_552 = some (.inl (cs 0, (Int32.toNatClampNeg (6 : Int32)), .inl (fun _ => 0))) := by rw [e_558, e_557]; exact wNew_s
  have hP_560 : f_553.1 x0 = some (.inr (0, V_547)) := by rw [e_558]; exact (wNew_o ht_551).trans hP_550
  have ht_561 : x0 < f_553.2.1 := by rw [e_558]; exact Nat.lt_succ_of_lt ht_551
  refine ag_putF E1 (ci := 0) (C := RX7) (T := TX7) (N := 56) (k := 50) (ty := (.array .int)) tyX7 tyX7_ok nmX7 rfl in_X7 (by decide) q1500 (fun _ h => h) rfl hin rfl (by decide +kernel) rfl rfl dX7_init_334 hP_560 ?_
  refine ag_named (fun f_562 e_564 => ?_)
  obtain ⟨V_563, e_565⟩ : ∃ V_ : Nat → Value, V_ = updV V_547 50 (.ref a_552) := ⟨_, rfl⟩
  rw [← e_565] at e_564
  have h := h V_563 f_562 e_565 e_564
  have hP_566 : f_562.1 x0 = some (.inr (0, V_563)) := by rw [e_564]; exact updP_s
  have ht_567 : x0 < f_562.2.1 := by rw [e_564]; exact ht_561
  refine ag_aload_n E1 dX7_init_337 rfl 0 rfl ?_
  refine ag_bipush E1 dX7_init_338 kb_36 ?_
  obtain ⟨hb_570, hb_571, hb_572, h⟩ := h
  refine ag_newarr_boolean E1 (t0 := 2) q1620 rfl hb_570 rfl hb_571 hb_572 dX7_init_340 (fun a_568 f_569 e_573 e_574 => ?_)
  have h := h a_568 f_569 e_573 e_574
  have hP_575 : f_569.1 a_568 = some (.inl (cs 2, (Int32.toNatClampNeg (36 : Int32)), .inl (fun _ => 0))) := by rw [e_574, e_573]; exact wNew_s
  have hP_576 : f_569.1 x0 = some (.inr (0, V_563)) := by rw [e_574]; exact (wNew_o ht_567).trans hP_566
  have ht_577 : x0 < f_569.2.1 := by rw [e_574]; exact Nat.lt_succ_of_lt ht_567
  refine ag_putF E1 (ci := 0) (C := RX7) (T := TX7) (N := 56) (k := 51) (ty := (.array .boolean)) tyX7 tyX7_ok nmX7 rfl in_X7 (by decide) q1501 (fun _ h => h) rfl hin rfl (by decide +kernel) rfl rfl dX7_init_342 hP_576 ?_
  refine ag_named (fun f_578 e_580 => ?_)
  obtain ⟨V_579, e_581⟩ : ∃ V_ : Nat → Value, V_ = updV V_563 51 (.ref a_568) := ⟨_, rfl⟩
  rw [← e_581] at e_580
  have h := h V_579 f_578 e_581 e_580
  have hP_582 : f_578.1 x0 = some (.inr (0, V_579)) := by rw [e_580]; exact updP_s
  have ht_583 : x0 < f_578.2.1 := by rw [e_580]; exact ht_577
  refine ag_aload_n E1 dX7_init_345 rfl 0 rfl ?_
  refine ag_bipush E1 dX7_init_346 kb_6 ?_
  obtain ⟨hb_586, hb_587, hb_588, h⟩ := h
  refine ag_newarr_int E1 (t0 := 0) q154 rfl hb_586 rfl hb_587 hb_588 dX7_init_348 (fun a_584 f_585 e_589 e_590 => ?_)
  have h := h a_584 f_585 e_589 e_590
  have hP_591 : f_585.1 a_584 = some (.inl (cs 0, (Int32.toNatClampNeg (6 : Int32)), .inl (fun _ => 0))) := by rw [e_590, e_589]; exact wNew_s
  have hP_592 : f_585.1 x0 = some (.inr (0, V_579)) := by rw [e_590]; exact (wNew_o ht_583).trans hP_582
  have ht_593 : x0 < f_585.2.1 := by rw [e_590]; exact Nat.lt_succ_of_lt ht_583
  refine ag_putF E1 (ci := 0) (C := RX7) (T := TX7) (N := 56) (k := 52) (ty := (.array .int)) tyX7 tyX7_ok nmX7 rfl in_X7 (by decide) q1502 (fun _ h => h) rfl hin rfl (by decide +kernel) rfl rfl dX7_init_350 hP_592 ?_
  refine ag_named (fun f_594 e_596 => ?_)
  obtain ⟨V_595, e_597⟩ : ∃ V_ : Nat → Value, V_ = updV V_579 52 (.ref a_584) := ⟨_, rfl⟩
  rw [← e_597] at e_596
  have h := h V_595 f_594 e_597 e_596
  have hP_598 : f_594.1 x0 = some (.inr (0, V_595)) := by rw [e_596]; exact updP_s
  have ht_599 : x0 < f_594.2.1 := by rw [e_596]; exact ht_593
  refine ag_aload_n E1 dX7_init_353 rfl 0 rfl ?_
  refine ag_sipush E1 dX7_init_354 ks_29400 ?_
  obtain ⟨hb_602, hb_603, hb_604, h⟩ := h
  refine ag_newarr_int E1 (t0 := 0) q154 rfl hb_602 rfl hb_603 hb_604 dX7_init_357 (fun a_600 f_601 e_605 e_606 => ?_)
  have h := h a_600 f_601 e_605 e_606
  have hP_607 : f_601.1 a_600 = some (.inl (cs 0, (Int32.toNatClampNeg (29400 : Int32)), .inl (fun _ => 0))) := by rw [e_606, e_605]; exact wNew_s
  have hP_608 : f_601.1 x0 = some (.inr (0, V_595)) := by rw [e_606]; exact (wNew_o ht_599).trans hP_598
  have ht_609 : x0 < f_601.2.1 := by rw [e_606]; exact Nat.lt_succ_of_lt ht_599
  refine ag_putF E1 (ci := 0) (C := RX7) (T := TX7) (N := 56) (k := 53) (ty := (.array .int)) tyX7 tyX7_ok nmX7 rfl in_X7 (by decide) q1503 (fun _ h => h) rfl hin rfl (by decide +kernel) rfl rfl dX7_init_359 hP_608 ?_
  refine ag_named (fun f_610 e_612 => ?_)
  obtain ⟨V_611, e_613⟩ : ∃ V_ : Nat → Value, V_ = updV V_595 53 (.ref a_600) := ⟨_, rfl⟩
  rw [← e_613] at e_612
  have h := h V_611 f_610 e_613 e_612
  have hP_614 : f_610.1 x0 = some (.inr (0, V_611)) := by rw [e_612]; exact updP_s
  have ht_615 : x0 < f_610.2.1 := by rw [e_612]; exact ht_609
  refine ag_aload_n E1 dX7_init_362 rfl 0 rfl ?_
  refine ag_sipush E1 dX7_init_363 ks_29400 ?_
  obtain ⟨hb_618, hb_619, hb_620, h⟩ := h
  refine ag_newarr_boolean E1 (t0 := 2) q1620 rfl hb_618 rfl hb_619 hb_620 dX7_init_366 (fun a_616 f_617 e_621 e_622 => ?_)
  have h := h a_616 f_617 e_621 e_622
  have hP_623 : f_617.1 a_616 = some (.inl (cs 2, (Int32.toNatClampNeg (29400 : Int32)), .inl (fun _ => 0))) := by rw [e_622, e_621]; exact wNew_s
  have hP_624 : f_617.1 x0 = some (.inr (0, V_611)) := by rw [e_622]; exact (wNew_o ht_615).trans hP_614
  have ht_625 : x0 < f_617.2.1 := by rw [e_622]; exact Nat.lt_succ_of_lt ht_615
  refine ag_putF E1 (ci := 0) (C := RX7) (T := TX7) (N := 56) (k := 54) (ty := (.array .boolean)) tyX7 tyX7_ok nmX7 rfl in_X7 (by decide) q1504 (fun _ h => h) rfl hin rfl (by decide +kernel) rfl rfl dX7_init_368 hP_624 ?_
  refine ag_named (fun f_626 e_628 => ?_)
  obtain ⟨V_627, e_629⟩ : ∃ V_ : Nat → Value, V_ = updV V_611 54 (.ref a_616) := ⟨_, rfl⟩
  rw [← e_629] at e_628
  have h := h V_627 f_626 e_629 e_628
  have hP_630 : f_626.1 x0 = some (.inr (0, V_627)) := by rw [e_628]; exact updP_s
  have ht_631 : x0 < f_626.2.1 := by rw [e_628]; exact ht_625
  refine ag_aload_n E1 dX7_init_371 rfl 0 rfl ?_
  refine ag_sipush E1 dX7_init_372 ks_1968 ?_
  obtain ⟨hb_634, hb_635, hb_636, h⟩ := h
  refine ag_newarr_int E1 (t0 := 0) q154 rfl hb_634 rfl hb_635 hb_636 dX7_init_375 (fun a_632 f_633 e_637 e_638 => ?_)
  have h := h a_632 f_633 e_637 e_638
  have hP_639 : f_633.1 a_632 = some (.inl (cs 0, (Int32.toNatClampNeg (1968 : Int32)), .inl (fun _ => 0))) := by rw [e_638, e_637]; exact wNew_s
  have hP_640 : f_633.1 x0 = some (.inr (0, V_627)) := by rw [e_638]; exact (wNew_o ht_631).trans hP_630
  have ht_641 : x0 < f_633.2.1 := by rw [e_638]; exact Nat.lt_succ_of_lt ht_631
  refine ag_putF E1 (ci := 0) (C := RX7) (T := TX7) (N := 56) (k := 55) (ty := (.array .int)) tyX7 tyX7_ok nmX7 rfl in_X7 (by decide) q1505 (fun _ h => h) rfl hin rfl (by decide +kernel) rfl rfl dX7_init_377 hP_640 ?_
  refine ag_named (fun f_642 e_644 => ?_)
  obtain ⟨V_643, e_645⟩ : ∃ V_ : Nat → Value, V_ = updV V_627 55 (.ref a_632) := ⟨_, rfl⟩
  rw [← e_645] at e_644
  have h := h V_643 f_642 e_645 e_644
  have hP_646 : f_642.1 x0 = some (.inr (0, V_643)) := by rw [e_644]; exact updP_s
  have ht_647 : x0 < f_642.2.1 := by rw [e_644]; exact ht_641
  refine ag_aload_n E1 dX7_init_380 rfl 0 rfl ?_
  refine ag_iconst E1 dX7_init_381 ki_0 ?_
  refine ag_iconst E1 dX7_init_382 ki_0 ?_
  refine ag_ldc E1 q1442 dX7_init_383 ?_
  refine ag_bipush E1 dX7_init_385 kb_14 ?_
  refine ag_ldc E1 q1443 dX7_init_387 ?_
  obtain ⟨g_648, e_651, h⟩ := h
  refine ag_le e_651 ?_
  refine ag_callV E1 (ci := 0) (C := RX7) (T0 := TX7) (n2 := 56) pM_obj rfl (kX7_first _ _ _ _ _ _ _ f_642.1 f_642.2.1 f_642.2.2 _ _ _ _ _ _ _ h) (lw_V q1444 q1446 qs45 q107 q1447) hdX7_first (Nat.le_of_ble_eq_true rfl) (Nat.le_of_ble_eq_true rfl) (As := [.int (0 : Int32), .int (0 : Int32), .int (100004 : Int32), .int (14 : Int32), .int (100010 : Int32)]) rfl (Nat.le_of_ble_eq_true rfl) dX7_init_389 (fun v_ w_ hv => ?_) rfl
  obtain ⟨g_649, rfl, rfl, h⟩ := hv
  refine ag_named (fun f_650 e_652 => ?_)
  have h := h f_650 e_652
  refine ag_aload_n E1 dX7_init_392 rfl 0 rfl ?_
  refine ag_iconst E1 dX7_init_393 ki_4 ?_
  refine ag_iconst E1 dX7_init_394 ki_2 ?_
  refine ag_ldc E1 q1448 dX7_init_395 ?_
  refine ag_bipush E1 dX7_init_397 kb_18 ?_
  refine ag_bipush E1 dX7_init_399 kb_17 ?_
  obtain ⟨g_653, e_656, h⟩ := h
  refine ag_le e_656 ?_
  refine ag_callV E1 (ci := 0) (C := RX7) (T0 := TX7) (n2 := 56) pM_obj rfl (kX7_first _ _ _ _ _ _ _ f_650.1 f_650.2.1 f_650.2.2 _ _ _ _ _ _ _ h) (lw_V q1444 q1446 qs45 q107 q1447) hdX7_first (Nat.le_of_ble_eq_true rfl) (Nat.le_of_ble_eq_true rfl) (As := [.int (4 : Int32), .int (2 : Int32), .int (100002 : Int32), .int (18 : Int32), .int (17 : Int32)]) rfl (Nat.le_of_ble_eq_true rfl) dX7_init_401 (fun v_ w_ hv => ?_) rfl
  obtain ⟨g_654, rfl, rfl, h⟩ := hv
  refine ag_named (fun f_655 e_657 => ?_)
  have h := h f_655 e_657
  refine ag_aload_n E1 dX7_init_404 rfl 0 rfl ?_
  refine ag_bipush E1 dX7_init_405 kb_8 ?_
  refine ag_iconst E1 dX7_init_407 ki_4 ?_
  refine ag_ldc E1 q1449 dX7_init_408 ?_
  refine ag_bipush E1 dX7_init_410 kb_18 ?_
  refine ag_bipush E1 dX7_init_412 kb_16 ?_
  obtain ⟨g_658, e_661, h⟩ := h
  refine ag_le e_661 ?_
  refine ag_callV E1 (ci := 0) (C := RX7) (T0 := TX7) (n2 := 56) pM_obj rfl (kX7_first _ _ _ _ _ _ _ f_655.1 f_655.2.1 f_655.2.2 _ _ _ _ _ _ _ h) (lw_V q1444 q1446 qs45 q107 q1447) hdX7_first (Nat.le_of_ble_eq_true rfl) (Nat.le_of_ble_eq_true rfl) (As := [.int (8 : Int32), .int (4 : Int32), .int (100005 : Int32), .int (18 : Int32), .int (16 : Int32)]) rfl (Nat.le_of_ble_eq_true rfl) dX7_init_414 (fun v_ w_ hv => ?_) rfl
  obtain ⟨g_659, rfl, rfl, h⟩ := hv
  refine ag_named (fun f_660 e_662 => ?_)
  have h := h f_660 e_662
  refine ag_aload_n E1 dX7_init_417 rfl 0 rfl ?_
  obtain ⟨V_663, hP_664, h⟩ := h
  obtain ⟨a_665, e_666, h⟩ := h
  refine ag_get E1 (ci := 0) (C := RX7) (T := TX7) (N := 56) (k := 13) rfl in_X7 (by decide) q1463 (fun _ h => h) dX7_init_418 hP_664 e_666 ?_
  refine ag_iconst E1 dX7_init_421 ki_1 ?_
  refine ag_iconst E1 dX7_init_422 ki_3 ?_
  obtain ⟨n_667, c_668, hP_669, h⟩ := h
  obtain ⟨hin_670, h⟩ := h
  refine ag_iast E1 (t0 := 0) hP_669 rfl hin_670 dX7_init_423 ?_
  refine ag_named (fun f_671 e_672 => ?_)
  have h := h f_671 e_672
  refine ag_aload_n E1 dX7_init_424 rfl 0 rfl ?_
  obtain ⟨V_673, hP_674, h⟩ := h
  obtain ⟨a_675, e_676, h⟩ := h
  refine ag_get E1 (ci := 0) (C := RX7) (T := TX7) (N := 56) (k := 13) rfl in_X7 (by decide) q1463 (fun _ h => h) dX7_init_425 hP_674 e_676 ?_
  refine ag_iconst E1 dX7_init_428 ki_2 ?_
  refine ag_bipush E1 dX7_init_429 kb_12 ?_
  obtain ⟨n_677, c_678, hP_679, h⟩ := h
  obtain ⟨hin_680, h⟩ := h
  refine ag_iast E1 (t0 := 0) hP_679 rfl hin_680 dX7_init_431 ?_
  refine ag_named (fun f_681 e_682 => ?_)
  have h := h f_681 e_682
  exact gw_vret E rfl ⟨rfl, h⟩ dX7_init_432
theorem hdX7_init : yX7_init.cls ≠ "java/lang/invoke/MethodHandle" ∧ yX7_init.cls ≠ "java/lang/invoke/VarHandle" ∧ (parseMethodDescriptor yX7_init.desc).map (fun d => d.parameters.length) = some 0 := by decide +kernel
end
