/-! its walk (by program) -/
set_option maxRecDepth 100000
set_option maxHeartbeats 4000000
section
variable {p : Program} {l : Launch} {e : Env} {s : State} {m : MethodId} {below : List Frame} {meth : Method} {c : Code} {D : va_G} {cs : Nat → ClassId} {b z u : Nat} {H0 : Heap} {ad : Nat → Nat} {vs : Nat → Option Nat} {hh : List (Nat × Nat × Nat × Nat)} {sc L : Nat} {xs : Nat → Int32}
theorem tbL_law_1445 (E : EX p room_1 s m #[Value.ref sc] meth c cL_law 4 "MarketDaysLaw" ret D cs b H0 (XKd b H0 ad vs) hh 215 8495 z u) (hb : s.heap.size = b) (hX : va_X sc L xs s s.heap) (hsb : sc < b) {Q : Int32 → cW → Prop} {K18 : Nat → Nat → Int32 → cW → Prop} (hK18 : ∀ (x1 : Nat) (x2 : Nat) (x3 : Int32) (f : cW), K18 x1 x2 x3 f → AG p l e room_1 s m #[Value.ref sc] below meth c D clC b 4 (lw_Z below #[Value.ref sc] s) 18 [(0, .ref sc), (1, .ref x1), (2, .ref x2), (3, .int x3)] [] f) {x1 : Nat} {x2 : Nat} {x3 : Int32} {f : cW} (h : wbL_law_1445 b cs ad vs sc L xs K18 Q x1 x2 x3 f) : AG p l e room_1 s m #[Value.ref sc] below meth c D clC b 4 (lw_Z below #[Value.ref sc] s) 1445 [(0, .ref sc), (1, .ref x1), (2, .ref x2), (3, .int x3)] [] f := by
  have E1 := E.1
  refine ag_iincN E1 (lv' := fun x3_30 => [(3, .int x3_30), (0, .ref sc), (1, .ref x1), (2, .ref x2)]) dL_law_1445 3 rfl ki_6 (Nat.lt_of_lt_of_le (Nat.le_refl _) (Nat.le_of_ble_eq_true rfl)) (fun _ => rfl) (fun x3_30 e_x3_30 => ?_)
  have h := h x3_30 e_x3_30
  refine ag_goto E1 (tgt := 18) dL_law_1448 (by decide) ?_
  refine ag_sub (lv' := [(0, .ref sc), (1, .ref x1), (2, .ref x2), (3, .int x3_30)]) [1, 2, 3, 0] rfl ?_
  exact hK18 _ _ _ _ h
theorem tbL_law_18 (E : EX p room_1 s m #[Value.ref sc] meth c cL_law 4 "MarketDaysLaw" ret D cs b H0 (XKd b H0 ad vs) hh 215 8495 z u) (hb : s.heap.size = b) (hX : va_X sc L xs s s.heap) (hsb : sc < b) {Q : Int32 → cW → Prop} {K18 : Nat → Nat → Int32 → cW → Prop} (hK18 : ∀ (x1 : Nat) (x2 : Nat) (x3 : Int32) (f : cW), K18 x1 x2 x3 f → AG p l e room_1 s m #[Value.ref sc] below meth c D clC b 4 (lw_Z below #[Value.ref sc] s) 18 [(0, .ref sc), (1, .ref x1), (2, .ref x2), (3, .int x3)] [] f) {x1 : Nat} {x2 : Nat} {x3 : Int32} {f : cW} (h : wbL_law_18 b cs ad vs sc L xs K18 Q x1 x2 x3 f) : AG p l e room_1 s m #[Value.ref sc] below meth c D clC b 4 (lw_Z below #[Value.ref sc] s) 18 [(0, .ref sc), (1, .ref x1), (2, .ref x2), (3, .int x3)] [] f := by
  have E1 := E.1
  refine ag_iload_n E1 dL_law_18 rfl 3 rfl ?_
  refine ag_aload_n E1 dL_law_19 rfl 0 rfl ?_
  refine ag_slen E1 hX hsb dL_law_20 ?_
  refine ag_bipush E1 dL_law_21 kb_6 ?_
  refine ag_isub E1 dL_law_23 ?_
  refine ag_icmp_gt E1 (tgt := 1451) dL_law_24 (by decide) (fun c_24 => ?_) (fun c_24 => ?_)
  · have h := h.1 c_24
    refine ag_iconst E1 dL_law_1451 ki_1 ?_
    exact law_ret E1 hb h dL_law_1452
  · have h := h.2 c_24
    refine ag_aload_n E1 dL_law_27 rfl 0 rfl ?_
    refine ag_iload_n E1 dL_law_28 rfl 3 rfl ?_
    obtain ⟨hin_15, h⟩ := h
    refine ag_sld E1 hX hsb hin_15 dL_law_29 ?_
    refine ag_bipush E1 dL_law_30 kb_63 ?_
    refine ag_iand E1 dL_law_32 ?_
    rcases Classical.em (((xs (Int32.toNatClampNeg x3)) &&& (63 : Int32)) = (0 : Int32)) with c_33_0 | c_33_0
    · have h := h.1 c_33_0
      refine ag_tableIn E1 (tgt := 192) (off := 159) dL_law_33 (by rw [c_33_0]; decide) (by rw [c_33_0]; decide) (by rw [c_33_0]; decide) (by decide) ?_
      refine ag_aload_n E1 dL_law_192 rfl 1 rfl ?_
      refine ag_aload_n E1 dL_law_193 rfl 0 rfl ?_
      refine ag_iload_n E1 dL_law_194 rfl 3 rfl ?_
      refine ag_iconst E1 dL_law_195 ki_1 ?_
      refine ag_iadd E1 dL_law_196 ?_
      obtain ⟨hin_16, h⟩ := h
      refine ag_sld E1 hX hsb hin_16 dL_law_197 ?_
      obtain ⟨S_19, e_21, h⟩ := h
      refine ag_le e_21 ?_
      refine ag_callV E1 (ci := 1) (C := RX0) (T0 := TX0) (n2 := 43) pX_obj rfl (kX0_town _ _ _ _ _ _ _ _ _ _ _ h) (lw_V q796 q797 q798 q83 q799) hdX0_town (Nat.le_of_ble_eq_true rfl) (Nat.le_of_ble_eq_true rfl) (As := [.int (xs (Int32.toNatClampNeg (x3 + (1 : Int32))))]) rfl (Nat.le_of_ble_eq_true rfl) dL_law_198 (fun v_ w_ hv => ?_) rfl
      obtain ⟨S_20, rfl, r_17, rfl, h⟩ := hv
      refine ag_named (fun f_18 e_22 => ?_)
      have h := h f_18 e_22
      refine ag_aload_n E1 dL_law_201 rfl 2 rfl ?_
      refine ag_aload_n E1 dL_law_202 rfl 0 rfl ?_
      refine ag_iload_n E1 dL_law_203 rfl 3 rfl ?_
      refine ag_iconst E1 dL_law_204 ki_1 ?_
      refine ag_iadd E1 dL_law_205 ?_
      obtain ⟨hin_23, h⟩ := h
      refine ag_sld E1 hX hsb hin_23 dL_law_206 ?_
      obtain ⟨S_26, e_28, h⟩ := h
      refine ag_le e_28 ?_
      refine ag_callV E1 (ci := 0) (C := RX7) (T0 := TX7) (n2 := 56) pM_obj rfl (kX7_town _ _ _ _ _ _ _ f_18.1 f_18.2.1 f_18.2.2 _ _ _ h) (lw_V q1621 q1622 q1623 q107 q1624) hdX7_town (Nat.le_of_ble_eq_true rfl) (Nat.le_of_ble_eq_true rfl) (As := [.int (xs (Int32.toNatClampNeg (x3 + (1 : Int32))))]) rfl (Nat.le_of_ble_eq_true rfl) dL_law_207 (fun v_ w_ hv => ?_) rfl
      obtain ⟨S_27, rfl, r_24, rfl, h⟩ := hv
      refine ag_named (fun f_25 e_29 => ?_)
      have h := h f_25 e_29
      refine ag_icmp_eq E1 (tgt := 1445) dL_law_210 (by decide) (fun c_210 => ?_) (fun c_210 => ?_)
      · have h := h.1 c_210
        exact tbL_law_1445 E hb hX hsb hK18 h
      · have h := h.2 c_210
        refine ag_iconst E1 dL_law_213 ki_0 ?_
        exact law_ret E1 hb h dL_law_214
    · have h := h.2 c_33_0
      have n_0 := lv_neT c_33_0 (show (0 : Int32).toInt = 0 by decide)
      rcases Classical.em (((xs (Int32.toNatClampNeg x3)) &&& (63 : Int32)) = (1 : Int32)) with c_33_1 | c_33_1
      · have h := h.1 c_33_1
        refine ag_tableIn E1 (tgt := 215) (off := 182) dL_law_33 (by rw [c_33_1]; decide) (by rw [c_33_1]; decide) (by rw [c_33_1]; decide) (by decide) ?_
        refine ag_aload_n E1 dL_law_215 rfl 1 rfl ?_
        refine ag_aload_n E1 dL_law_216 rfl 0 rfl ?_
        refine ag_iload_n E1 dL_law_217 rfl 3 rfl ?_
        refine ag_iconst E1 dL_law_218 ki_1 ?_
        refine ag_iadd E1 dL_law_219 ?_
        obtain ⟨hin_31, h⟩ := h
        refine ag_sld E1 hX hsb hin_31 dL_law_220 ?_
        refine ag_aload_n E1 dL_law_221 rfl 0 rfl ?_
        refine ag_iload_n E1 dL_law_222 rfl 3 rfl ?_
        refine ag_iconst E1 dL_law_223 ki_2 ?_
        refine ag_iadd E1 dL_law_224 ?_
        obtain ⟨hin_32, h⟩ := h
        refine ag_sld E1 hX hsb hin_32 dL_law_225 ?_
        refine ag_aload_n E1 dL_law_226 rfl 0 rfl ?_
        refine ag_iload_n E1 dL_law_227 rfl 3 rfl ?_
        refine ag_iconst E1 dL_law_228 ki_3 ?_
        refine ag_iadd E1 dL_law_229 ?_
        obtain ⟨hin_33, h⟩ := h
        refine ag_sld E1 hX hsb hin_33 dL_law_230 ?_
        obtain ⟨S_36, e_38, h⟩ := h
        refine ag_le e_38 ?_
        refine ag_callV E1 (ci := 1) (C := RX0) (T0 := TX0) (n2 := 43) pX_obj rfl (kX0_road _ _ _ _ _ _ _ _ _ _ _ _ _ h) (lw_V q807 q808 q809 q83 q810) hdX0_road (Nat.le_of_ble_eq_true rfl) (Nat.le_of_ble_eq_true rfl) (As := [.int (xs (Int32.toNatClampNeg (x3 + (1 : Int32)))), .int (xs (Int32.toNatClampNeg (x3 + (2 : Int32)))), .int (xs (Int32.toNatClampNeg (x3 + (3 : Int32))))]) rfl (Nat.le_of_ble_eq_true rfl) dL_law_231 (fun v_ w_ hv => ?_) rfl
        obtain ⟨S_37, rfl, r_34, rfl, h⟩ := hv
        refine ag_named (fun f_35 e_39 => ?_)
        have h := h f_35 e_39
        refine ag_aload_n E1 dL_law_234 rfl 2 rfl ?_
        refine ag_aload_n E1 dL_law_235 rfl 0 rfl ?_
        refine ag_iload_n E1 dL_law_236 rfl 3 rfl ?_
        refine ag_iconst E1 dL_law_237 ki_1 ?_
        refine ag_iadd E1 dL_law_238 ?_
        obtain ⟨hin_40, h⟩ := h
        refine ag_sld E1 hX hsb hin_40 dL_law_239 ?_
        refine ag_aload_n E1 dL_law_240 rfl 0 rfl ?_
        refine ag_iload_n E1 dL_law_241 rfl 3 rfl ?_
        refine ag_iconst E1 dL_law_242 ki_2 ?_
        refine ag_iadd E1 dL_law_243 ?_
        obtain ⟨hin_41, h⟩ := h
        refine ag_sld E1 hX hsb hin_41 dL_law_244 ?_
        refine ag_aload_n E1 dL_law_245 rfl 0 rfl ?_
        refine ag_iload_n E1 dL_law_246 rfl 3 rfl ?_
        refine ag_iconst E1 dL_law_247 ki_3 ?_
        refine ag_iadd E1 dL_law_248 ?_
        obtain ⟨hin_42, h⟩ := h
        refine ag_sld E1 hX hsb hin_42 dL_law_249 ?_
        obtain ⟨S_45, e_47, h⟩ := h
        refine ag_le e_47 ?_
        refine ag_callV E1 (ci := 0) (C := RX7) (T0 := TX7) (n2 := 56) pM_obj rfl (kX7_road _ _ _ _ _ _ _ f_35.1 f_35.2.1 f_35.2.2 _ _ _ _ _ h) (lw_V q1628 q1629 q1630 q107 q1631) hdX7_road (Nat.le_of_ble_eq_true rfl) (Nat.le_of_ble_eq_true rfl) (As := [.int (xs (Int32.toNatClampNeg (x3 + (1 : Int32)))), .int (xs (Int32.toNatClampNeg (x3 + (2 : Int32)))), .int (xs (Int32.toNatClampNeg (x3 + (3 : Int32))))]) rfl (Nat.le_of_ble_eq_true rfl) dL_law_250 (fun v_ w_ hv => ?_) rfl
        obtain ⟨S_46, rfl, r_43, rfl, h⟩ := hv
        refine ag_named (fun f_44 e_48 => ?_)
        have h := h f_44 e_48
        refine ag_icmp_eq E1 (tgt := 1445) dL_law_253 (by decide) (fun c_253 => ?_) (fun c_253 => ?_)
        · have h := h.1 c_253
          exact tbL_law_1445 E hb hX hsb hK18 h
        · have h := h.2 c_253
          refine ag_iconst E1 dL_law_256 ki_0 ?_
          exact law_ret E1 hb h dL_law_257
      · have h := h.2 c_33_1
        have n_1 := lv_neT c_33_1 (show (1 : Int32).toInt = 1 by decide)
        rcases Classical.em (((xs (Int32.toNatClampNeg x3)) &&& (63 : Int32)) = (2 : Int32)) with c_33_2 | c_33_2
        · have h := h.1 c_33_2
          refine ag_tableIn E1 (tgt := 258) (off := 225) dL_law_33 (by rw [c_33_2]; decide) (by rw [c_33_2]; decide) (by rw [c_33_2]; decide) (by decide) ?_
          refine ag_aload_n E1 dL_law_258 rfl 1 rfl ?_
          refine ag_aload_n E1 dL_law_259 rfl 0 rfl ?_
          refine ag_iload_n E1 dL_law_260 rfl 3 rfl ?_
          refine ag_iconst E1 dL_law_261 ki_1 ?_
          refine ag_iadd E1 dL_law_262 ?_
          obtain ⟨hin_49, h⟩ := h
          refine ag_sld E1 hX hsb hin_49 dL_law_263 ?_
          refine ag_aload_n E1 dL_law_264 rfl 0 rfl ?_
          refine ag_iload_n E1 dL_law_265 rfl 3 rfl ?_
          refine ag_iconst E1 dL_law_266 ki_2 ?_
          refine ag_iadd E1 dL_law_267 ?_
          obtain ⟨hin_50, h⟩ := h
          refine ag_sld E1 hX hsb hin_50 dL_law_268 ?_
          obtain ⟨S_53, e_55, h⟩ := h
          refine ag_le e_55 ?_
          refine ag_callV E1 (ci := 1) (C := RX0) (T0 := TX0) (n2 := 43) pX_obj rfl (kX0_hours _ _ _ _ _ _ _ _ _ _ _ _ h) (lw_V q816 q817 q818 q83 q819) hdX0_hours (Nat.le_of_ble_eq_true rfl) (Nat.le_of_ble_eq_true rfl) (As := [.int (xs (Int32.toNatClampNeg (x3 + (1 : Int32)))), .int (xs (Int32.toNatClampNeg (x3 + (2 : Int32))))]) rfl (Nat.le_of_ble_eq_true rfl) dL_law_269 (fun v_ w_ hv => ?_) rfl
          obtain ⟨S_54, rfl, r_51, rfl, h⟩ := hv
          refine ag_named (fun f_52 e_56 => ?_)
          have h := h f_52 e_56
          refine ag_aload_n E1 dL_law_272 rfl 2 rfl ?_
          refine ag_aload_n E1 dL_law_273 rfl 0 rfl ?_
          refine ag_iload_n E1 dL_law_274 rfl 3 rfl ?_
          refine ag_iconst E1 dL_law_275 ki_1 ?_
          refine ag_iadd E1 dL_law_276 ?_
          obtain ⟨hin_57, h⟩ := h
          refine ag_sld E1 hX hsb hin_57 dL_law_277 ?_
          refine ag_aload_n E1 dL_law_278 rfl 0 rfl ?_
          refine ag_iload_n E1 dL_law_279 rfl 3 rfl ?_
          refine ag_iconst E1 dL_law_280 ki_2 ?_
          refine ag_iadd E1 dL_law_281 ?_
          obtain ⟨hin_58, h⟩ := h
          refine ag_sld E1 hX hsb hin_58 dL_law_282 ?_
          obtain ⟨S_61, e_63, h⟩ := h
          refine ag_le e_63 ?_
          refine ag_callV E1 (ci := 0) (C := RX7) (T0 := TX7) (n2 := 56) pM_obj rfl (kX7_hours _ _ _ _ _ _ _ f_52.1 f_52.2.1 f_52.2.2 _ _ _ _ h) (lw_V q1636 q1637 q1638 q107 q1639) hdX7_hours (Nat.le_of_ble_eq_true rfl) (Nat.le_of_ble_eq_true rfl) (As := [.int (xs (Int32.toNatClampNeg (x3 + (1 : Int32)))), .int (xs (Int32.toNatClampNeg (x3 + (2 : Int32))))]) rfl (Nat.le_of_ble_eq_true rfl) dL_law_283 (fun v_ w_ hv => ?_) rfl
          obtain ⟨S_62, rfl, r_59, rfl, h⟩ := hv
          refine ag_named (fun f_60 e_64 => ?_)
          have h := h f_60 e_64
          refine ag_icmp_eq E1 (tgt := 1445) dL_law_286 (by decide) (fun c_286 => ?_) (fun c_286 => ?_)
          · have h := h.1 c_286
            exact tbL_law_1445 E hb hX hsb hK18 h
          · have h := h.2 c_286
            refine ag_iconst E1 dL_law_289 ki_0 ?_
            exact law_ret E1 hb h dL_law_290
        · have h := h.2 c_33_2
          have n_2 := lv_neT c_33_2 (show (2 : Int32).toInt = 2 by decide)
          rcases Classical.em (((xs (Int32.toNatClampNeg x3)) &&& (63 : Int32)) = (3 : Int32)) with c_33_3 | c_33_3
          · have h := h.1 c_33_3
            refine ag_tableIn E1 (tgt := 291) (off := 258) dL_law_33 (by rw [c_33_3]; decide) (by rw [c_33_3]; decide) (by rw [c_33_3]; decide) (by decide) ?_
            refine ag_aload_n E1 dL_law_291 rfl 1 rfl ?_
            refine ag_aload_n E1 dL_law_292 rfl 0 rfl ?_
            refine ag_iload_n E1 dL_law_293 rfl 3 rfl ?_
            refine ag_iconst E1 dL_law_294 ki_1 ?_
            refine ag_iadd E1 dL_law_295 ?_
            obtain ⟨hin_65, h⟩ := h
            refine ag_sld E1 hX hsb hin_65 dL_law_296 ?_
            obtain ⟨S_68, e_70, h⟩ := h
            refine ag_le e_70 ?_
            refine ag_callV E1 (ci := 1) (C := RX0) (T0 := TX0) (n2 := 43) pX_obj rfl (kX0_week _ _ _ _ _ _ _ _ _ _ _ h) (lw_V q820 q821 q822 q83 q823) hdX0_week (Nat.le_of_ble_eq_true rfl) (Nat.le_of_ble_eq_true rfl) (As := [.int (xs (Int32.toNatClampNeg (x3 + (1 : Int32))))]) rfl (Nat.le_of_ble_eq_true rfl) dL_law_297 (fun v_ w_ hv => ?_) rfl
            obtain ⟨S_69, rfl, r_66, rfl, h⟩ := hv
            refine ag_named (fun f_67 e_71 => ?_)
            have h := h f_67 e_71
            refine ag_aload_n E1 dL_law_300 rfl 2 rfl ?_
            refine ag_aload_n E1 dL_law_301 rfl 0 rfl ?_
            refine ag_iload_n E1 dL_law_302 rfl 3 rfl ?_
            refine ag_iconst E1 dL_law_303 ki_1 ?_
            refine ag_iadd E1 dL_law_304 ?_
            obtain ⟨hin_72, h⟩ := h
            refine ag_sld E1 hX hsb hin_72 dL_law_305 ?_
            obtain ⟨S_75, e_77, h⟩ := h
            refine ag_le e_77 ?_
            refine ag_callV E1 (ci := 0) (C := RX7) (T0 := TX7) (n2 := 56) pM_obj rfl (kX7_week _ _ _ _ _ _ _ f_67.1 f_67.2.1 f_67.2.2 _ _ _ h) (lw_V q1644 q1645 q1646 q107 q1647) hdX7_week (Nat.le_of_ble_eq_true rfl) (Nat.le_of_ble_eq_true rfl) (As := [.int (xs (Int32.toNatClampNeg (x3 + (1 : Int32))))]) rfl (Nat.le_of_ble_eq_true rfl) dL_law_306 (fun v_ w_ hv => ?_) rfl
            obtain ⟨S_76, rfl, r_73, rfl, h⟩ := hv
            refine ag_named (fun f_74 e_78 => ?_)
            have h := h f_74 e_78
            refine ag_icmp_eq E1 (tgt := 1445) dL_law_309 (by decide) (fun c_309 => ?_) (fun c_309 => ?_)
            · have h := h.1 c_309
              exact tbL_law_1445 E hb hX hsb hK18 h
            · have h := h.2 c_309
              refine ag_iconst E1 dL_law_312 ki_0 ?_
              exact law_ret E1 hb h dL_law_313
          · have h := h.2 c_33_3
            have n_3 := lv_neT c_33_3 (show (3 : Int32).toInt = 3 by decide)
            rcases Classical.em (((xs (Int32.toNatClampNeg x3)) &&& (63 : Int32)) = (4 : Int32)) with c_33_4 | c_33_4
            · have h := h.1 c_33_4
              refine ag_tableIn E1 (tgt := 314) (off := 281) dL_law_33 (by rw [c_33_4]; decide) (by rw [c_33_4]; decide) (by rw [c_33_4]; decide) (by decide) ?_
              refine ag_aload_n E1 dL_law_314 rfl 1 rfl ?_
              refine ag_aload_n E1 dL_law_315 rfl 0 rfl ?_
              refine ag_iload_n E1 dL_law_316 rfl 3 rfl ?_
              refine ag_iconst E1 dL_law_317 ki_1 ?_
              refine ag_iadd E1 dL_law_318 ?_
              obtain ⟨hin_79, h⟩ := h
              refine ag_sld E1 hX hsb hin_79 dL_law_319 ?_
              refine ag_aload_n E1 dL_law_320 rfl 0 rfl ?_
              refine ag_iload_n E1 dL_law_321 rfl 3 rfl ?_
              refine ag_iconst E1 dL_law_322 ki_2 ?_
              refine ag_iadd E1 dL_law_323 ?_
              obtain ⟨hin_80, h⟩ := h
              refine ag_sld E1 hX hsb hin_80 dL_law_324 ?_
              refine ag_aload_n E1 dL_law_325 rfl 0 rfl ?_
              refine ag_iload_n E1 dL_law_326 rfl 3 rfl ?_
              refine ag_iconst E1 dL_law_327 ki_3 ?_
              refine ag_iadd E1 dL_law_328 ?_
              obtain ⟨hin_81, h⟩ := h
              refine ag_sld E1 hX hsb hin_81 dL_law_329 ?_
              obtain ⟨S_84, e_86, h⟩ := h
              refine ag_le e_86 ?_
              refine ag_callV E1 (ci := 1) (C := RX0) (T0 := TX0) (n2 := 43) pX_obj rfl (kX0_want _ _ _ _ _ _ _ _ _ _ _ _ _ h) (lw_V q826 q827 q828 q83 q829) hdX0_want (Nat.le_of_ble_eq_true rfl) (Nat.le_of_ble_eq_true rfl) (As := [.int (xs (Int32.toNatClampNeg (x3 + (1 : Int32)))), .int (xs (Int32.toNatClampNeg (x3 + (2 : Int32)))), .int (xs (Int32.toNatClampNeg (x3 + (3 : Int32))))]) rfl (Nat.le_of_ble_eq_true rfl) dL_law_330 (fun v_ w_ hv => ?_) rfl
              obtain ⟨S_85, rfl, r_82, rfl, h⟩ := hv
              refine ag_named (fun f_83 e_87 => ?_)
              have h := h f_83 e_87
              refine ag_aload_n E1 dL_law_333 rfl 2 rfl ?_
              refine ag_aload_n E1 dL_law_334 rfl 0 rfl ?_
              refine ag_iload_n E1 dL_law_335 rfl 3 rfl ?_
              refine ag_iconst E1 dL_law_336 ki_1 ?_
              refine ag_iadd E1 dL_law_337 ?_
              obtain ⟨hin_88, h⟩ := h
              refine ag_sld E1 hX hsb hin_88 dL_law_338 ?_
              refine ag_aload_n E1 dL_law_339 rfl 0 rfl ?_
              refine ag_iload_n E1 dL_law_340 rfl 3 rfl ?_
              refine ag_iconst E1 dL_law_341 ki_2 ?_
              refine ag_iadd E1 dL_law_342 ?_
              obtain ⟨hin_89, h⟩ := h
              refine ag_sld E1 hX hsb hin_89 dL_law_343 ?_
              refine ag_aload_n E1 dL_law_344 rfl 0 rfl ?_
              refine ag_iload_n E1 dL_law_345 rfl 3 rfl ?_
              refine ag_iconst E1 dL_law_346 ki_3 ?_
              refine ag_iadd E1 dL_law_347 ?_
              obtain ⟨hin_90, h⟩ := h
              refine ag_sld E1 hX hsb hin_90 dL_law_348 ?_
              obtain ⟨S_93, e_95, h⟩ := h
              refine ag_le e_95 ?_
              refine ag_callV E1 (ci := 0) (C := RX7) (T0 := TX7) (n2 := 56) pM_obj rfl (kX7_want _ _ _ _ _ _ _ f_83.1 f_83.2.1 f_83.2.2 _ _ _ _ _ h) (lw_V q1648 q1649 q1650 q107 q1651) hdX7_want (Nat.le_of_ble_eq_true rfl) (Nat.le_of_ble_eq_true rfl) (As := [.int (xs (Int32.toNatClampNeg (x3 + (1 : Int32)))), .int (xs (Int32.toNatClampNeg (x3 + (2 : Int32)))), .int (xs (Int32.toNatClampNeg (x3 + (3 : Int32))))]) rfl (Nat.le_of_ble_eq_true rfl) dL_law_349 (fun v_ w_ hv => ?_) rfl
              obtain ⟨S_94, rfl, r_91, rfl, h⟩ := hv
              refine ag_named (fun f_92 e_96 => ?_)
              have h := h f_92 e_96
              refine ag_icmp_eq E1 (tgt := 1445) dL_law_352 (by decide) (fun c_352 => ?_) (fun c_352 => ?_)
              · have h := h.1 c_352
                exact tbL_law_1445 E hb hX hsb hK18 h
              · have h := h.2 c_352
                refine ag_iconst E1 dL_law_355 ki_0 ?_
                exact law_ret E1 hb h dL_law_356
            · have h := h.2 c_33_4
              have n_4 := lv_neT c_33_4 (show (4 : Int32).toInt = 4 by decide)
              rcases Classical.em (((xs (Int32.toNatClampNeg x3)) &&& (63 : Int32)) = (5 : Int32)) with c_33_5 | c_33_5
              · have h := h.1 c_33_5
                refine ag_tableIn E1 (tgt := 357) (off := 324) dL_law_33 (by rw [c_33_5]; decide) (by rw [c_33_5]; decide) (by rw [c_33_5]; decide) (by decide) ?_
                refine ag_aload_n E1 dL_law_357 rfl 1 rfl ?_
                refine ag_aload_n E1 dL_law_358 rfl 0 rfl ?_
                refine ag_iload_n E1 dL_law_359 rfl 3 rfl ?_
                refine ag_iconst E1 dL_law_360 ki_1 ?_
                refine ag_iadd E1 dL_law_361 ?_
                obtain ⟨hin_97, h⟩ := h
                refine ag_sld E1 hX hsb hin_97 dL_law_362 ?_
                refine ag_aload_n E1 dL_law_363 rfl 0 rfl ?_
                refine ag_iload_n E1 dL_law_364 rfl 3 rfl ?_
                refine ag_iconst E1 dL_law_365 ki_2 ?_
                refine ag_iadd E1 dL_law_366 ?_
                obtain ⟨hin_98, h⟩ := h
                refine ag_sld E1 hX hsb hin_98 dL_law_367 ?_
                obtain ⟨S_101, e_103, h⟩ := h
                refine ag_le e_103 ?_
                refine ag_callV E1 (ci := 1) (C := RX0) (T0 := TX0) (n2 := 43) pX_obj rfl (kX0_townTold _ _ _ _ _ _ _ _ _ _ _ _ h) (lw_V q833 q834 q835 q83 q836) hdX0_townTold (Nat.le_of_ble_eq_true rfl) (Nat.le_of_ble_eq_true rfl) (As := [.int (xs (Int32.toNatClampNeg (x3 + (1 : Int32)))), .int (xs (Int32.toNatClampNeg (x3 + (2 : Int32))))]) rfl (Nat.le_of_ble_eq_true rfl) dL_law_368 (fun v_ w_ hv => ?_) rfl
                obtain ⟨S_102, rfl, r_99, rfl, h⟩ := hv
                refine ag_named (fun f_100 e_104 => ?_)
                have h := h f_100 e_104
                refine ag_aload_n E1 dL_law_371 rfl 2 rfl ?_
                refine ag_aload_n E1 dL_law_372 rfl 0 rfl ?_
                refine ag_iload_n E1 dL_law_373 rfl 3 rfl ?_
                refine ag_iconst E1 dL_law_374 ki_1 ?_
                refine ag_iadd E1 dL_law_375 ?_
                obtain ⟨hin_105, h⟩ := h
                refine ag_sld E1 hX hsb hin_105 dL_law_376 ?_
                refine ag_aload_n E1 dL_law_377 rfl 0 rfl ?_
                refine ag_iload_n E1 dL_law_378 rfl 3 rfl ?_
                refine ag_iconst E1 dL_law_379 ki_2 ?_
                refine ag_iadd E1 dL_law_380 ?_
                obtain ⟨hin_106, h⟩ := h
                refine ag_sld E1 hX hsb hin_106 dL_law_381 ?_
                obtain ⟨S_109, e_111, h⟩ := h
                refine ag_le e_111 ?_
                refine ag_callV E1 (ci := 0) (C := RX7) (T0 := TX7) (n2 := 56) pM_obj rfl (kX7_townTold _ _ _ _ _ _ _ f_100.1 f_100.2.1 f_100.2.2 _ _ _ _ h) (lw_V q1652 q1653 q1654 q107 q1655) hdX7_townTold (Nat.le_of_ble_eq_true rfl) (Nat.le_of_ble_eq_true rfl) (As := [.int (xs (Int32.toNatClampNeg (x3 + (1 : Int32)))), .int (xs (Int32.toNatClampNeg (x3 + (2 : Int32))))]) rfl (Nat.le_of_ble_eq_true rfl) dL_law_382 (fun v_ w_ hv => ?_) rfl
                obtain ⟨S_110, rfl, r_107, rfl, h⟩ := hv
                refine ag_named (fun f_108 e_112 => ?_)
                have h := h f_108 e_112
                refine ag_icmp_eq E1 (tgt := 1445) dL_law_385 (by decide) (fun c_385 => ?_) (fun c_385 => ?_)
                · have h := h.1 c_385
                  exact tbL_law_1445 E hb hX hsb hK18 h
                · have h := h.2 c_385
                  refine ag_iconst E1 dL_law_388 ki_0 ?_
                  exact law_ret E1 hb h dL_law_389
              · have h := h.2 c_33_5
                have n_5 := lv_neT c_33_5 (show (5 : Int32).toInt = 5 by decide)
                rcases Classical.em (((xs (Int32.toNatClampNeg x3)) &&& (63 : Int32)) = (6 : Int32)) with c_33_6 | c_33_6
                · have h := h.1 c_33_6
                  refine ag_tableIn E1 (tgt := 390) (off := 357) dL_law_33 (by rw [c_33_6]; decide) (by rw [c_33_6]; decide) (by rw [c_33_6]; decide) (by decide) ?_
                  refine ag_aload_n E1 dL_law_390 rfl 1 rfl ?_
                  refine ag_aload_n E1 dL_law_391 rfl 0 rfl ?_
                  refine ag_iload_n E1 dL_law_392 rfl 3 rfl ?_
                  refine ag_iconst E1 dL_law_393 ki_1 ?_
                  refine ag_iadd E1 dL_law_394 ?_
                  obtain ⟨hin_113, h⟩ := h
                  refine ag_sld E1 hX hsb hin_113 dL_law_395 ?_
                  refine ag_aload_n E1 dL_law_396 rfl 0 rfl ?_
                  refine ag_iload_n E1 dL_law_397 rfl 3 rfl ?_
                  refine ag_iconst E1 dL_law_398 ki_2 ?_
                  refine ag_iadd E1 dL_law_399 ?_
                  obtain ⟨hin_114, h⟩ := h
                  refine ag_sld E1 hX hsb hin_114 dL_law_400 ?_
                  obtain ⟨S_117, e_119, h⟩ := h
                  refine ag_le e_119 ?_
                  refine ag_callV E1 (ci := 1) (C := RX0) (T0 := TX0) (n2 := 43) pX_obj rfl (kX0_feast _ _ _ _ _ _ _ _ _ _ _ _ h) (lw_V q837 q838 q839 q83 q840) hdX0_feast (Nat.le_of_ble_eq_true rfl) (Nat.le_of_ble_eq_true rfl) (As := [.int (xs (Int32.toNatClampNeg (x3 + (1 : Int32)))), .int (xs (Int32.toNatClampNeg (x3 + (2 : Int32))))]) rfl (Nat.le_of_ble_eq_true rfl) dL_law_401 (fun v_ w_ hv => ?_) rfl
                  obtain ⟨S_118, rfl, r_115, rfl, h⟩ := hv
                  refine ag_named (fun f_116 e_120 => ?_)
                  have h := h f_116 e_120
                  refine ag_aload_n E1 dL_law_404 rfl 2 rfl ?_
                  refine ag_aload_n E1 dL_law_405 rfl 0 rfl ?_
                  refine ag_iload_n E1 dL_law_406 rfl 3 rfl ?_
                  refine ag_iconst E1 dL_law_407 ki_1 ?_
                  refine ag_iadd E1 dL_law_408 ?_
                  obtain ⟨hin_121, h⟩ := h
                  refine ag_sld E1 hX hsb hin_121 dL_law_409 ?_
                  refine ag_aload_n E1 dL_law_410 rfl 0 rfl ?_
                  refine ag_iload_n E1 dL_law_411 rfl 3 rfl ?_
                  refine ag_iconst E1 dL_law_412 ki_2 ?_
                  refine ag_iadd E1 dL_law_413 ?_
                  obtain ⟨hin_122, h⟩ := h
                  refine ag_sld E1 hX hsb hin_122 dL_law_414 ?_
                  obtain ⟨S_125, e_127, h⟩ := h
                  refine ag_le e_127 ?_
                  refine ag_callV E1 (ci := 0) (C := RX7) (T0 := TX7) (n2 := 56) pM_obj rfl (kX7_feast _ _ _ _ _ _ _ f_116.1 f_116.2.1 f_116.2.2 _ _ _ _ h) (lw_V q1656 q1657 q1658 q107 q1659) hdX7_feast (Nat.le_of_ble_eq_true rfl) (Nat.le_of_ble_eq_true rfl) (As := [.int (xs (Int32.toNatClampNeg (x3 + (1 : Int32)))), .int (xs (Int32.toNatClampNeg (x3 + (2 : Int32))))]) rfl (Nat.le_of_ble_eq_true rfl) dL_law_415 (fun v_ w_ hv => ?_) rfl
                  obtain ⟨S_126, rfl, r_123, rfl, h⟩ := hv
                  refine ag_named (fun f_124 e_128 => ?_)
                  have h := h f_124 e_128
                  refine ag_icmp_eq E1 (tgt := 1445) dL_law_418 (by decide) (fun c_418 => ?_) (fun c_418 => ?_)
                  · have h := h.1 c_418
                    exact tbL_law_1445 E hb hX hsb hK18 h
                  · have h := h.2 c_418
                    refine ag_iconst E1 dL_law_421 ki_0 ?_
                    exact law_ret E1 hb h dL_law_422
                · have h := h.2 c_33_6
                  have n_6 := lv_neT c_33_6 (show (6 : Int32).toInt = 6 by decide)
                  rcases Classical.em (((xs (Int32.toNatClampNeg x3)) &&& (63 : Int32)) = (7 : Int32)) with c_33_7 | c_33_7
                  · have h := h.1 c_33_7
                    refine ag_tableIn E1 (tgt := 423) (off := 390) dL_law_33 (by rw [c_33_7]; decide) (by rw [c_33_7]; decide) (by rw [c_33_7]; decide) (by decide) ?_
                    refine ag_aload_n E1 dL_law_423 rfl 1 rfl ?_
                    refine ag_aload_n E1 dL_law_424 rfl 0 rfl ?_
                    refine ag_iload_n E1 dL_law_425 rfl 3 rfl ?_
                    refine ag_iconst E1 dL_law_426 ki_1 ?_
                    refine ag_iadd E1 dL_law_427 ?_
                    obtain ⟨hin_129, h⟩ := h
                    refine ag_sld E1 hX hsb hin_129 dL_law_428 ?_
                    refine ag_i2l E1 dL_law_429 ?_
                    refine ag_bipush E1 dL_law_430 kb_32 ?_
                    refine ag_lshl E1 dL_law_432 ?_
                    refine ag_aload_n E1 dL_law_433 rfl 0 rfl ?_
                    refine ag_iload_n E1 dL_law_434 rfl 3 rfl ?_
                    refine ag_iconst E1 dL_law_435 ki_2 ?_
                    refine ag_iadd E1 dL_law_436 ?_
                    obtain ⟨hin_130, h⟩ := h
                    refine ag_sld E1 hX hsb hin_130 dL_law_437 ?_
                    refine ag_i2l E1 dL_law_438 ?_
                    refine ag_ldc2 E1 q1935 dL_law_439 ?_
                    refine ag_land E1 dL_law_442 ?_
                    refine ag_lor E1 dL_law_443 ?_
                    refine ag_aload_n E1 dL_law_444 rfl 0 rfl ?_
                    refine ag_iload_n E1 dL_law_445 rfl 3 rfl ?_
                    refine ag_iconst E1 dL_law_446 ki_3 ?_
                    refine ag_iadd E1 dL_law_447 ?_
                    obtain ⟨hin_131, h⟩ := h
                    refine ag_sld E1 hX hsb hin_131 dL_law_448 ?_
                    obtain ⟨S_134, e_136, h⟩ := h
                    refine ag_le e_136 ?_
                    refine ag_callV E1 (ci := 1) (C := RX0) (T0 := TX0) (n2 := 43) pX_obj rfl (kX0_feed _ _ _ _ _ _ _ _ _ _ _ _ h) (lw_V q1309 q1310 q1311 q83 q1312) hdX0_feed (Nat.le_of_ble_eq_true rfl) (Nat.le_of_ble_eq_true rfl) (As := [.long ((l_shl (Int32.toInt64 (xs (Int32.toNatClampNeg (x3 + (1 : Int32))))) (32 : Int32)) ||| ((Int32.toInt64 (xs (Int32.toNatClampNeg (x3 + (2 : Int32))))) &&& (4294967295 : Int64))), .int (xs (Int32.toNatClampNeg (x3 + (3 : Int32))))]) rfl (Nat.le_of_ble_eq_true rfl) dL_law_449 (fun v_ w_ hv => ?_) rfl
                    obtain ⟨S_135, rfl, r_132, rfl, h⟩ := hv
                    refine ag_named (fun f_133 e_137 => ?_)
                    have h := h f_133 e_137
                    refine ag_aload_n E1 dL_law_452 rfl 2 rfl ?_
                    refine ag_aload_n E1 dL_law_453 rfl 0 rfl ?_
                    refine ag_iload_n E1 dL_law_454 rfl 3 rfl ?_
                    refine ag_iconst E1 dL_law_455 ki_1 ?_
                    refine ag_iadd E1 dL_law_456 ?_
                    obtain ⟨hin_138, h⟩ := h
                    refine ag_sld E1 hX hsb hin_138 dL_law_457 ?_
                    refine ag_i2l E1 dL_law_458 ?_
                    refine ag_bipush E1 dL_law_459 kb_32 ?_
                    refine ag_lshl E1 dL_law_461 ?_
                    refine ag_aload_n E1 dL_law_462 rfl 0 rfl ?_
                    refine ag_iload_n E1 dL_law_463 rfl 3 rfl ?_
                    refine ag_iconst E1 dL_law_464 ki_2 ?_
                    refine ag_iadd E1 dL_law_465 ?_
                    obtain ⟨hin_139, h⟩ := h
                    refine ag_sld E1 hX hsb hin_139 dL_law_466 ?_
                    refine ag_i2l E1 dL_law_467 ?_
                    refine ag_ldc2 E1 q1935 dL_law_468 ?_
                    refine ag_land E1 dL_law_471 ?_
                    refine ag_lor E1 dL_law_472 ?_
                    refine ag_aload_n E1 dL_law_473 rfl 0 rfl ?_
                    refine ag_iload_n E1 dL_law_474 rfl 3 rfl ?_
                    refine ag_iconst E1 dL_law_475 ki_3 ?_
                    refine ag_iadd E1 dL_law_476 ?_
                    obtain ⟨hin_140, h⟩ := h
                    refine ag_sld E1 hX hsb hin_140 dL_law_477 ?_
                    obtain ⟨S_143, e_145, h⟩ := h
                    refine ag_le e_145 ?_
                    refine ag_callV E1 (ci := 0) (C := RX7) (T0 := TX7) (n2 := 56) pM_obj rfl (kX7_feed _ _ _ _ _ _ _ f_133.1 f_133.2.1 f_133.2.2 _ _ _ _ h) (lw_V q1663 q1664 q1665 q107 q1666) hdX7_feed (Nat.le_of_ble_eq_true rfl) (Nat.le_of_ble_eq_true rfl) (As := [.long ((l_shl (Int32.toInt64 (xs (Int32.toNatClampNeg (x3 + (1 : Int32))))) (32 : Int32)) ||| ((Int32.toInt64 (xs (Int32.toNatClampNeg (x3 + (2 : Int32))))) &&& (4294967295 : Int64))), .int (xs (Int32.toNatClampNeg (x3 + (3 : Int32))))]) rfl (Nat.le_of_ble_eq_true rfl) dL_law_478 (fun v_ w_ hv => ?_) rfl
                    obtain ⟨S_144, rfl, r_141, rfl, h⟩ := hv
                    refine ag_named (fun f_142 e_146 => ?_)
                    have h := h f_142 e_146
                    refine ag_icmp_eq E1 (tgt := 1445) dL_law_481 (by decide) (fun c_481 => ?_) (fun c_481 => ?_)
                    · have h := h.1 c_481
                      exact tbL_law_1445 E hb hX hsb hK18 h
                    · have h := h.2 c_481
                      refine ag_iconst E1 dL_law_484 ki_0 ?_
                      exact law_ret E1 hb h dL_law_485
                  · have h := h.2 c_33_7
                    have n_7 := lv_neT c_33_7 (show (7 : Int32).toInt = 7 by decide)
                    rcases Classical.em (((xs (Int32.toNatClampNeg x3)) &&& (63 : Int32)) = (8 : Int32)) with c_33_8 | c_33_8
                    · have h := h.1 c_33_8
                      refine ag_tableIn E1 (tgt := 486) (off := 453) dL_law_33 (by rw [c_33_8]; decide) (by rw [c_33_8]; decide) (by rw [c_33_8]; decide) (by decide) ?_
                      refine ag_aload_n E1 dL_law_486 rfl 1 rfl ?_
                      obtain ⟨S_149, e_151, h⟩ := h
                      refine ag_le e_151 ?_
                      refine ag_callVW E1 (ci := 1) (C := RX0) (T0 := TX0) (n2 := 43) pX_obj rfl (kX0_text _ _ _ _ _ _ _ _ _  _ h) (lw_VW q1314 q1315 q1316 q83 q1317) hdX0_text (Nat.le_of_ble_eq_true rfl) (Nat.le_of_ble_eq_true rfl) (As := []) rfl (Nat.le_of_ble_eq_true rfl) dL_law_487 rfl (fun v_ w_ hv => ?_) (fun a_ w_ hx => hx.elim)
                      obtain ⟨S_150, rfl, r_147, rfl, h⟩ := hv
                      refine ag_named (fun f_148 e_152 => ?_)
                      have h := h f_148 e_152
                      refine ag_aload_n E1 dL_law_490 rfl 2 rfl ?_
                      obtain ⟨S_155, e_157, h⟩ := h
                      refine ag_le e_157 ?_
                      refine ag_callV E1 (ci := 0) (C := RX7) (T0 := TX7) (n2 := 56) pM_obj rfl (kX7_text _ _ _ _ _ _ _ f_148.1 f_148.2.1 f_148.2.2 _  _ h) (lw_V q1668 q1669 q1670 q107 q1671) hdX7_text (Nat.le_of_ble_eq_true rfl) (Nat.le_of_ble_eq_true rfl) (As := []) rfl (Nat.le_of_ble_eq_true rfl) dL_law_491 (fun v_ w_ hv => ?_) rfl
                      obtain ⟨S_156, rfl, r_153, rfl, h⟩ := hv
                      refine ag_named (fun f_154 e_158 => ?_)
                      have h := h f_154 e_158
                      refine ag_icmp_eq E1 (tgt := 1445) dL_law_494 (by decide) (fun c_494 => ?_) (fun c_494 => ?_)
                      · have h := h.1 c_494
                        exact tbL_law_1445 E hb hX hsb hK18 h
                      · have h := h.2 c_494
                        refine ag_iconst E1 dL_law_497 ki_0 ?_
                        exact law_ret E1 hb h dL_law_498
                    · have h := h.2 c_33_8
                      have n_8 := lv_neT c_33_8 (show (8 : Int32).toInt = 8 by decide)
                      rcases Classical.em (((xs (Int32.toNatClampNeg x3)) &&& (63 : Int32)) = (9 : Int32)) with c_33_9 | c_33_9
                      · have h := h.1 c_33_9
                        refine ag_tableIn E1 (tgt := 499) (off := 466) dL_law_33 (by rw [c_33_9]; decide) (by rw [c_33_9]; decide) (by rw [c_33_9]; decide) (by decide) ?_
                        refine ag_aload_n E1 dL_law_499 rfl 1 rfl ?_
                        refine ag_aload_n E1 dL_law_500 rfl 0 rfl ?_
                        refine ag_iload_n E1 dL_law_501 rfl 3 rfl ?_
                        refine ag_iconst E1 dL_law_502 ki_1 ?_
                        refine ag_iadd E1 dL_law_503 ?_
                        obtain ⟨hin_159, h⟩ := h
                        refine ag_sld E1 hX hsb hin_159 dL_law_504 ?_
                        obtain ⟨S_162, e_164, h⟩ := h
                        refine ag_le e_164 ?_
                        refine ag_callV E1 (ci := 1) (C := RX0) (T0 := TX0) (n2 := 43) pX_obj rfl (kX0_force _ _ _ _ _ _ _ _ _ _ _ h) (lw_V q1319 q1320 q1321 q83 q1322) hdX0_force (Nat.le_of_ble_eq_true rfl) (Nat.le_of_ble_eq_true rfl) (As := [.int (xs (Int32.toNatClampNeg (x3 + (1 : Int32))))]) rfl (Nat.le_of_ble_eq_true rfl) dL_law_505 (fun v_ w_ hv => ?_) rfl
                        obtain ⟨S_163, rfl, r_160, rfl, h⟩ := hv
                        refine ag_named (fun f_161 e_165 => ?_)
                        have h := h f_161 e_165
                        refine ag_aload_n E1 dL_law_508 rfl 2 rfl ?_
                        refine ag_aload_n E1 dL_law_509 rfl 0 rfl ?_
                        refine ag_iload_n E1 dL_law_510 rfl 3 rfl ?_
                        refine ag_iconst E1 dL_law_511 ki_1 ?_
                        refine ag_iadd E1 dL_law_512 ?_
                        obtain ⟨hin_166, h⟩ := h
                        refine ag_sld E1 hX hsb hin_166 dL_law_513 ?_
                        obtain ⟨S_169, e_171, h⟩ := h
                        refine ag_le e_171 ?_
                        refine ag_callV E1 (ci := 0) (C := RX7) (T0 := TX7) (n2 := 56) pM_obj rfl (kX7_force _ _ _ _ _ _ _ f_161.1 f_161.2.1 f_161.2.2 _ _ _ h) (lw_V q1712 q1713 q1714 q107 q1715) hdX7_force (Nat.le_of_ble_eq_true rfl) (Nat.le_of_ble_eq_true rfl) (As := [.int (xs (Int32.toNatClampNeg (x3 + (1 : Int32))))]) rfl (Nat.le_of_ble_eq_true rfl) dL_law_514 (fun v_ w_ hv => ?_) rfl
                        obtain ⟨S_170, rfl, r_167, rfl, h⟩ := hv
                        refine ag_named (fun f_168 e_172 => ?_)
                        have h := h f_168 e_172
                        refine ag_icmp_eq E1 (tgt := 1445) dL_law_517 (by decide) (fun c_517 => ?_) (fun c_517 => ?_)
                        · have h := h.1 c_517
                          exact tbL_law_1445 E hb hX hsb hK18 h
                        · have h := h.2 c_517
                          refine ag_iconst E1 dL_law_520 ki_0 ?_
                          exact law_ret E1 hb h dL_law_521
                      · have h := h.2 c_33_9
                        have n_9 := lv_neT c_33_9 (show (9 : Int32).toInt = 9 by decide)
                        rcases Classical.em (((xs (Int32.toNatClampNeg x3)) &&& (63 : Int32)) = (10 : Int32)) with c_33_10 | c_33_10
                        · have h := h.1 c_33_10
                          refine ag_tableIn E1 (tgt := 522) (off := 489) dL_law_33 (by rw [c_33_10]; decide) (by rw [c_33_10]; decide) (by rw [c_33_10]; decide) (by decide) ?_
                          refine ag_aload_n E1 dL_law_522 rfl 1 rfl ?_
                          refine ag_aload_n E1 dL_law_523 rfl 0 rfl ?_
                          refine ag_iload_n E1 dL_law_524 rfl 3 rfl ?_
                          refine ag_iconst E1 dL_law_525 ki_1 ?_
                          refine ag_iadd E1 dL_law_526 ?_
                          obtain ⟨hin_173, h⟩ := h
                          refine ag_sld E1 hX hsb hin_173 dL_law_527 ?_
                          refine ag_aload_n E1 dL_law_528 rfl 0 rfl ?_
                          refine ag_iload_n E1 dL_law_529 rfl 3 rfl ?_
                          refine ag_iconst E1 dL_law_530 ki_2 ?_
                          refine ag_iadd E1 dL_law_531 ?_
                          obtain ⟨hin_174, h⟩ := h
                          refine ag_sld E1 hX hsb hin_174 dL_law_532 ?_
                          obtain ⟨S_177, e_179, h⟩ := h
                          refine ag_le e_179 ?_
                          refine ag_callV E1 (ci := 1) (C := RX0) (T0 := TX0) (n2 := 43) pX_obj rfl (kX0_says _ _ _ _ _ _ _ _ _ _ _ _ h) (lw_V q845 q846 q847 q83 q848) hdX0_says (Nat.le_of_ble_eq_true rfl) (Nat.le_of_ble_eq_true rfl) (As := [.int (xs (Int32.toNatClampNeg (x3 + (1 : Int32)))), .int (xs (Int32.toNatClampNeg (x3 + (2 : Int32))))]) rfl (Nat.le_of_ble_eq_true rfl) dL_law_533 (fun v_ w_ hv => ?_) rfl
                          obtain ⟨S_178, rfl, r_175, rfl, h⟩ := hv
                          refine ag_named (fun f_176 e_180 => ?_)
                          have h := h f_176 e_180
                          refine ag_aload_n E1 dL_law_536 rfl 2 rfl ?_
                          refine ag_aload_n E1 dL_law_537 rfl 0 rfl ?_
                          refine ag_iload_n E1 dL_law_538 rfl 3 rfl ?_
                          refine ag_iconst E1 dL_law_539 ki_1 ?_
                          refine ag_iadd E1 dL_law_540 ?_
                          obtain ⟨hin_181, h⟩ := h
                          refine ag_sld E1 hX hsb hin_181 dL_law_541 ?_
                          refine ag_aload_n E1 dL_law_542 rfl 0 rfl ?_
                          refine ag_iload_n E1 dL_law_543 rfl 3 rfl ?_
                          refine ag_iconst E1 dL_law_544 ki_2 ?_
                          refine ag_iadd E1 dL_law_545 ?_
                          obtain ⟨hin_182, h⟩ := h
                          refine ag_sld E1 hX hsb hin_182 dL_law_546 ?_
                          obtain ⟨S_185, e_187, h⟩ := h
                          refine ag_le e_187 ?_
                          refine ag_callV E1 (ci := 0) (C := RX7) (T0 := TX7) (n2 := 56) pM_obj rfl (kX7_says _ _ _ _ _ _ _ f_176.1 f_176.2.1 f_176.2.2 _ _ _ _ h) (lw_V q1716 q1717 q1718 q107 q1719) hdX7_says (Nat.le_of_ble_eq_true rfl) (Nat.le_of_ble_eq_true rfl) (As := [.int (xs (Int32.toNatClampNeg (x3 + (1 : Int32)))), .int (xs (Int32.toNatClampNeg (x3 + (2 : Int32))))]) rfl (Nat.le_of_ble_eq_true rfl) dL_law_547 (fun v_ w_ hv => ?_) rfl
                          obtain ⟨S_186, rfl, r_183, rfl, h⟩ := hv
                          refine ag_named (fun f_184 e_188 => ?_)
                          have h := h f_184 e_188
                          refine ag_lcmp E1 dL_law_550 ?_
                          refine ag_if_eq E1 (tgt := 1445) dL_law_551 (by decide) (fun c_551 => ?_) (fun c_551 => ?_)
                          · have h := h.1 c_551
                            exact tbL_law_1445 E hb hX hsb hK18 h
                          · have h := h.2 c_551
                            refine ag_iconst E1 dL_law_554 ki_0 ?_
                            exact law_ret E1 hb h dL_law_555
                        · have h := h.2 c_33_10
                          have n_10 := lv_neT c_33_10 (show (10 : Int32).toInt = 10 by decide)
                          rcases Classical.em (((xs (Int32.toNatClampNeg x3)) &&& (63 : Int32)) = (11 : Int32)) with c_33_11 | c_33_11
                          · have h := h.1 c_33_11
                            refine ag_tableIn E1 (tgt := 556) (off := 523) dL_law_33 (by rw [c_33_11]; decide) (by rw [c_33_11]; decide) (by rw [c_33_11]; decide) (by decide) ?_
                            refine ag_aload_n E1 dL_law_556 rfl 1 rfl ?_
                            refine ag_aload_n E1 dL_law_557 rfl 0 rfl ?_
                            refine ag_iload_n E1 dL_law_558 rfl 3 rfl ?_
                            refine ag_iconst E1 dL_law_559 ki_1 ?_
                            refine ag_iadd E1 dL_law_560 ?_
                            obtain ⟨hin_189, h⟩ := h
                            refine ag_sld E1 hX hsb hin_189 dL_law_561 ?_
                            refine ag_aload_n E1 dL_law_562 rfl 0 rfl ?_
                            refine ag_iload_n E1 dL_law_563 rfl 3 rfl ?_
                            refine ag_iconst E1 dL_law_564 ki_2 ?_
                            refine ag_iadd E1 dL_law_565 ?_
                            obtain ⟨hin_190, h⟩ := h
                            refine ag_sld E1 hX hsb hin_190 dL_law_566 ?_
                            refine ag_aload_n E1 dL_law_567 rfl 0 rfl ?_
                            refine ag_iload_n E1 dL_law_568 rfl 3 rfl ?_
                            refine ag_iconst E1 dL_law_569 ki_3 ?_
                            refine ag_iadd E1 dL_law_570 ?_
                            obtain ⟨hin_191, h⟩ := h
                            refine ag_sld E1 hX hsb hin_191 dL_law_571 ?_
                            refine ag_aload_n E1 dL_law_572 rfl 0 rfl ?_
                            refine ag_iload_n E1 dL_law_573 rfl 3 rfl ?_
                            refine ag_iconst E1 dL_law_574 ki_4 ?_
                            refine ag_iadd E1 dL_law_575 ?_
                            obtain ⟨hin_192, h⟩ := h
                            refine ag_sld E1 hX hsb hin_192 dL_law_576 ?_
                            obtain ⟨S_195, e_197, h⟩ := h
                            refine ag_le e_197 ?_
                            refine ag_callV E1 (ci := 1) (C := RX0) (T0 := TX0) (n2 := 43) pX_obj rfl (kX0_worthOf _ _ _ _ _ _ _ _ _ _ _ _ _ _ h) (lw_V q880 q881 q882 q83 q883) hdX0_worthOf (Nat.le_of_ble_eq_true rfl) (Nat.le_of_ble_eq_true rfl) (As := [.int (xs (Int32.toNatClampNeg (x3 + (1 : Int32)))), .int (xs (Int32.toNatClampNeg (x3 + (2 : Int32)))), .int (xs (Int32.toNatClampNeg (x3 + (3 : Int32)))), .int (xs (Int32.toNatClampNeg (x3 + (4 : Int32))))]) rfl (Nat.le_of_ble_eq_true rfl) dL_law_577 (fun v_ w_ hv => ?_) rfl
                            obtain ⟨S_196, rfl, r_193, rfl, h⟩ := hv
                            refine ag_named (fun f_194 e_198 => ?_)
                            have h := h f_194 e_198
                            refine ag_aload_n E1 dL_law_580 rfl 2 rfl ?_
                            refine ag_aload_n E1 dL_law_581 rfl 0 rfl ?_
                            refine ag_iload_n E1 dL_law_582 rfl 3 rfl ?_
                            refine ag_iconst E1 dL_law_583 ki_1 ?_
                            refine ag_iadd E1 dL_law_584 ?_
                            obtain ⟨hin_199, h⟩ := h
                            refine ag_sld E1 hX hsb hin_199 dL_law_585 ?_
                            refine ag_aload_n E1 dL_law_586 rfl 0 rfl ?_
                            refine ag_iload_n E1 dL_law_587 rfl 3 rfl ?_
                            refine ag_iconst E1 dL_law_588 ki_2 ?_
                            refine ag_iadd E1 dL_law_589 ?_
                            obtain ⟨hin_200, h⟩ := h
                            refine ag_sld E1 hX hsb hin_200 dL_law_590 ?_
                            refine ag_aload_n E1 dL_law_591 rfl 0 rfl ?_
                            refine ag_iload_n E1 dL_law_592 rfl 3 rfl ?_
                            refine ag_iconst E1 dL_law_593 ki_3 ?_
                            refine ag_iadd E1 dL_law_594 ?_
                            obtain ⟨hin_201, h⟩ := h
                            refine ag_sld E1 hX hsb hin_201 dL_law_595 ?_
                            refine ag_aload_n E1 dL_law_596 rfl 0 rfl ?_
                            refine ag_iload_n E1 dL_law_597 rfl 3 rfl ?_
                            refine ag_iconst E1 dL_law_598 ki_4 ?_
                            refine ag_iadd E1 dL_law_599 ?_
                            obtain ⟨hin_202, h⟩ := h
                            refine ag_sld E1 hX hsb hin_202 dL_law_600 ?_
                            obtain ⟨S_205, e_207, h⟩ := h
                            refine ag_le e_207 ?_
                            refine ag_callV E1 (ci := 0) (C := RX7) (T0 := TX7) (n2 := 56) pM_obj rfl (kX7_worthOf _ _ _ _ _ _ _ f_194.1 f_194.2.1 f_194.2.2 _ _ _ _ _ _ h) (lw_V q1736 q1737 q1738 q107 q1739) hdX7_worthOf (Nat.le_of_ble_eq_true rfl) (Nat.le_of_ble_eq_true rfl) (As := [.int (xs (Int32.toNatClampNeg (x3 + (1 : Int32)))), .int (xs (Int32.toNatClampNeg (x3 + (2 : Int32)))), .int (xs (Int32.toNatClampNeg (x3 + (3 : Int32)))), .int (xs (Int32.toNatClampNeg (x3 + (4 : Int32))))]) rfl (Nat.le_of_ble_eq_true rfl) dL_law_601 (fun v_ w_ hv => ?_) rfl
                            obtain ⟨S_206, rfl, r_203, rfl, h⟩ := hv
                            refine ag_named (fun f_204 e_208 => ?_)
                            have h := h f_204 e_208
                            refine ag_lcmp E1 dL_law_604 ?_
                            refine ag_if_eq E1 (tgt := 1445) dL_law_605 (by decide) (fun c_605 => ?_) (fun c_605 => ?_)
                            · have h := h.1 c_605
                              exact tbL_law_1445 E hb hX hsb hK18 h
                            · have h := h.2 c_605
                              refine ag_iconst E1 dL_law_608 ki_0 ?_
                              exact law_ret E1 hb h dL_law_609
                          · have h := h.2 c_33_11
                            have n_11 := lv_neT c_33_11 (show (11 : Int32).toInt = 11 by decide)
                            rcases Classical.em (((xs (Int32.toNatClampNeg x3)) &&& (63 : Int32)) = (12 : Int32)) with c_33_12 | c_33_12
                            · have h := h.1 c_33_12
                              refine ag_tableIn E1 (tgt := 610) (off := 577) dL_law_33 (by rw [c_33_12]; decide) (by rw [c_33_12]; decide) (by rw [c_33_12]; decide) (by decide) ?_
                              refine ag_aload_n E1 dL_law_610 rfl 1 rfl ?_
                              refine ag_aload_n E1 dL_law_611 rfl 0 rfl ?_
                              refine ag_iload_n E1 dL_law_612 rfl 3 rfl ?_
                              refine ag_iconst E1 dL_law_613 ki_1 ?_
                              refine ag_iadd E1 dL_law_614 ?_
                              obtain ⟨hin_209, h⟩ := h
                              refine ag_sld E1 hX hsb hin_209 dL_law_615 ?_
                              refine ag_aload_n E1 dL_law_616 rfl 0 rfl ?_
                              refine ag_iload_n E1 dL_law_617 rfl 3 rfl ?_
                              refine ag_iconst E1 dL_law_618 ki_2 ?_
                              refine ag_iadd E1 dL_law_619 ?_
                              obtain ⟨hin_210, h⟩ := h
                              refine ag_sld E1 hX hsb hin_210 dL_law_620 ?_
                              obtain ⟨S_213, e_215, h⟩ := h
                              refine ag_le e_215 ?_
                              refine ag_callV E1 (ci := 1) (C := RX0) (T0 := TX0) (n2 := 43) pX_obj rfl (kX0_giving _ _ _ _ _ _ _ _ _ _ _ _ h) (lw_V q893 q894 q895 q83 q896) hdX0_giving (Nat.le_of_ble_eq_true rfl) (Nat.le_of_ble_eq_true rfl) (As := [.int (xs (Int32.toNatClampNeg (x3 + (1 : Int32)))), .int (xs (Int32.toNatClampNeg (x3 + (2 : Int32))))]) rfl (Nat.le_of_ble_eq_true rfl) dL_law_621 (fun v_ w_ hv => ?_) rfl
                              obtain ⟨S_214, rfl, r_211, rfl, h⟩ := hv
                              refine ag_named (fun f_212 e_216 => ?_)
                              have h := h f_212 e_216
                              refine ag_aload_n E1 dL_law_624 rfl 2 rfl ?_
                              refine ag_aload_n E1 dL_law_625 rfl 0 rfl ?_
                              refine ag_iload_n E1 dL_law_626 rfl 3 rfl ?_
                              refine ag_iconst E1 dL_law_627 ki_1 ?_
                              refine ag_iadd E1 dL_law_628 ?_
                              obtain ⟨hin_217, h⟩ := h
                              refine ag_sld E1 hX hsb hin_217 dL_law_629 ?_
                              refine ag_aload_n E1 dL_law_630 rfl 0 rfl ?_
                              refine ag_iload_n E1 dL_law_631 rfl 3 rfl ?_
                              refine ag_iconst E1 dL_law_632 ki_2 ?_
                              refine ag_iadd E1 dL_law_633 ?_
                              obtain ⟨hin_218, h⟩ := h
                              refine ag_sld E1 hX hsb hin_218 dL_law_634 ?_
                              obtain ⟨S_221, e_223, h⟩ := h
                              refine ag_le e_223 ?_
                              refine ag_callV E1 (ci := 0) (C := RX7) (T0 := TX7) (n2 := 56) pM_obj rfl (kX7_giving _ _ _ _ _ _ _ f_212.1 f_212.2.1 f_212.2.2 _ _ _ _ h) (lw_V q1744 q1745 q1746 q107 q1747) hdX7_giving (Nat.le_of_ble_eq_true rfl) (Nat.le_of_ble_eq_true rfl) (As := [.int (xs (Int32.toNatClampNeg (x3 + (1 : Int32)))), .int (xs (Int32.toNatClampNeg (x3 + (2 : Int32))))]) rfl (Nat.le_of_ble_eq_true rfl) dL_law_635 (fun v_ w_ hv => ?_) rfl
                              obtain ⟨S_222, rfl, r_219, rfl, h⟩ := hv
                              refine ag_named (fun f_220 e_224 => ?_)
                              have h := h f_220 e_224
                              refine ag_icmp_eq E1 (tgt := 1445) dL_law_638 (by decide) (fun c_638 => ?_) (fun c_638 => ?_)
                              · have h := h.1 c_638
                                exact tbL_law_1445 E hb hX hsb hK18 h
                              · have h := h.2 c_638
                                refine ag_iconst E1 dL_law_641 ki_0 ?_
                                exact law_ret E1 hb h dL_law_642
                            · have h := h.2 c_33_12
                              have n_12 := lv_neT c_33_12 (show (12 : Int32).toInt = 12 by decide)
                              rcases Classical.em (((xs (Int32.toNatClampNeg x3)) &&& (63 : Int32)) = (13 : Int32)) with c_33_13 | c_33_13
                              · have h := h.1 c_33_13
                                refine ag_tableIn E1 (tgt := 643) (off := 610) dL_law_33 (by rw [c_33_13]; decide) (by rw [c_33_13]; decide) (by rw [c_33_13]; decide) (by decide) ?_
                                refine ag_aload_n E1 dL_law_643 rfl 1 rfl ?_
                                refine ag_aload_n E1 dL_law_644 rfl 0 rfl ?_
                                refine ag_iload_n E1 dL_law_645 rfl 3 rfl ?_
                                refine ag_iconst E1 dL_law_646 ki_1 ?_
                                refine ag_iadd E1 dL_law_647 ?_
                                obtain ⟨hin_225, h⟩ := h
                                refine ag_sld E1 hX hsb hin_225 dL_law_648 ?_
                                refine ag_aload_n E1 dL_law_649 rfl 0 rfl ?_
                                refine ag_iload_n E1 dL_law_650 rfl 3 rfl ?_
                                refine ag_iconst E1 dL_law_651 ki_2 ?_
                                refine ag_iadd E1 dL_law_652 ?_
                                obtain ⟨hin_226, h⟩ := h
                                refine ag_sld E1 hX hsb hin_226 dL_law_653 ?_
                                refine ag_aload_n E1 dL_law_654 rfl 0 rfl ?_
                                refine ag_iload_n E1 dL_law_655 rfl 3 rfl ?_
                                refine ag_iconst E1 dL_law_656 ki_3 ?_
                                refine ag_iadd E1 dL_law_657 ?_
                                obtain ⟨hin_227, h⟩ := h
                                refine ag_sld E1 hX hsb hin_227 dL_law_658 ?_
                                obtain ⟨S_230, e_232, h⟩ := h
                                refine ag_le e_232 ?_
                                refine ag_callV E1 (ci := 1) (C := RX0) (T0 := TX0) (n2 := 43) pX_obj rfl (kX0_marketOf _ _ _ _ _ _ _ _ _ _ _ _ _ h) (lw_V q1046 q1047 q1048 q83 q1049) hdX0_marketOf (Nat.le_of_ble_eq_true rfl) (Nat.le_of_ble_eq_true rfl) (As := [.int (xs (Int32.toNatClampNeg (x3 + (1 : Int32)))), .int (xs (Int32.toNatClampNeg (x3 + (2 : Int32)))), .int (xs (Int32.toNatClampNeg (x3 + (3 : Int32))))]) rfl (Nat.le_of_ble_eq_true rfl) dL_law_659 (fun v_ w_ hv => ?_) rfl
                                obtain ⟨S_231, rfl, r_228, rfl, h⟩ := hv
                                refine ag_named (fun f_229 e_233 => ?_)
                                have h := h f_229 e_233
                                refine ag_aload_n E1 dL_law_662 rfl 2 rfl ?_
                                refine ag_aload_n E1 dL_law_663 rfl 0 rfl ?_
                                refine ag_iload_n E1 dL_law_664 rfl 3 rfl ?_
                                refine ag_iconst E1 dL_law_665 ki_1 ?_
                                refine ag_iadd E1 dL_law_666 ?_
                                obtain ⟨hin_234, h⟩ := h
                                refine ag_sld E1 hX hsb hin_234 dL_law_667 ?_
                                refine ag_aload_n E1 dL_law_668 rfl 0 rfl ?_
                                refine ag_iload_n E1 dL_law_669 rfl 3 rfl ?_
                                refine ag_iconst E1 dL_law_670 ki_2 ?_
                                refine ag_iadd E1 dL_law_671 ?_
                                obtain ⟨hin_235, h⟩ := h
                                refine ag_sld E1 hX hsb hin_235 dL_law_672 ?_
                                refine ag_aload_n E1 dL_law_673 rfl 0 rfl ?_
                                refine ag_iload_n E1 dL_law_674 rfl 3 rfl ?_
                                refine ag_iconst E1 dL_law_675 ki_3 ?_
                                refine ag_iadd E1 dL_law_676 ?_
                                obtain ⟨hin_236, h⟩ := h
                                refine ag_sld E1 hX hsb hin_236 dL_law_677 ?_
                                obtain ⟨S_239, e_241, h⟩ := h
                                refine ag_le e_241 ?_
                                refine ag_callV E1 (ci := 0) (C := RX7) (T0 := TX7) (n2 := 56) pM_obj rfl (kX7_marketOf _ _ _ _ _ _ _ f_229.1 f_229.2.1 f_229.2.2 _ _ _ _ _ h) (lw_V q1752 q1753 q1754 q107 q1755) hdX7_marketOf (Nat.le_of_ble_eq_true rfl) (Nat.le_of_ble_eq_true rfl) (As := [.int (xs (Int32.toNatClampNeg (x3 + (1 : Int32)))), .int (xs (Int32.toNatClampNeg (x3 + (2 : Int32)))), .int (xs (Int32.toNatClampNeg (x3 + (3 : Int32))))]) rfl (Nat.le_of_ble_eq_true rfl) dL_law_678 (fun v_ w_ hv => ?_) rfl
                                obtain ⟨S_240, rfl, r_237, rfl, h⟩ := hv
                                refine ag_named (fun f_238 e_242 => ?_)
                                have h := h f_238 e_242
                                refine ag_icmp_eq E1 (tgt := 1445) dL_law_681 (by decide) (fun c_681 => ?_) (fun c_681 => ?_)
                                · have h := h.1 c_681
                                  exact tbL_law_1445 E hb hX hsb hK18 h
                                · have h := h.2 c_681
                                  refine ag_iconst E1 dL_law_684 ki_0 ?_
                                  exact law_ret E1 hb h dL_law_685
                              · have h := h.2 c_33_13
                                have n_13 := lv_neT c_33_13 (show (13 : Int32).toInt = 13 by decide)
                                rcases Classical.em (((xs (Int32.toNatClampNeg x3)) &&& (63 : Int32)) = (14 : Int32)) with c_33_14 | c_33_14
                                · have h := h.1 c_33_14
                                  refine ag_tableIn E1 (tgt := 686) (off := 653) dL_law_33 (by rw [c_33_14]; decide) (by rw [c_33_14]; decide) (by rw [c_33_14]; decide) (by decide) ?_
                                  refine ag_aload_n E1 dL_law_686 rfl 1 rfl ?_
                                  refine ag_aload_n E1 dL_law_687 rfl 0 rfl ?_
                                  refine ag_iload_n E1 dL_law_688 rfl 3 rfl ?_
                                  refine ag_iconst E1 dL_law_689 ki_1 ?_
                                  refine ag_iadd E1 dL_law_690 ?_
                                  obtain ⟨hin_243, h⟩ := h
                                  refine ag_sld E1 hX hsb hin_243 dL_law_691 ?_
                                  refine ag_aload_n E1 dL_law_692 rfl 0 rfl ?_
                                  refine ag_iload_n E1 dL_law_693 rfl 3 rfl ?_
                                  refine ag_iconst E1 dL_law_694 ki_2 ?_
                                  refine ag_iadd E1 dL_law_695 ?_
                                  obtain ⟨hin_244, h⟩ := h
                                  refine ag_sld E1 hX hsb hin_244 dL_law_696 ?_
                                  obtain ⟨S_247, e_249, h⟩ := h
                                  refine ag_le e_249 ?_
                                  refine ag_callV E1 (ci := 1) (C := RX0) (T0 := TX0) (n2 := 43) pX_obj rfl (kX0_bar _ _ _ _ _ _ _ _ _ _ _ _ h) (lw_V q1101 q1102 q1103 q83 q1104) hdX0_bar (Nat.le_of_ble_eq_true rfl) (Nat.le_of_ble_eq_true rfl) (As := [.int (xs (Int32.toNatClampNeg (x3 + (1 : Int32)))), .int (xs (Int32.toNatClampNeg (x3 + (2 : Int32))))]) rfl (Nat.le_of_ble_eq_true rfl) dL_law_697 (fun v_ w_ hv => ?_) rfl
                                  obtain ⟨S_248, rfl, r_245, rfl, h⟩ := hv
                                  refine ag_named (fun f_246 e_250 => ?_)
                                  have h := h f_246 e_250
                                  refine ag_aload_n E1 dL_law_700 rfl 2 rfl ?_
                                  refine ag_aload_n E1 dL_law_701 rfl 0 rfl ?_
                                  refine ag_iload_n E1 dL_law_702 rfl 3 rfl ?_
                                  refine ag_iconst E1 dL_law_703 ki_1 ?_
                                  refine ag_iadd E1 dL_law_704 ?_
                                  obtain ⟨hin_251, h⟩ := h
                                  refine ag_sld E1 hX hsb hin_251 dL_law_705 ?_
                                  refine ag_aload_n E1 dL_law_706 rfl 0 rfl ?_
                                  refine ag_iload_n E1 dL_law_707 rfl 3 rfl ?_
                                  refine ag_iconst E1 dL_law_708 ki_2 ?_
                                  refine ag_iadd E1 dL_law_709 ?_
                                  obtain ⟨hin_252, h⟩ := h
                                  refine ag_sld E1 hX hsb hin_252 dL_law_710 ?_
                                  obtain ⟨S_255, e_257, h⟩ := h
                                  refine ag_le e_257 ?_
                                  refine ag_callV E1 (ci := 0) (C := RX7) (T0 := TX7) (n2 := 56) pM_obj rfl (kX7_bar _ _ _ _ _ _ _ f_246.1 f_246.2.1 f_246.2.2 _ _ _ _ h) (lw_V q1768 q1769 q1770 q107 q1771) hdX7_bar (Nat.le_of_ble_eq_true rfl) (Nat.le_of_ble_eq_true rfl) (As := [.int (xs (Int32.toNatClampNeg (x3 + (1 : Int32)))), .int (xs (Int32.toNatClampNeg (x3 + (2 : Int32))))]) rfl (Nat.le_of_ble_eq_true rfl) dL_law_711 (fun v_ w_ hv => ?_) rfl
                                  obtain ⟨S_256, rfl, r_253, rfl, h⟩ := hv
                                  refine ag_named (fun f_254 e_258 => ?_)
                                  have h := h f_254 e_258
                                  refine ag_icmp_eq E1 (tgt := 1445) dL_law_714 (by decide) (fun c_714 => ?_) (fun c_714 => ?_)
                                  · have h := h.1 c_714
                                    exact tbL_law_1445 E hb hX hsb hK18 h
                                  · have h := h.2 c_714
                                    refine ag_iconst E1 dL_law_717 ki_0 ?_
                                    exact law_ret E1 hb h dL_law_718
                                · have h := h.2 c_33_14
                                  have n_14 := lv_neT c_33_14 (show (14 : Int32).toInt = 14 by decide)
                                  rcases Classical.em (((xs (Int32.toNatClampNeg x3)) &&& (63 : Int32)) = (15 : Int32)) with c_33_15 | c_33_15
                                  · have h := h.1 c_33_15
                                    refine ag_tableIn E1 (tgt := 719) (off := 686) dL_law_33 (by rw [c_33_15]; decide) (by rw [c_33_15]; decide) (by rw [c_33_15]; decide) (by decide) ?_
                                    refine ag_aload_n E1 dL_law_719 rfl 1 rfl ?_
                                    refine ag_aload_n E1 dL_law_720 rfl 0 rfl ?_
                                    refine ag_iload_n E1 dL_law_721 rfl 3 rfl ?_
                                    refine ag_iconst E1 dL_law_722 ki_1 ?_
                                    refine ag_iadd E1 dL_law_723 ?_
                                    obtain ⟨hin_259, h⟩ := h
                                    refine ag_sld E1 hX hsb hin_259 dL_law_724 ?_
                                    refine ag_aload_n E1 dL_law_725 rfl 0 rfl ?_
                                    refine ag_iload_n E1 dL_law_726 rfl 3 rfl ?_
                                    refine ag_iconst E1 dL_law_727 ki_2 ?_
                                    refine ag_iadd E1 dL_law_728 ?_
                                    obtain ⟨hin_260, h⟩ := h
                                    refine ag_sld E1 hX hsb hin_260 dL_law_729 ?_
                                    obtain ⟨S_263, e_265, h⟩ := h
                                    refine ag_le e_265 ?_
                                    refine ag_callV E1 (ci := 1) (C := RX0) (T0 := TX0) (n2 := 43) pX_obj rfl (kX0_lawful _ _ _ _ _ _ _ _ _ _ _ _ h) (lw_V q1121 q1122 q1123 q83 q1124) hdX0_lawful (Nat.le_of_ble_eq_true rfl) (Nat.le_of_ble_eq_true rfl) (As := [.int (xs (Int32.toNatClampNeg (x3 + (1 : Int32)))), .int (xs (Int32.toNatClampNeg (x3 + (2 : Int32))))]) rfl (Nat.le_of_ble_eq_true rfl) dL_law_730 (fun v_ w_ hv => ?_) rfl
                                    obtain ⟨S_264, rfl, r_261, rfl, h⟩ := hv
                                    refine ag_named (fun f_262 e_266 => ?_)
                                    have h := h f_262 e_266
                                    refine ag_aload_n E1 dL_law_733 rfl 2 rfl ?_
                                    refine ag_aload_n E1 dL_law_734 rfl 0 rfl ?_
                                    refine ag_iload_n E1 dL_law_735 rfl 3 rfl ?_
                                    refine ag_iconst E1 dL_law_736 ki_1 ?_
                                    refine ag_iadd E1 dL_law_737 ?_
                                    obtain ⟨hin_267, h⟩ := h
                                    refine ag_sld E1 hX hsb hin_267 dL_law_738 ?_
                                    refine ag_aload_n E1 dL_law_739 rfl 0 rfl ?_
                                    refine ag_iload_n E1 dL_law_740 rfl 3 rfl ?_
                                    refine ag_iconst E1 dL_law_741 ki_2 ?_
                                    refine ag_iadd E1 dL_law_742 ?_
                                    obtain ⟨hin_268, h⟩ := h
                                    refine ag_sld E1 hX hsb hin_268 dL_law_743 ?_
                                    obtain ⟨S_271, e_273, h⟩ := h
                                    refine ag_le e_273 ?_
                                    refine ag_callV E1 (ci := 0) (C := RX7) (T0 := TX7) (n2 := 56) pM_obj rfl (kX7_lawful _ _ _ _ _ _ _ f_262.1 f_262.2.1 f_262.2.2 _ _ _ _ h) (lw_V q1792 q1793 q1794 q107 q1795) hdX7_lawful (Nat.le_of_ble_eq_true rfl) (Nat.le_of_ble_eq_true rfl) (As := [.int (xs (Int32.toNatClampNeg (x3 + (1 : Int32)))), .int (xs (Int32.toNatClampNeg (x3 + (2 : Int32))))]) rfl (Nat.le_of_ble_eq_true rfl) dL_law_744 (fun v_ w_ hv => ?_) rfl
                                    obtain ⟨S_272, rfl, r_269, rfl, h⟩ := hv
                                    refine ag_named (fun f_270 e_274 => ?_)
                                    have h := h f_270 e_274
                                    refine ag_icmp_eq E1 (tgt := 1445) dL_law_747 (by decide) (fun c_747 => ?_) (fun c_747 => ?_)
                                    · have h := h.1 c_747
                                      exact tbL_law_1445 E hb hX hsb hK18 h
                                    · have h := h.2 c_747
                                      refine ag_iconst E1 dL_law_750 ki_0 ?_
                                      exact law_ret E1 hb h dL_law_751
                                  · have h := h.2 c_33_15
                                    have n_15 := lv_neT c_33_15 (show (15 : Int32).toInt = 15 by decide)
                                    rcases Classical.em (((xs (Int32.toNatClampNeg x3)) &&& (63 : Int32)) = (16 : Int32)) with c_33_16 | c_33_16
                                    · have h := h.1 c_33_16
                                      refine ag_tableIn E1 (tgt := 752) (off := 719) dL_law_33 (by rw [c_33_16]; decide) (by rw [c_33_16]; decide) (by rw [c_33_16]; decide) (by decide) ?_
                                      refine ag_aload_n E1 dL_law_752 rfl 1 rfl ?_
                                      refine ag_aload_n E1 dL_law_753 rfl 0 rfl ?_
                                      refine ag_iload_n E1 dL_law_754 rfl 3 rfl ?_
                                      refine ag_iconst E1 dL_law_755 ki_1 ?_
                                      refine ag_iadd E1 dL_law_756 ?_
                                      obtain ⟨hin_275, h⟩ := h
                                      refine ag_sld E1 hX hsb hin_275 dL_law_757 ?_
                                      refine ag_aload_n E1 dL_law_758 rfl 0 rfl ?_
                                      refine ag_iload_n E1 dL_law_759 rfl 3 rfl ?_
                                      refine ag_iconst E1 dL_law_760 ki_2 ?_
                                      refine ag_iadd E1 dL_law_761 ?_
                                      obtain ⟨hin_276, h⟩ := h
                                      refine ag_sld E1 hX hsb hin_276 dL_law_762 ?_
                                      refine ag_aload_n E1 dL_law_763 rfl 0 rfl ?_
                                      refine ag_iload_n E1 dL_law_764 rfl 3 rfl ?_
                                      refine ag_iconst E1 dL_law_765 ki_3 ?_
                                      refine ag_iadd E1 dL_law_766 ?_
                                      obtain ⟨hin_277, h⟩ := h
                                      refine ag_sld E1 hX hsb hin_277 dL_law_767 ?_
                                      obtain ⟨S_280, e_282, h⟩ := h
                                      refine ag_le e_282 ?_
                                      refine ag_callV E1 (ci := 1) (C := RX0) (T0 := TX0) (n2 := 43) pX_obj rfl (kX0_judge _ _ _ _ _ _ _ _ _ _ _ _ _ h) (lw_V q1125 q1126 q1127 q83 q1128) hdX0_judge (Nat.le_of_ble_eq_true rfl) (Nat.le_of_ble_eq_true rfl) (As := [.int (xs (Int32.toNatClampNeg (x3 + (1 : Int32)))), .int (xs (Int32.toNatClampNeg (x3 + (2 : Int32)))), .int (xs (Int32.toNatClampNeg (x3 + (3 : Int32))))]) rfl (Nat.le_of_ble_eq_true rfl) dL_law_768 (fun v_ w_ hv => ?_) rfl
                                      obtain ⟨S_281, rfl, r_278, rfl, h⟩ := hv
                                      refine ag_named (fun f_279 e_283 => ?_)
                                      have h := h f_279 e_283
                                      refine ag_aload_n E1 dL_law_771 rfl 2 rfl ?_
                                      refine ag_aload_n E1 dL_law_772 rfl 0 rfl ?_
                                      refine ag_iload_n E1 dL_law_773 rfl 3 rfl ?_
                                      refine ag_iconst E1 dL_law_774 ki_1 ?_
                                      refine ag_iadd E1 dL_law_775 ?_
                                      obtain ⟨hin_284, h⟩ := h
                                      refine ag_sld E1 hX hsb hin_284 dL_law_776 ?_
                                      refine ag_aload_n E1 dL_law_777 rfl 0 rfl ?_
                                      refine ag_iload_n E1 dL_law_778 rfl 3 rfl ?_
                                      refine ag_iconst E1 dL_law_779 ki_2 ?_
                                      refine ag_iadd E1 dL_law_780 ?_
                                      obtain ⟨hin_285, h⟩ := h
                                      refine ag_sld E1 hX hsb hin_285 dL_law_781 ?_
                                      refine ag_aload_n E1 dL_law_782 rfl 0 rfl ?_
                                      refine ag_iload_n E1 dL_law_783 rfl 3 rfl ?_
                                      refine ag_iconst E1 dL_law_784 ki_3 ?_
                                      refine ag_iadd E1 dL_law_785 ?_
                                      obtain ⟨hin_286, h⟩ := h
                                      refine ag_sld E1 hX hsb hin_286 dL_law_786 ?_
                                      obtain ⟨S_289, e_291, h⟩ := h
                                      refine ag_le e_291 ?_
                                      refine ag_callV E1 (ci := 0) (C := RX7) (T0 := TX7) (n2 := 56) pM_obj rfl (kX7_judge _ _ _ _ _ _ _ f_279.1 f_279.2.1 f_279.2.2 _ _ _ _ _ h) (lw_V q1796 q1797 q1798 q107 q1799) hdX7_judge (Nat.le_of_ble_eq_true rfl) (Nat.le_of_ble_eq_true rfl) (As := [.int (xs (Int32.toNatClampNeg (x3 + (1 : Int32)))), .int (xs (Int32.toNatClampNeg (x3 + (2 : Int32)))), .int (xs (Int32.toNatClampNeg (x3 + (3 : Int32))))]) rfl (Nat.le_of_ble_eq_true rfl) dL_law_787 (fun v_ w_ hv => ?_) rfl
                                      obtain ⟨S_290, rfl, r_287, rfl, h⟩ := hv
                                      refine ag_named (fun f_288 e_292 => ?_)
                                      have h := h f_288 e_292
                                      refine ag_lcmp E1 dL_law_790 ?_
                                      refine ag_if_eq E1 (tgt := 1445) dL_law_791 (by decide) (fun c_791 => ?_) (fun c_791 => ?_)
                                      · have h := h.1 c_791
                                        exact tbL_law_1445 E hb hX hsb hK18 h
                                      · have h := h.2 c_791
                                        refine ag_iconst E1 dL_law_794 ki_0 ?_
                                        exact law_ret E1 hb h dL_law_795
                                    · have h := h.2 c_33_16
                                      have n_16 := lv_neT c_33_16 (show (16 : Int32).toInt = 16 by decide)
                                      rcases Classical.em (((xs (Int32.toNatClampNeg x3)) &&& (63 : Int32)) = (17 : Int32)) with c_33_17 | c_33_17
                                      · have h := h.1 c_33_17
                                        refine ag_tableIn E1 (tgt := 796) (off := 763) dL_law_33 (by rw [c_33_17]; decide) (by rw [c_33_17]; decide) (by rw [c_33_17]; decide) (by decide) ?_
                                        refine ag_aload_n E1 dL_law_796 rfl 1 rfl ?_
                                        refine ag_aload_n E1 dL_law_797 rfl 0 rfl ?_
                                        refine ag_iload_n E1 dL_law_798 rfl 3 rfl ?_
                                        refine ag_iconst E1 dL_law_799 ki_1 ?_
                                        refine ag_iadd E1 dL_law_800 ?_
                                        obtain ⟨hin_293, h⟩ := h
                                        refine ag_sld E1 hX hsb hin_293 dL_law_801 ?_
                                        refine ag_aload_n E1 dL_law_802 rfl 0 rfl ?_
                                        refine ag_iload_n E1 dL_law_803 rfl 3 rfl ?_
                                        refine ag_iconst E1 dL_law_804 ki_2 ?_
                                        refine ag_iadd E1 dL_law_805 ?_
                                        obtain ⟨hin_294, h⟩ := h
                                        refine ag_sld E1 hX hsb hin_294 dL_law_806 ?_
                                        obtain ⟨S_297, e_299, h⟩ := h
                                        refine ag_le e_299 ?_
                                        refine ag_callV E1 (ci := 1) (C := RX0) (T0 := TX0) (n2 := 43) pX_obj rfl (kX0_givingTold _ _ _ _ _ _ _ _ _ _ _ _ h) (lw_V q1271 q1272 q1273 q83 q1274) hdX0_givingTold (Nat.le_of_ble_eq_true rfl) (Nat.le_of_ble_eq_true rfl) (As := [.int (xs (Int32.toNatClampNeg (x3 + (1 : Int32)))), .int (xs (Int32.toNatClampNeg (x3 + (2 : Int32))))]) rfl (Nat.le_of_ble_eq_true rfl) dL_law_807 (fun v_ w_ hv => ?_) rfl
                                        obtain ⟨S_298, rfl, r_295, rfl, h⟩ := hv
                                        refine ag_named (fun f_296 e_300 => ?_)
                                        have h := h f_296 e_300
                                        refine ag_aload_n E1 dL_law_810 rfl 2 rfl ?_
                                        refine ag_aload_n E1 dL_law_811 rfl 0 rfl ?_
                                        refine ag_iload_n E1 dL_law_812 rfl 3 rfl ?_
                                        refine ag_iconst E1 dL_law_813 ki_1 ?_
                                        refine ag_iadd E1 dL_law_814 ?_
                                        obtain ⟨hin_301, h⟩ := h
                                        refine ag_sld E1 hX hsb hin_301 dL_law_815 ?_
                                        refine ag_aload_n E1 dL_law_816 rfl 0 rfl ?_
                                        refine ag_iload_n E1 dL_law_817 rfl 3 rfl ?_
                                        refine ag_iconst E1 dL_law_818 ki_2 ?_
                                        refine ag_iadd E1 dL_law_819 ?_
                                        obtain ⟨hin_302, h⟩ := h
                                        refine ag_sld E1 hX hsb hin_302 dL_law_820 ?_
                                        obtain ⟨S_305, e_307, h⟩ := h
                                        refine ag_le e_307 ?_
                                        refine ag_callV E1 (ci := 0) (C := RX7) (T0 := TX7) (n2 := 56) pM_obj rfl (kX7_givingTold _ _ _ _ _ _ _ f_296.1 f_296.2.1 f_296.2.2 _ _ _ _ h) (lw_V q1812 q1813 q1814 q107 q1815) hdX7_givingTold (Nat.le_of_ble_eq_true rfl) (Nat.le_of_ble_eq_true rfl) (As := [.int (xs (Int32.toNatClampNeg (x3 + (1 : Int32)))), .int (xs (Int32.toNatClampNeg (x3 + (2 : Int32))))]) rfl (Nat.le_of_ble_eq_true rfl) dL_law_821 (fun v_ w_ hv => ?_) rfl
                                        obtain ⟨S_306, rfl, r_303, rfl, h⟩ := hv
                                        refine ag_named (fun f_304 e_308 => ?_)
                                        have h := h f_304 e_308
                                        refine ag_icmp_eq E1 (tgt := 1445) dL_law_824 (by decide) (fun c_824 => ?_) (fun c_824 => ?_)
                                        · have h := h.1 c_824
                                          exact tbL_law_1445 E hb hX hsb hK18 h
                                        · have h := h.2 c_824
                                          refine ag_iconst E1 dL_law_827 ki_0 ?_
                                          exact law_ret E1 hb h dL_law_828
                                      · have h := h.2 c_33_17
                                        have n_17 := lv_neT c_33_17 (show (17 : Int32).toInt = 17 by decide)
                                        rcases Classical.em (((xs (Int32.toNatClampNeg x3)) &&& (63 : Int32)) = (18 : Int32)) with c_33_18 | c_33_18
                                        · have h := h.1 c_33_18
                                          refine ag_tableIn E1 (tgt := 829) (off := 796) dL_law_33 (by rw [c_33_18]; decide) (by rw [c_33_18]; decide) (by rw [c_33_18]; decide) (by decide) ?_
                                          refine ag_aload_n E1 dL_law_829 rfl 1 rfl ?_
                                          obtain ⟨S_311, e_313, h⟩ := h
                                          refine ag_le e_313 ?_
                                          refine ag_callV E1 (ci := 1) (C := RX0) (T0 := TX0) (n2 := 43) pX_obj rfl (kX0_can _ _ _ _ _ _ _ _ _  _ h) (lw_V q1163 q1164 q1165 q83 q1166) hdX0_can (Nat.le_of_ble_eq_true rfl) (Nat.le_of_ble_eq_true rfl) (As := []) rfl (Nat.le_of_ble_eq_true rfl) dL_law_830 (fun v_ w_ hv => ?_) rfl
                                          obtain ⟨S_312, rfl, r_309, rfl, h⟩ := hv
                                          refine ag_named (fun f_310 e_314 => ?_)
                                          have h := h f_310 e_314
                                          refine ag_aload_n E1 dL_law_833 rfl 2 rfl ?_
                                          obtain ⟨S_317, e_319, h⟩ := h
                                          refine ag_le e_319 ?_
                                          refine ag_callV E1 (ci := 0) (C := RX7) (T0 := TX7) (n2 := 56) pM_obj rfl (kX7_can _ _ _ _ _ _ _ f_310.1 f_310.2.1 f_310.2.2 _  _ h) (lw_V q1816 q1817 q1818 q107 q1819) hdX7_can (Nat.le_of_ble_eq_true rfl) (Nat.le_of_ble_eq_true rfl) (As := []) rfl (Nat.le_of_ble_eq_true rfl) dL_law_834 (fun v_ w_ hv => ?_) rfl
                                          obtain ⟨S_318, rfl, r_315, rfl, h⟩ := hv
                                          refine ag_named (fun f_316 e_320 => ?_)
                                          have h := h f_316 e_320
                                          refine ag_icmp_eq E1 (tgt := 1445) dL_law_837 (by decide) (fun c_837 => ?_) (fun c_837 => ?_)
                                          · have h := h.1 c_837
                                            exact tbL_law_1445 E hb hX hsb hK18 h
                                          · have h := h.2 c_837
                                            refine ag_iconst E1 dL_law_840 ki_0 ?_
                                            exact law_ret E1 hb h dL_law_841
                                        · have h := h.2 c_33_18
                                          have n_18 := lv_neT c_33_18 (show (18 : Int32).toInt = 18 by decide)
                                          rcases Classical.em (((xs (Int32.toNatClampNeg x3)) &&& (63 : Int32)) = (19 : Int32)) with c_33_19 | c_33_19
                                          · have h := h.1 c_33_19
                                            refine ag_tableIn E1 (tgt := 842) (off := 809) dL_law_33 (by rw [c_33_19]; decide) (by rw [c_33_19]; decide) (by rw [c_33_19]; decide) (by decide) ?_
                                            refine ag_aload_n E1 dL_law_842 rfl 1 rfl ?_
                                            refine ag_aload_n E1 dL_law_843 rfl 0 rfl ?_
                                            refine ag_iload_n E1 dL_law_844 rfl 3 rfl ?_
                                            refine ag_iconst E1 dL_law_845 ki_1 ?_
                                            refine ag_iadd E1 dL_law_846 ?_
                                            obtain ⟨hin_321, h⟩ := h
                                            refine ag_sld E1 hX hsb hin_321 dL_law_847 ?_
                                            refine ag_aload_n E1 dL_law_848 rfl 0 rfl ?_
                                            refine ag_iload_n E1 dL_law_849 rfl 3 rfl ?_
                                            refine ag_iconst E1 dL_law_850 ki_2 ?_
                                            refine ag_iadd E1 dL_law_851 ?_
                                            obtain ⟨hin_322, h⟩ := h
                                            refine ag_sld E1 hX hsb hin_322 dL_law_852 ?_
                                            obtain ⟨S_325, e_327, h⟩ := h
                                            refine ag_le e_327 ?_
                                            refine ag_callV E1 (ci := 1) (C := RX0) (T0 := TX0) (n2 := 43) pX_obj rfl (kX0_find _ _ _ _ _ _ _ _ _ _ _ _ h) (lw_V q1203 q1204 q1205 q83 q1206) hdX0_find (Nat.le_of_ble_eq_true rfl) (Nat.le_of_ble_eq_true rfl) (As := [.int (xs (Int32.toNatClampNeg (x3 + (1 : Int32)))), .int (xs (Int32.toNatClampNeg (x3 + (2 : Int32))))]) rfl (Nat.le_of_ble_eq_true rfl) dL_law_853 (fun v_ w_ hv => ?_) rfl
                                            obtain ⟨S_326, rfl, r_323, rfl, h⟩ := hv
                                            refine ag_named (fun f_324 e_328 => ?_)
                                            have h := h f_324 e_328
                                            refine ag_aload_n E1 dL_law_856 rfl 2 rfl ?_
                                            refine ag_aload_n E1 dL_law_857 rfl 0 rfl ?_
                                            refine ag_iload_n E1 dL_law_858 rfl 3 rfl ?_
                                            refine ag_iconst E1 dL_law_859 ki_1 ?_
                                            refine ag_iadd E1 dL_law_860 ?_
                                            obtain ⟨hin_329, h⟩ := h
                                            refine ag_sld E1 hX hsb hin_329 dL_law_861 ?_
                                            refine ag_aload_n E1 dL_law_862 rfl 0 rfl ?_
                                            refine ag_iload_n E1 dL_law_863 rfl 3 rfl ?_
                                            refine ag_iconst E1 dL_law_864 ki_2 ?_
                                            refine ag_iadd E1 dL_law_865 ?_
                                            obtain ⟨hin_330, h⟩ := h
                                            refine ag_sld E1 hX hsb hin_330 dL_law_866 ?_
                                            obtain ⟨S_333, e_335, h⟩ := h
                                            refine ag_le e_335 ?_
                                            refine ag_callV E1 (ci := 0) (C := RX7) (T0 := TX7) (n2 := 56) pM_obj rfl (kX7_find _ _ _ _ _ _ _ f_324.1 f_324.2.1 f_324.2.2 _ _ _ _ h) (lw_V q1832 q1833 q1834 q107 q1835) hdX7_find (Nat.le_of_ble_eq_true rfl) (Nat.le_of_ble_eq_true rfl) (As := [.int (xs (Int32.toNatClampNeg (x3 + (1 : Int32)))), .int (xs (Int32.toNatClampNeg (x3 + (2 : Int32))))]) rfl (Nat.le_of_ble_eq_true rfl) dL_law_867 (fun v_ w_ hv => ?_) rfl
                                            obtain ⟨S_334, rfl, r_331, rfl, h⟩ := hv
                                            refine ag_named (fun f_332 e_336 => ?_)
                                            have h := h f_332 e_336
                                            refine ag_lcmp E1 dL_law_870 ?_
                                            refine ag_if_eq E1 (tgt := 1445) dL_law_871 (by decide) (fun c_871 => ?_) (fun c_871 => ?_)
                                            · have h := h.1 c_871
                                              exact tbL_law_1445 E hb hX hsb hK18 h
                                            · have h := h.2 c_871
                                              refine ag_iconst E1 dL_law_874 ki_0 ?_
                                              exact law_ret E1 hb h dL_law_875
                                          · have h := h.2 c_33_19
                                            have n_19 := lv_neT c_33_19 (show (19 : Int32).toInt = 19 by decide)
                                            rcases Classical.em (((xs (Int32.toNatClampNeg x3)) &&& (63 : Int32)) = (20 : Int32)) with c_33_20 | c_33_20
                                            · have h := h.1 c_33_20
                                              refine ag_tableIn E1 (tgt := 876) (off := 843) dL_law_33 (by rw [c_33_20]; decide) (by rw [c_33_20]; decide) (by rw [c_33_20]; decide) (by decide) ?_
                                              refine ag_aload_n E1 dL_law_876 rfl 1 rfl ?_
                                              refine ag_aload_n E1 dL_law_877 rfl 0 rfl ?_
                                              refine ag_iload_n E1 dL_law_878 rfl 3 rfl ?_
                                              refine ag_iconst E1 dL_law_879 ki_1 ?_
                                              refine ag_iadd E1 dL_law_880 ?_
                                              obtain ⟨hin_337, h⟩ := h
                                              refine ag_sld E1 hX hsb hin_337 dL_law_881 ?_
                                              obtain ⟨S_340, e_342, h⟩ := h
                                              refine ag_le e_342 ?_
                                              refine ag_callV E1 (ci := 1) (C := RX0) (T0 := TX0) (n2 := 43) pX_obj rfl (kX0_foundDay _ _ _ _ _ _ _ _ _ _ _ h) (lw_V q1212 q1213 q1214 q83 q1215) hdX0_foundDay (Nat.le_of_ble_eq_true rfl) (Nat.le_of_ble_eq_true rfl) (As := [.int (xs (Int32.toNatClampNeg (x3 + (1 : Int32))))]) rfl (Nat.le_of_ble_eq_true rfl) dL_law_882 (fun v_ w_ hv => ?_) rfl
                                              obtain ⟨S_341, rfl, r_338, rfl, h⟩ := hv
                                              refine ag_named (fun f_339 e_343 => ?_)
                                              have h := h f_339 e_343
                                              refine ag_aload_n E1 dL_law_885 rfl 2 rfl ?_
                                              refine ag_aload_n E1 dL_law_886 rfl 0 rfl ?_
                                              refine ag_iload_n E1 dL_law_887 rfl 3 rfl ?_
                                              refine ag_iconst E1 dL_law_888 ki_1 ?_
                                              refine ag_iadd E1 dL_law_889 ?_
                                              obtain ⟨hin_344, h⟩ := h
                                              refine ag_sld E1 hX hsb hin_344 dL_law_890 ?_
                                              obtain ⟨S_347, e_349, h⟩ := h
                                              refine ag_le e_349 ?_
                                              refine ag_callV E1 (ci := 0) (C := RX7) (T0 := TX7) (n2 := 56) pM_obj rfl (kX7_foundDay _ _ _ _ _ _ _ f_339.1 f_339.2.1 f_339.2.2 _ _ _ h) (lw_V q1856 q1857 q1858 q107 q1859) hdX7_foundDay (Nat.le_of_ble_eq_true rfl) (Nat.le_of_ble_eq_true rfl) (As := [.int (xs (Int32.toNatClampNeg (x3 + (1 : Int32))))]) rfl (Nat.le_of_ble_eq_true rfl) dL_law_891 (fun v_ w_ hv => ?_) rfl
                                              obtain ⟨S_348, rfl, r_345, rfl, h⟩ := hv
                                              refine ag_named (fun f_346 e_350 => ?_)
                                              have h := h f_346 e_350
                                              refine ag_icmp_eq E1 (tgt := 1445) dL_law_894 (by decide) (fun c_894 => ?_) (fun c_894 => ?_)
                                              · have h := h.1 c_894
                                                exact tbL_law_1445 E hb hX hsb hK18 h
                                              · have h := h.2 c_894
                                                refine ag_iconst E1 dL_law_897 ki_0 ?_
                                                exact law_ret E1 hb h dL_law_898
                                            · have h := h.2 c_33_20
                                              have n_20 := lv_neT c_33_20 (show (20 : Int32).toInt = 20 by decide)
                                              rcases Classical.em (((xs (Int32.toNatClampNeg x3)) &&& (63 : Int32)) = (21 : Int32)) with c_33_21 | c_33_21
                                              · have h := h.1 c_33_21
                                                refine ag_tableIn E1 (tgt := 899) (off := 866) dL_law_33 (by rw [c_33_21]; decide) (by rw [c_33_21]; decide) (by rw [c_33_21]; decide) (by decide) ?_
                                                refine ag_aload_n E1 dL_law_899 rfl 1 rfl ?_
                                                obtain ⟨S_353, e_355, h⟩ := h
                                                refine ag_le e_355 ?_
                                                refine ag_callVW E1 (ci := 1) (C := RX0) (T0 := TX0) (n2 := 43) pX_obj rfl (kX0_least _ _ _ _ _ _ _ _ _  _ h) (lw_VW q1216 q1217 q1218 q83 q1219) hdX0_least (Nat.le_of_ble_eq_true rfl) (Nat.le_of_ble_eq_true rfl) (As := []) rfl (Nat.le_of_ble_eq_true rfl) dL_law_900 rfl (fun v_ w_ hv => ?_) (fun a_ w_ hx => hx.elim)
                                                obtain ⟨S_354, rfl, r_351, rfl, h⟩ := hv
                                                refine ag_named (fun f_352 e_356 => ?_)
                                                have h := h f_352 e_356
                                                refine ag_aload_n E1 dL_law_903 rfl 2 rfl ?_
                                                obtain ⟨S_359, e_361, h⟩ := h
                                                refine ag_le e_361 ?_
                                                refine ag_callV E1 (ci := 0) (C := RX7) (T0 := TX7) (n2 := 56) pM_obj rfl (kX7_least _ _ _ _ _ _ _ f_352.1 f_352.2.1 f_352.2.2 _  _ h) (lw_V q1860 q1861 q1862 q107 q1863) hdX7_least (Nat.le_of_ble_eq_true rfl) (Nat.le_of_ble_eq_true rfl) (As := []) rfl (Nat.le_of_ble_eq_true rfl) dL_law_904 (fun v_ w_ hv => ?_) rfl
                                                obtain ⟨S_360, rfl, r_357, rfl, h⟩ := hv
                                                refine ag_named (fun f_358 e_362 => ?_)
                                                have h := h f_358 e_362
                                                refine ag_icmp_eq E1 (tgt := 1445) dL_law_907 (by decide) (fun c_907 => ?_) (fun c_907 => ?_)
                                                · have h := h.1 c_907
                                                  exact tbL_law_1445 E hb hX hsb hK18 h
                                                · have h := h.2 c_907
                                                  refine ag_iconst E1 dL_law_910 ki_0 ?_
                                                  exact law_ret E1 hb h dL_law_911
                                              · have h := h.2 c_33_21
                                                have n_21 := lv_neT c_33_21 (show (21 : Int32).toInt = 21 by decide)
                                                rcases Classical.em (((xs (Int32.toNatClampNeg x3)) &&& (63 : Int32)) = (22 : Int32)) with c_33_22 | c_33_22
                                                · have h := h.1 c_33_22
                                                  refine ag_tableIn E1 (tgt := 912) (off := 879) dL_law_33 (by rw [c_33_22]; decide) (by rw [c_33_22]; decide) (by rw [c_33_22]; decide) (by decide) ?_
                                                  refine ag_aload_n E1 dL_law_912 rfl 1 rfl ?_
                                                  obtain ⟨S_365, e_367, h⟩ := h
                                                  refine ag_le e_367 ?_
                                                  refine ag_callV E1 (ci := 1) (C := RX0) (T0 := TX0) (n2 := 43) pX_obj rfl (kX0_knot _ _ _ _ _ _ _ _ _  _ h) (lw_V q1220 q1221 q1222 q83 q1223) hdX0_knot (Nat.le_of_ble_eq_true rfl) (Nat.le_of_ble_eq_true rfl) (As := []) rfl (Nat.le_of_ble_eq_true rfl) dL_law_913 (fun v_ w_ hv => ?_) rfl
                                                  obtain ⟨S_366, rfl, r_363, rfl, h⟩ := hv
                                                  refine ag_named (fun f_364 e_368 => ?_)
                                                  have h := h f_364 e_368
                                                  refine ag_aload_n E1 dL_law_916 rfl 2 rfl ?_
                                                  obtain ⟨S_371, e_373, h⟩ := h
                                                  refine ag_le e_373 ?_
                                                  refine ag_callV E1 (ci := 0) (C := RX7) (T0 := TX7) (n2 := 56) pM_obj rfl (kX7_knot _ _ _ _ _ _ _ f_364.1 f_364.2.1 f_364.2.2 _  _ h) (lw_V q1864 q1865 q1866 q107 q1867) hdX7_knot (Nat.le_of_ble_eq_true rfl) (Nat.le_of_ble_eq_true rfl) (As := []) rfl (Nat.le_of_ble_eq_true rfl) dL_law_917 (fun v_ w_ hv => ?_) rfl
                                                  obtain ⟨S_372, rfl, r_369, rfl, h⟩ := hv
                                                  refine ag_named (fun f_370 e_374 => ?_)
                                                  have h := h f_370 e_374
                                                  refine ag_icmp_eq E1 (tgt := 1445) dL_law_920 (by decide) (fun c_920 => ?_) (fun c_920 => ?_)
                                                  · have h := h.1 c_920
                                                    exact tbL_law_1445 E hb hX hsb hK18 h
                                                  · have h := h.2 c_920
                                                    refine ag_iconst E1 dL_law_923 ki_0 ?_
                                                    exact law_ret E1 hb h dL_law_924
                                                · have h := h.2 c_33_22
                                                  have n_22 := lv_neT c_33_22 (show (22 : Int32).toInt = 22 by decide)
                                                  rcases Classical.em (((xs (Int32.toNatClampNeg x3)) &&& (63 : Int32)) = (23 : Int32)) with c_33_23 | c_33_23
                                                  · have h := h.1 c_33_23
                                                    refine ag_tableIn E1 (tgt := 925) (off := 892) dL_law_33 (by rw [c_33_23]; decide) (by rw [c_33_23]; decide) (by rw [c_33_23]; decide) (by decide) ?_
                                                    refine ag_aload_n E1 dL_law_925 rfl 1 rfl ?_
                                                    refine ag_aload_n E1 dL_law_926 rfl 0 rfl ?_
                                                    refine ag_iload_n E1 dL_law_927 rfl 3 rfl ?_
                                                    refine ag_iconst E1 dL_law_928 ki_1 ?_
                                                    refine ag_iadd E1 dL_law_929 ?_
                                                    obtain ⟨hin_375, h⟩ := h
                                                    refine ag_sld E1 hX hsb hin_375 dL_law_930 ?_
                                                    refine ag_aload_n E1 dL_law_931 rfl 0 rfl ?_
                                                    refine ag_iload_n E1 dL_law_932 rfl 3 rfl ?_
                                                    refine ag_iconst E1 dL_law_933 ki_2 ?_
                                                    refine ag_iadd E1 dL_law_934 ?_
                                                    obtain ⟨hin_376, h⟩ := h
                                                    refine ag_sld E1 hX hsb hin_376 dL_law_935 ?_
                                                    refine ag_aload_n E1 dL_law_936 rfl 0 rfl ?_
                                                    refine ag_iload_n E1 dL_law_937 rfl 3 rfl ?_
                                                    refine ag_iconst E1 dL_law_938 ki_3 ?_
                                                    refine ag_iadd E1 dL_law_939 ?_
                                                    obtain ⟨hin_377, h⟩ := h
                                                    refine ag_sld E1 hX hsb hin_377 dL_law_940 ?_
                                                    obtain ⟨S_380, e_382, h⟩ := h
                                                    refine ag_le e_382 ?_
                                                    refine ag_callV E1 (ci := 1) (C := RX0) (T0 := TX0) (n2 := 43) pX_obj rfl (kX0_room _ _ _ _ _ _ _ _ _ _ _ _ _ h) (lw_V q1230 q1231 q1232 q83 q1233) hdX0_room (Nat.le_of_ble_eq_true rfl) (Nat.le_of_ble_eq_true rfl) (As := [.int (xs (Int32.toNatClampNeg (x3 + (1 : Int32)))), .int (xs (Int32.toNatClampNeg (x3 + (2 : Int32)))), .int (xs (Int32.toNatClampNeg (x3 + (3 : Int32))))]) rfl (Nat.le_of_ble_eq_true rfl) dL_law_941 (fun v_ w_ hv => ?_) rfl
                                                    obtain ⟨S_381, rfl, r_378, rfl, h⟩ := hv
                                                    refine ag_named (fun f_379 e_383 => ?_)
                                                    have h := h f_379 e_383
                                                    refine ag_aload_n E1 dL_law_944 rfl 2 rfl ?_
                                                    refine ag_aload_n E1 dL_law_945 rfl 0 rfl ?_
                                                    refine ag_iload_n E1 dL_law_946 rfl 3 rfl ?_
                                                    refine ag_iconst E1 dL_law_947 ki_1 ?_
                                                    refine ag_iadd E1 dL_law_948 ?_
                                                    obtain ⟨hin_384, h⟩ := h
                                                    refine ag_sld E1 hX hsb hin_384 dL_law_949 ?_
                                                    refine ag_aload_n E1 dL_law_950 rfl 0 rfl ?_
                                                    refine ag_iload_n E1 dL_law_951 rfl 3 rfl ?_
                                                    refine ag_iconst E1 dL_law_952 ki_2 ?_
                                                    refine ag_iadd E1 dL_law_953 ?_
                                                    obtain ⟨hin_385, h⟩ := h
                                                    refine ag_sld E1 hX hsb hin_385 dL_law_954 ?_
                                                    refine ag_aload_n E1 dL_law_955 rfl 0 rfl ?_
                                                    refine ag_iload_n E1 dL_law_956 rfl 3 rfl ?_
                                                    refine ag_iconst E1 dL_law_957 ki_3 ?_
                                                    refine ag_iadd E1 dL_law_958 ?_
                                                    obtain ⟨hin_386, h⟩ := h
                                                    refine ag_sld E1 hX hsb hin_386 dL_law_959 ?_
                                                    obtain ⟨S_389, e_391, h⟩ := h
                                                    refine ag_le e_391 ?_
                                                    refine ag_callV E1 (ci := 0) (C := RX7) (T0 := TX7) (n2 := 56) pM_obj rfl (kX7_room _ _ _ _ _ _ _ f_379.1 f_379.2.1 f_379.2.2 _ _ _ _ _ h) (lw_V q1871 q1872 q1873 q107 q1874) hdX7_room (Nat.le_of_ble_eq_true rfl) (Nat.le_of_ble_eq_true rfl) (As := [.int (xs (Int32.toNatClampNeg (x3 + (1 : Int32)))), .int (xs (Int32.toNatClampNeg (x3 + (2 : Int32)))), .int (xs (Int32.toNatClampNeg (x3 + (3 : Int32))))]) rfl (Nat.le_of_ble_eq_true rfl) dL_law_960 (fun v_ w_ hv => ?_) rfl
                                                    obtain ⟨S_390, rfl, r_387, rfl, h⟩ := hv
                                                    refine ag_named (fun f_388 e_392 => ?_)
                                                    have h := h f_388 e_392
                                                    refine ag_icmp_eq E1 (tgt := 1445) dL_law_963 (by decide) (fun c_963 => ?_) (fun c_963 => ?_)
                                                    · have h := h.1 c_963
                                                      exact tbL_law_1445 E hb hX hsb hK18 h
                                                    · have h := h.2 c_963
                                                      refine ag_iconst E1 dL_law_966 ki_0 ?_
                                                      exact law_ret E1 hb h dL_law_967
                                                  · have h := h.2 c_33_23
                                                    have n_23 := lv_neT c_33_23 (show (23 : Int32).toInt = 23 by decide)
                                                    rcases Classical.em (((xs (Int32.toNatClampNeg x3)) &&& (63 : Int32)) = (24 : Int32)) with c_33_24 | c_33_24
                                                    · have h := h.1 c_33_24
                                                      refine ag_tableIn E1 (tgt := 968) (off := 935) dL_law_33 (by rw [c_33_24]; decide) (by rw [c_33_24]; decide) (by rw [c_33_24]; decide) (by decide) ?_
                                                      refine ag_aload_n E1 dL_law_968 rfl 1 rfl ?_
                                                      refine ag_aload_n E1 dL_law_969 rfl 0 rfl ?_
                                                      refine ag_iload_n E1 dL_law_970 rfl 3 rfl ?_
                                                      refine ag_iconst E1 dL_law_971 ki_1 ?_
                                                      refine ag_iadd E1 dL_law_972 ?_
                                                      obtain ⟨hin_393, h⟩ := h
                                                      refine ag_sld E1 hX hsb hin_393 dL_law_973 ?_
                                                      refine ag_aload_n E1 dL_law_974 rfl 0 rfl ?_
                                                      refine ag_iload_n E1 dL_law_975 rfl 3 rfl ?_
                                                      refine ag_iconst E1 dL_law_976 ki_2 ?_
                                                      refine ag_iadd E1 dL_law_977 ?_
                                                      obtain ⟨hin_394, h⟩ := h
                                                      refine ag_sld E1 hX hsb hin_394 dL_law_978 ?_
                                                      refine ag_aload_n E1 dL_law_979 rfl 0 rfl ?_
                                                      refine ag_iload_n E1 dL_law_980 rfl 3 rfl ?_
                                                      refine ag_iconst E1 dL_law_981 ki_3 ?_
                                                      refine ag_iadd E1 dL_law_982 ?_
                                                      obtain ⟨hin_395, h⟩ := h
                                                      refine ag_sld E1 hX hsb hin_395 dL_law_983 ?_
                                                      obtain ⟨S_398, e_400, h⟩ := h
                                                      refine ag_le e_400 ?_
                                                      refine ag_callV E1 (ci := 1) (C := RX0) (T0 := TX0) (n2 := 43) pX_obj rfl (kX0_hurt _ _ _ _ _ _ _ _ _ _ _ _ _ h) (lw_V q1234 q1235 q1236 q83 q1237) hdX0_hurt (Nat.le_of_ble_eq_true rfl) (Nat.le_of_ble_eq_true rfl) (As := [.int (xs (Int32.toNatClampNeg (x3 + (1 : Int32)))), .int (xs (Int32.toNatClampNeg (x3 + (2 : Int32)))), .int (xs (Int32.toNatClampNeg (x3 + (3 : Int32))))]) rfl (Nat.le_of_ble_eq_true rfl) dL_law_984 (fun v_ w_ hv => ?_) rfl
                                                      obtain ⟨S_399, rfl, r_396, rfl, h⟩ := hv
                                                      refine ag_named (fun f_397 e_401 => ?_)
                                                      have h := h f_397 e_401
                                                      refine ag_aload_n E1 dL_law_987 rfl 2 rfl ?_
                                                      refine ag_aload_n E1 dL_law_988 rfl 0 rfl ?_
                                                      refine ag_iload_n E1 dL_law_989 rfl 3 rfl ?_
                                                      refine ag_iconst E1 dL_law_990 ki_1 ?_
                                                      refine ag_iadd E1 dL_law_991 ?_
                                                      obtain ⟨hin_402, h⟩ := h
                                                      refine ag_sld E1 hX hsb hin_402 dL_law_992 ?_
                                                      refine ag_aload_n E1 dL_law_993 rfl 0 rfl ?_
                                                      refine ag_iload_n E1 dL_law_994 rfl 3 rfl ?_
                                                      refine ag_iconst E1 dL_law_995 ki_2 ?_
                                                      refine ag_iadd E1 dL_law_996 ?_
                                                      obtain ⟨hin_403, h⟩ := h
                                                      refine ag_sld E1 hX hsb hin_403 dL_law_997 ?_
                                                      refine ag_aload_n E1 dL_law_998 rfl 0 rfl ?_
                                                      refine ag_iload_n E1 dL_law_999 rfl 3 rfl ?_
                                                      refine ag_iconst E1 dL_law_1000 ki_3 ?_
                                                      refine ag_iadd E1 dL_law_1001 ?_
                                                      obtain ⟨hin_404, h⟩ := h
                                                      refine ag_sld E1 hX hsb hin_404 dL_law_1002 ?_
                                                      obtain ⟨S_407, e_409, h⟩ := h
                                                      refine ag_le e_409 ?_
                                                      refine ag_callV E1 (ci := 0) (C := RX7) (T0 := TX7) (n2 := 56) pM_obj rfl (kX7_hurt _ _ _ _ _ _ _ f_397.1 f_397.2.1 f_397.2.2 _ _ _ _ _ h) (lw_V q1875 q1876 q1877 q107 q1878) hdX7_hurt (Nat.le_of_ble_eq_true rfl) (Nat.le_of_ble_eq_true rfl) (As := [.int (xs (Int32.toNatClampNeg (x3 + (1 : Int32)))), .int (xs (Int32.toNatClampNeg (x3 + (2 : Int32)))), .int (xs (Int32.toNatClampNeg (x3 + (3 : Int32))))]) rfl (Nat.le_of_ble_eq_true rfl) dL_law_1003 (fun v_ w_ hv => ?_) rfl
                                                      obtain ⟨S_408, rfl, r_405, rfl, h⟩ := hv
                                                      refine ag_named (fun f_406 e_410 => ?_)
                                                      have h := h f_406 e_410
                                                      refine ag_lcmp E1 dL_law_1006 ?_
                                                      refine ag_if_eq E1 (tgt := 1445) dL_law_1007 (by decide) (fun c_1007 => ?_) (fun c_1007 => ?_)
                                                      · have h := h.1 c_1007
                                                        exact tbL_law_1445 E hb hX hsb hK18 h
                                                      · have h := h.2 c_1007
                                                        refine ag_iconst E1 dL_law_1010 ki_0 ?_
                                                        exact law_ret E1 hb h dL_law_1011
                                                    · have h := h.2 c_33_24
                                                      have n_24 := lv_neT c_33_24 (show (24 : Int32).toInt = 24 by decide)
                                                      rcases Classical.em (((xs (Int32.toNatClampNeg x3)) &&& (63 : Int32)) = (25 : Int32)) with c_33_25 | c_33_25
                                                      · have h := h.1 c_33_25
                                                        refine ag_tableIn E1 (tgt := 1012) (off := 979) dL_law_33 (by rw [c_33_25]; decide) (by rw [c_33_25]; decide) (by rw [c_33_25]; decide) (by decide) ?_
                                                        refine ag_aload_n E1 dL_law_1012 rfl 1 rfl ?_
                                                        refine ag_aload_n E1 dL_law_1013 rfl 0 rfl ?_
                                                        refine ag_iload_n E1 dL_law_1014 rfl 3 rfl ?_
                                                        refine ag_iconst E1 dL_law_1015 ki_1 ?_
                                                        refine ag_iadd E1 dL_law_1016 ?_
                                                        obtain ⟨hin_411, h⟩ := h
                                                        refine ag_sld E1 hX hsb hin_411 dL_law_1017 ?_
                                                        refine ag_aload_n E1 dL_law_1018 rfl 0 rfl ?_
                                                        refine ag_iload_n E1 dL_law_1019 rfl 3 rfl ?_
                                                        refine ag_iconst E1 dL_law_1020 ki_2 ?_
                                                        refine ag_iadd E1 dL_law_1021 ?_
                                                        obtain ⟨hin_412, h⟩ := h
                                                        refine ag_sld E1 hX hsb hin_412 dL_law_1022 ?_
                                                        refine ag_aload_n E1 dL_law_1023 rfl 0 rfl ?_
                                                        refine ag_iload_n E1 dL_law_1024 rfl 3 rfl ?_
                                                        refine ag_iconst E1 dL_law_1025 ki_3 ?_
                                                        refine ag_iadd E1 dL_law_1026 ?_
                                                        obtain ⟨hin_413, h⟩ := h
                                                        refine ag_sld E1 hX hsb hin_413 dL_law_1027 ?_
                                                        refine ag_aload_n E1 dL_law_1028 rfl 0 rfl ?_
                                                        refine ag_iload_n E1 dL_law_1029 rfl 3 rfl ?_
                                                        refine ag_iconst E1 dL_law_1030 ki_4 ?_
                                                        refine ag_iadd E1 dL_law_1031 ?_
                                                        obtain ⟨hin_414, h⟩ := h
                                                        refine ag_sld E1 hX hsb hin_414 dL_law_1032 ?_
                                                        refine ag_aload_n E1 dL_law_1033 rfl 0 rfl ?_
                                                        refine ag_iload_n E1 dL_law_1034 rfl 3 rfl ?_
                                                        refine ag_iconst E1 dL_law_1035 ki_5 ?_
                                                        refine ag_iadd E1 dL_law_1036 ?_
                                                        obtain ⟨hin_415, h⟩ := h
                                                        refine ag_sld E1 hX hsb hin_415 dL_law_1037 ?_
                                                        obtain ⟨S_418, e_420, h⟩ := h
                                                        refine ag_le e_420 ?_
                                                        refine ag_callV E1 (ci := 1) (C := RX0) (T0 := TX0) (n2 := 43) pX_obj rfl (kX0_round _ _ _ _ _ _ _ _ _ _ _ _ _ _ _ h) (lw_V q1238 q1239 q1240 q83 q1241) hdX0_round (Nat.le_of_ble_eq_true rfl) (Nat.le_of_ble_eq_true rfl) (As := [.int (xs (Int32.toNatClampNeg (x3 + (1 : Int32)))), .int (xs (Int32.toNatClampNeg (x3 + (2 : Int32)))), .int (xs (Int32.toNatClampNeg (x3 + (3 : Int32)))), .int (xs (Int32.toNatClampNeg (x3 + (4 : Int32)))), .int (xs (Int32.toNatClampNeg (x3 + (5 : Int32))))]) rfl (Nat.le_of_ble_eq_true rfl) dL_law_1038 (fun v_ w_ hv => ?_) rfl
                                                        obtain ⟨S_419, rfl, r_416, rfl, h⟩ := hv
                                                        refine ag_named (fun f_417 e_421 => ?_)
                                                        have h := h f_417 e_421
                                                        refine ag_aload_n E1 dL_law_1041 rfl 2 rfl ?_
                                                        refine ag_aload_n E1 dL_law_1042 rfl 0 rfl ?_
                                                        refine ag_iload_n E1 dL_law_1043 rfl 3 rfl ?_
                                                        refine ag_iconst E1 dL_law_1044 ki_1 ?_
                                                        refine ag_iadd E1 dL_law_1045 ?_
                                                        obtain ⟨hin_422, h⟩ := h
                                                        refine ag_sld E1 hX hsb hin_422 dL_law_1046 ?_
                                                        refine ag_aload_n E1 dL_law_1047 rfl 0 rfl ?_
                                                        refine ag_iload_n E1 dL_law_1048 rfl 3 rfl ?_
                                                        refine ag_iconst E1 dL_law_1049 ki_2 ?_
                                                        refine ag_iadd E1 dL_law_1050 ?_
                                                        obtain ⟨hin_423, h⟩ := h
                                                        refine ag_sld E1 hX hsb hin_423 dL_law_1051 ?_
                                                        refine ag_aload_n E1 dL_law_1052 rfl 0 rfl ?_
                                                        refine ag_iload_n E1 dL_law_1053 rfl 3 rfl ?_
                                                        refine ag_iconst E1 dL_law_1054 ki_3 ?_
                                                        refine ag_iadd E1 dL_law_1055 ?_
                                                        obtain ⟨hin_424, h⟩ := h
                                                        refine ag_sld E1 hX hsb hin_424 dL_law_1056 ?_
                                                        refine ag_aload_n E1 dL_law_1057 rfl 0 rfl ?_
                                                        refine ag_iload_n E1 dL_law_1058 rfl 3 rfl ?_
                                                        refine ag_iconst E1 dL_law_1059 ki_4 ?_
                                                        refine ag_iadd E1 dL_law_1060 ?_
                                                        obtain ⟨hin_425, h⟩ := h
                                                        refine ag_sld E1 hX hsb hin_425 dL_law_1061 ?_
                                                        refine ag_aload_n E1 dL_law_1062 rfl 0 rfl ?_
                                                        refine ag_iload_n E1 dL_law_1063 rfl 3 rfl ?_
                                                        refine ag_iconst E1 dL_law_1064 ki_5 ?_
                                                        refine ag_iadd E1 dL_law_1065 ?_
                                                        obtain ⟨hin_426, h⟩ := h
                                                        refine ag_sld E1 hX hsb hin_426 dL_law_1066 ?_
                                                        obtain ⟨S_429, e_431, h⟩ := h
                                                        refine ag_le e_431 ?_
                                                        refine ag_callV E1 (ci := 0) (C := RX7) (T0 := TX7) (n2 := 56) pM_obj rfl (kX7_round _ _ _ _ _ _ _ f_417.1 f_417.2.1 f_417.2.2 _ _ _ _ _ _ _ h) (lw_V q1879 q1880 q1881 q107 q1882) hdX7_round (Nat.le_of_ble_eq_true rfl) (Nat.le_of_ble_eq_true rfl) (As := [.int (xs (Int32.toNatClampNeg (x3 + (1 : Int32)))), .int (xs (Int32.toNatClampNeg (x3 + (2 : Int32)))), .int (xs (Int32.toNatClampNeg (x3 + (3 : Int32)))), .int (xs (Int32.toNatClampNeg (x3 + (4 : Int32)))), .int (xs (Int32.toNatClampNeg (x3 + (5 : Int32))))]) rfl (Nat.le_of_ble_eq_true rfl) dL_law_1067 (fun v_ w_ hv => ?_) rfl
                                                        obtain ⟨S_430, rfl, r_427, rfl, h⟩ := hv
                                                        refine ag_named (fun f_428 e_432 => ?_)
                                                        have h := h f_428 e_432
                                                        refine ag_icmp_eq E1 (tgt := 1445) dL_law_1070 (by decide) (fun c_1070 => ?_) (fun c_1070 => ?_)
                                                        · have h := h.1 c_1070
                                                          exact tbL_law_1445 E hb hX hsb hK18 h
                                                        · have h := h.2 c_1070
                                                          refine ag_iconst E1 dL_law_1073 ki_0 ?_
                                                          exact law_ret E1 hb h dL_law_1074
                                                      · have h := h.2 c_33_25
                                                        have n_25 := lv_neT c_33_25 (show (25 : Int32).toInt = 25 by decide)
                                                        rcases Classical.em (((xs (Int32.toNatClampNeg x3)) &&& (63 : Int32)) = (26 : Int32)) with c_33_26 | c_33_26
                                                        · have h := h.1 c_33_26
                                                          refine ag_tableIn E1 (tgt := 1075) (off := 1042) dL_law_33 (by rw [c_33_26]; decide) (by rw [c_33_26]; decide) (by rw [c_33_26]; decide) (by decide) ?_
                                                          refine ag_aload_n E1 dL_law_1075 rfl 1 rfl ?_
                                                          refine ag_aload_n E1 dL_law_1076 rfl 0 rfl ?_
                                                          refine ag_iload_n E1 dL_law_1077 rfl 3 rfl ?_
                                                          refine ag_iconst E1 dL_law_1078 ki_1 ?_
                                                          refine ag_iadd E1 dL_law_1079 ?_
                                                          obtain ⟨hin_433, h⟩ := h
                                                          refine ag_sld E1 hX hsb hin_433 dL_law_1080 ?_
                                                          obtain ⟨S_436, e_438, h⟩ := h
                                                          refine ag_le e_438 ?_
                                                          refine ag_callV E1 (ci := 1) (C := RX0) (T0 := TX0) (n2 := 43) pX_obj rfl (kX0_roundTold _ _ _ _ _ _ _ _ _ _ _ h) (lw_V q1263 q1264 q1265 q83 q1266) hdX0_roundTold (Nat.le_of_ble_eq_true rfl) (Nat.le_of_ble_eq_true rfl) (As := [.int (xs (Int32.toNatClampNeg (x3 + (1 : Int32))))]) rfl (Nat.le_of_ble_eq_true rfl) dL_law_1081 (fun v_ w_ hv => ?_) rfl
                                                          obtain ⟨S_437, rfl, r_434, rfl, h⟩ := hv
                                                          refine ag_named (fun f_435 e_439 => ?_)
                                                          have h := h f_435 e_439
                                                          refine ag_aload_n E1 dL_law_1084 rfl 2 rfl ?_
                                                          refine ag_aload_n E1 dL_law_1085 rfl 0 rfl ?_
                                                          refine ag_iload_n E1 dL_law_1086 rfl 3 rfl ?_
                                                          refine ag_iconst E1 dL_law_1087 ki_1 ?_
                                                          refine ag_iadd E1 dL_law_1088 ?_
                                                          obtain ⟨hin_440, h⟩ := h
                                                          refine ag_sld E1 hX hsb hin_440 dL_law_1089 ?_
                                                          obtain ⟨S_443, e_445, h⟩ := h
                                                          refine ag_le e_445 ?_
                                                          refine ag_callV E1 (ci := 0) (C := RX7) (T0 := TX7) (n2 := 56) pM_obj rfl (kX7_roundTold _ _ _ _ _ _ _ f_435.1 f_435.2.1 f_435.2.2 _ _ _ h) (lw_V q1891 q1892 q1893 q107 q1894) hdX7_roundTold (Nat.le_of_ble_eq_true rfl) (Nat.le_of_ble_eq_true rfl) (As := [.int (xs (Int32.toNatClampNeg (x3 + (1 : Int32))))]) rfl (Nat.le_of_ble_eq_true rfl) dL_law_1090 (fun v_ w_ hv => ?_) rfl
                                                          obtain ⟨S_444, rfl, r_441, rfl, h⟩ := hv
                                                          refine ag_named (fun f_442 e_446 => ?_)
                                                          have h := h f_442 e_446
                                                          refine ag_icmp_eq E1 (tgt := 1445) dL_law_1093 (by decide) (fun c_1093 => ?_) (fun c_1093 => ?_)
                                                          · have h := h.1 c_1093
                                                            exact tbL_law_1445 E hb hX hsb hK18 h
                                                          · have h := h.2 c_1093
                                                            refine ag_iconst E1 dL_law_1096 ki_0 ?_
                                                            exact law_ret E1 hb h dL_law_1097
                                                        · have h := h.2 c_33_26
                                                          have n_26 := lv_neT c_33_26 (show (26 : Int32).toInt = 26 by decide)
                                                          rcases Classical.em (((xs (Int32.toNatClampNeg x3)) &&& (63 : Int32)) = (27 : Int32)) with c_33_27 | c_33_27
                                                          · have h := h.1 c_33_27
                                                            refine ag_tableIn E1 (tgt := 1098) (off := 1065) dL_law_33 (by rw [c_33_27]; decide) (by rw [c_33_27]; decide) (by rw [c_33_27]; decide) (by decide) ?_
                                                            refine ag_aload_n E1 dL_law_1098 rfl 1 rfl ?_
                                                            refine ag_aload_n E1 dL_law_1099 rfl 0 rfl ?_
                                                            refine ag_iload_n E1 dL_law_1100 rfl 3 rfl ?_
                                                            refine ag_iconst E1 dL_law_1101 ki_1 ?_
                                                            refine ag_iadd E1 dL_law_1102 ?_
                                                            obtain ⟨hin_447, h⟩ := h
                                                            refine ag_sld E1 hX hsb hin_447 dL_law_1103 ?_
                                                            refine ag_aload_n E1 dL_law_1104 rfl 0 rfl ?_
                                                            refine ag_iload_n E1 dL_law_1105 rfl 3 rfl ?_
                                                            refine ag_iconst E1 dL_law_1106 ki_2 ?_
                                                            refine ag_iadd E1 dL_law_1107 ?_
                                                            obtain ⟨hin_448, h⟩ := h
                                                            refine ag_sld E1 hX hsb hin_448 dL_law_1108 ?_
                                                            refine ag_aload_n E1 dL_law_1109 rfl 0 rfl ?_
                                                            refine ag_iload_n E1 dL_law_1110 rfl 3 rfl ?_
                                                            refine ag_iconst E1 dL_law_1111 ki_3 ?_
                                                            refine ag_iadd E1 dL_law_1112 ?_
                                                            obtain ⟨hin_449, h⟩ := h
                                                            refine ag_sld E1 hX hsb hin_449 dL_law_1113 ?_
                                                            refine ag_aload_n E1 dL_law_1114 rfl 0 rfl ?_
                                                            refine ag_iload_n E1 dL_law_1115 rfl 3 rfl ?_
                                                            refine ag_iconst E1 dL_law_1116 ki_4 ?_
                                                            refine ag_iadd E1 dL_law_1117 ?_
                                                            obtain ⟨hin_450, h⟩ := h
                                                            refine ag_sld E1 hX hsb hin_450 dL_law_1118 ?_
                                                            refine ag_aload_n E1 dL_law_1119 rfl 0 rfl ?_
                                                            refine ag_iload_n E1 dL_law_1120 rfl 3 rfl ?_
                                                            refine ag_iconst E1 dL_law_1121 ki_5 ?_
                                                            refine ag_iadd E1 dL_law_1122 ?_
                                                            obtain ⟨hin_451, h⟩ := h
                                                            refine ag_sld E1 hX hsb hin_451 dL_law_1123 ?_
                                                            obtain ⟨S_454, e_456, h⟩ := h
                                                            refine ag_le e_456 ?_
                                                            refine ag_callV E1 (ci := 1) (C := RX0) (T0 := TX0) (n2 := 43) pX_obj rfl (kX0_walk _ _ _ _ _ _ _ _ _ _ _ _ _ _ _ h) (lw_V q1267 q1268 q1269 q83 q1270) hdX0_walk (Nat.le_of_ble_eq_true rfl) (Nat.le_of_ble_eq_true rfl) (As := [.int (xs (Int32.toNatClampNeg (x3 + (1 : Int32)))), .int (xs (Int32.toNatClampNeg (x3 + (2 : Int32)))), .int (xs (Int32.toNatClampNeg (x3 + (3 : Int32)))), .int (xs (Int32.toNatClampNeg (x3 + (4 : Int32)))), .int (xs (Int32.toNatClampNeg (x3 + (5 : Int32))))]) rfl (Nat.le_of_ble_eq_true rfl) dL_law_1124 (fun v_ w_ hv => ?_) rfl
                                                            obtain ⟨S_455, rfl, r_452, rfl, h⟩ := hv
                                                            refine ag_named (fun f_453 e_457 => ?_)
                                                            have h := h f_453 e_457
                                                            refine ag_aload_n E1 dL_law_1127 rfl 2 rfl ?_
                                                            refine ag_aload_n E1 dL_law_1128 rfl 0 rfl ?_
                                                            refine ag_iload_n E1 dL_law_1129 rfl 3 rfl ?_
                                                            refine ag_iconst E1 dL_law_1130 ki_1 ?_
                                                            refine ag_iadd E1 dL_law_1131 ?_
                                                            obtain ⟨hin_458, h⟩ := h
                                                            refine ag_sld E1 hX hsb hin_458 dL_law_1132 ?_
                                                            refine ag_aload_n E1 dL_law_1133 rfl 0 rfl ?_
                                                            refine ag_iload_n E1 dL_law_1134 rfl 3 rfl ?_
                                                            refine ag_iconst E1 dL_law_1135 ki_2 ?_
                                                            refine ag_iadd E1 dL_law_1136 ?_
                                                            obtain ⟨hin_459, h⟩ := h
                                                            refine ag_sld E1 hX hsb hin_459 dL_law_1137 ?_
                                                            refine ag_aload_n E1 dL_law_1138 rfl 0 rfl ?_
                                                            refine ag_iload_n E1 dL_law_1139 rfl 3 rfl ?_
                                                            refine ag_iconst E1 dL_law_1140 ki_3 ?_
                                                            refine ag_iadd E1 dL_law_1141 ?_
                                                            obtain ⟨hin_460, h⟩ := h
                                                            refine ag_sld E1 hX hsb hin_460 dL_law_1142 ?_
                                                            refine ag_aload_n E1 dL_law_1143 rfl 0 rfl ?_
                                                            refine ag_iload_n E1 dL_law_1144 rfl 3 rfl ?_
                                                            refine ag_iconst E1 dL_law_1145 ki_4 ?_
                                                            refine ag_iadd E1 dL_law_1146 ?_
                                                            obtain ⟨hin_461, h⟩ := h
                                                            refine ag_sld E1 hX hsb hin_461 dL_law_1147 ?_
                                                            refine ag_aload_n E1 dL_law_1148 rfl 0 rfl ?_
                                                            refine ag_iload_n E1 dL_law_1149 rfl 3 rfl ?_
                                                            refine ag_iconst E1 dL_law_1150 ki_5 ?_
                                                            refine ag_iadd E1 dL_law_1151 ?_
                                                            obtain ⟨hin_462, h⟩ := h
                                                            refine ag_sld E1 hX hsb hin_462 dL_law_1152 ?_
                                                            obtain ⟨S_465, e_467, h⟩ := h
                                                            refine ag_le e_467 ?_
                                                            refine ag_callV E1 (ci := 0) (C := RX7) (T0 := TX7) (n2 := 56) pM_obj rfl (kX7_walk _ _ _ _ _ _ _ f_453.1 f_453.2.1 f_453.2.2 _ _ _ _ _ _ _ h) (lw_V q1895 q1896 q1897 q107 q1898) hdX7_walk (Nat.le_of_ble_eq_true rfl) (Nat.le_of_ble_eq_true rfl) (As := [.int (xs (Int32.toNatClampNeg (x3 + (1 : Int32)))), .int (xs (Int32.toNatClampNeg (x3 + (2 : Int32)))), .int (xs (Int32.toNatClampNeg (x3 + (3 : Int32)))), .int (xs (Int32.toNatClampNeg (x3 + (4 : Int32)))), .int (xs (Int32.toNatClampNeg (x3 + (5 : Int32))))]) rfl (Nat.le_of_ble_eq_true rfl) dL_law_1153 (fun v_ w_ hv => ?_) rfl
                                                            obtain ⟨S_466, rfl, r_463, rfl, h⟩ := hv
                                                            refine ag_named (fun f_464 e_468 => ?_)
                                                            have h := h f_464 e_468
                                                            refine ag_icmp_eq E1 (tgt := 1445) dL_law_1156 (by decide) (fun c_1156 => ?_) (fun c_1156 => ?_)
                                                            · have h := h.1 c_1156
                                                              exact tbL_law_1445 E hb hX hsb hK18 h
                                                            · have h := h.2 c_1156
                                                              refine ag_iconst E1 dL_law_1159 ki_0 ?_
                                                              exact law_ret E1 hb h dL_law_1160
                                                          · have h := h.2 c_33_27
                                                            have n_27 := lv_neT c_33_27 (show (27 : Int32).toInt = 27 by decide)
                                                            rcases Classical.em (((xs (Int32.toNatClampNeg x3)) &&& (63 : Int32)) = (28 : Int32)) with c_33_28 | c_33_28
                                                            · have h := h.1 c_33_28
                                                              refine ag_tableIn E1 (tgt := 1161) (off := 1128) dL_law_33 (by rw [c_33_28]; decide) (by rw [c_33_28]; decide) (by rw [c_33_28]; decide) (by decide) ?_
                                                              refine ag_aload_n E1 dL_law_1161 rfl 1 rfl ?_
                                                              refine ag_aload_n E1 dL_law_1162 rfl 0 rfl ?_
                                                              refine ag_iload_n E1 dL_law_1163 rfl 3 rfl ?_
                                                              refine ag_iconst E1 dL_law_1164 ki_1 ?_
                                                              refine ag_iadd E1 dL_law_1165 ?_
                                                              obtain ⟨hin_469, h⟩ := h
                                                              refine ag_sld E1 hX hsb hin_469 dL_law_1166 ?_
                                                              obtain ⟨S_472, e_474, h⟩ := h
                                                              refine ag_le e_474 ?_
                                                              refine ag_callV E1 (ci := 1) (C := RX0) (T0 := TX0) (n2 := 43) pX_obj rfl (kX0_count _ _ _ _ _ _ _ _ _ _ _ h) (lw_V q1297 q1298 q1299 q83 q1300) hdX0_count (Nat.le_of_ble_eq_true rfl) (Nat.le_of_ble_eq_true rfl) (As := [.int (xs (Int32.toNatClampNeg (x3 + (1 : Int32))))]) rfl (Nat.le_of_ble_eq_true rfl) dL_law_1167 (fun v_ w_ hv => ?_) rfl
                                                              obtain ⟨S_473, rfl, r_470, rfl, h⟩ := hv
                                                              refine ag_named (fun f_471 e_475 => ?_)
                                                              have h := h f_471 e_475
                                                              refine ag_aload_n E1 dL_law_1170 rfl 2 rfl ?_
                                                              refine ag_aload_n E1 dL_law_1171 rfl 0 rfl ?_
                                                              refine ag_iload_n E1 dL_law_1172 rfl 3 rfl ?_
                                                              refine ag_iconst E1 dL_law_1173 ki_1 ?_
                                                              refine ag_iadd E1 dL_law_1174 ?_
                                                              obtain ⟨hin_476, h⟩ := h
                                                              refine ag_sld E1 hX hsb hin_476 dL_law_1175 ?_
                                                              obtain ⟨S_479, e_481, h⟩ := h
                                                              refine ag_le e_481 ?_
                                                              refine ag_callV E1 (ci := 0) (C := RX7) (T0 := TX7) (n2 := 56) pM_obj rfl (kX7_count _ _ _ _ _ _ _ f_471.1 f_471.2.1 f_471.2.2 _ _ _ h) (lw_V q1899 q1900 q1901 q107 q1902) hdX7_count (Nat.le_of_ble_eq_true rfl) (Nat.le_of_ble_eq_true rfl) (As := [.int (xs (Int32.toNatClampNeg (x3 + (1 : Int32))))]) rfl (Nat.le_of_ble_eq_true rfl) dL_law_1176 (fun v_ w_ hv => ?_) rfl
                                                              obtain ⟨S_480, rfl, r_477, rfl, h⟩ := hv
                                                              refine ag_named (fun f_478 e_482 => ?_)
                                                              have h := h f_478 e_482
                                                              refine ag_icmp_eq E1 (tgt := 1445) dL_law_1179 (by decide) (fun c_1179 => ?_) (fun c_1179 => ?_)
                                                              · have h := h.1 c_1179
                                                                exact tbL_law_1445 E hb hX hsb hK18 h
                                                              · have h := h.2 c_1179
                                                                refine ag_iconst E1 dL_law_1182 ki_0 ?_
                                                                exact law_ret E1 hb h dL_law_1183
                                                            · have h := h.2 c_33_28
                                                              have n_28 := lv_neT c_33_28 (show (28 : Int32).toInt = 28 by decide)
                                                              rcases Classical.em (((xs (Int32.toNatClampNeg x3)) &&& (63 : Int32)) = (29 : Int32)) with c_33_29 | c_33_29
                                                              · have h := h.1 c_33_29
                                                                refine ag_tableIn E1 (tgt := 1184) (off := 1151) dL_law_33 (by rw [c_33_29]; decide) (by rw [c_33_29]; decide) (by rw [c_33_29]; decide) (by decide) ?_
                                                                refine ag_aload_n E1 dL_law_1184 rfl 1 rfl ?_
                                                                obtain ⟨S_485, e_487, h⟩ := h
                                                                refine ag_le e_487 ?_
                                                                refine ag_callV E1 (ci := 1) (C := RX0) (T0 := TX0) (n2 := 43) pX_obj rfl (kX0_image _ _ _ _ _ _ _ _ _  _ h) (lw_V q1301 q1302 q1303 q83 q1304) hdX0_image (Nat.le_of_ble_eq_true rfl) (Nat.le_of_ble_eq_true rfl) (As := []) rfl (Nat.le_of_ble_eq_true rfl) dL_law_1185 (fun v_ w_ hv => ?_) rfl
                                                                obtain ⟨S_486, rfl, r_483, rfl, h⟩ := hv
                                                                refine ag_named (fun f_484 e_488 => ?_)
                                                                have h := h f_484 e_488
                                                                refine ag_aload_n E1 dL_law_1188 rfl 2 rfl ?_
                                                                obtain ⟨S_491, e_493, h⟩ := h
                                                                refine ag_le e_493 ?_
                                                                refine ag_callV E1 (ci := 0) (C := RX7) (T0 := TX7) (n2 := 56) pM_obj rfl (kX7_image _ _ _ _ _ _ _ f_484.1 f_484.2.1 f_484.2.2 _  _ h) (lw_V q1903 q1904 q1905 q107 q1906) hdX7_image (Nat.le_of_ble_eq_true rfl) (Nat.le_of_ble_eq_true rfl) (As := []) rfl (Nat.le_of_ble_eq_true rfl) dL_law_1189 (fun v_ w_ hv => ?_) rfl
                                                                obtain ⟨S_492, rfl, r_489, rfl, h⟩ := hv
                                                                refine ag_named (fun f_490 e_494 => ?_)
                                                                have h := h f_490 e_494
                                                                refine ag_icmp_eq E1 (tgt := 1445) dL_law_1192 (by decide) (fun c_1192 => ?_) (fun c_1192 => ?_)
                                                                · have h := h.1 c_1192
                                                                  exact tbL_law_1445 E hb hX hsb hK18 h
                                                                · have h := h.2 c_1192
                                                                  refine ag_iconst E1 dL_law_1195 ki_0 ?_
                                                                  exact law_ret E1 hb h dL_law_1196
                                                              · have h := h.2 c_33_29
                                                                have n_29 := lv_neT c_33_29 (show (29 : Int32).toInt = 29 by decide)
                                                                rcases Classical.em (((xs (Int32.toNatClampNeg x3)) &&& (63 : Int32)) = (30 : Int32)) with c_33_30 | c_33_30
                                                                · have h := h.1 c_33_30
                                                                  refine ag_tableIn E1 (tgt := 1197) (off := 1164) dL_law_33 (by rw [c_33_30]; decide) (by rw [c_33_30]; decide) (by rw [c_33_30]; decide) (by decide) ?_
                                                                  refine ag_aload_n E1 dL_law_1197 rfl 1 rfl ?_
                                                                  obtain ⟨S_497, e_499, h⟩ := h
                                                                  refine ag_le e_499 ?_
                                                                  refine ag_callV E1 (ci := 1) (C := RX0) (T0 := TX0) (n2 := 43) pX_obj rfl (kX0_back _ _ _ _ _ _ _ _ _  _ h) (lw_V q1305 q1306 q1307 q83 q1308) hdX0_back (Nat.le_of_ble_eq_true rfl) (Nat.le_of_ble_eq_true rfl) (As := []) rfl (Nat.le_of_ble_eq_true rfl) dL_law_1198 (fun v_ w_ hv => ?_) rfl
                                                                  obtain ⟨S_498, rfl, r_495, rfl, h⟩ := hv
                                                                  refine ag_named (fun f_496 e_500 => ?_)
                                                                  have h := h f_496 e_500
                                                                  refine ag_aload_n E1 dL_law_1201 rfl 2 rfl ?_
                                                                  obtain ⟨S_503, e_505, h⟩ := h
                                                                  refine ag_le e_505 ?_
                                                                  refine ag_callV E1 (ci := 0) (C := RX7) (T0 := TX7) (n2 := 56) pM_obj rfl (kX7_back _ _ _ _ _ _ _ f_496.1 f_496.2.1 f_496.2.2 _  _ h) (lw_V q1907 q1908 q1909 q107 q1910) hdX7_back (Nat.le_of_ble_eq_true rfl) (Nat.le_of_ble_eq_true rfl) (As := []) rfl (Nat.le_of_ble_eq_true rfl) dL_law_1202 (fun v_ w_ hv => ?_) rfl
                                                                  obtain ⟨S_504, rfl, r_501, rfl, h⟩ := hv
                                                                  refine ag_named (fun f_502 e_506 => ?_)
                                                                  have h := h f_502 e_506
                                                                  refine ag_icmp_eq E1 (tgt := 1445) dL_law_1205 (by decide) (fun c_1205 => ?_) (fun c_1205 => ?_)
                                                                  · have h := h.1 c_1205
                                                                    exact tbL_law_1445 E hb hX hsb hK18 h
                                                                  · have h := h.2 c_1205
                                                                    refine ag_iconst E1 dL_law_1208 ki_0 ?_
                                                                    exact law_ret E1 hb h dL_law_1209
                                                                · have h := h.2 c_33_30
                                                                  have n_30 := lv_neT c_33_30 (show (30 : Int32).toInt = 30 by decide)
                                                                  rcases Classical.em (((xs (Int32.toNatClampNeg x3)) &&& (63 : Int32)) = (31 : Int32)) with c_33_31 | c_33_31
                                                                  · have h := h.1 c_33_31
                                                                    refine ag_tableIn E1 (tgt := 1210) (off := 1177) dL_law_33 (by rw [c_33_31]; decide) (by rw [c_33_31]; decide) (by rw [c_33_31]; decide) (by decide) ?_
                                                                    refine ag_aload_n E1 dL_law_1210 rfl 1 rfl ?_
                                                                    refine ag_aload_n E1 dL_law_1211 rfl 0 rfl ?_
                                                                    refine ag_iload_n E1 dL_law_1212 rfl 3 rfl ?_
                                                                    refine ag_iconst E1 dL_law_1213 ki_1 ?_
                                                                    refine ag_iadd E1 dL_law_1214 ?_
                                                                    obtain ⟨hin_507, h⟩ := h
                                                                    refine ag_sld E1 hX hsb hin_507 dL_law_1215 ?_
                                                                    refine ag_aload_n E1 dL_law_1216 rfl 0 rfl ?_
                                                                    refine ag_iload_n E1 dL_law_1217 rfl 3 rfl ?_
                                                                    refine ag_iconst E1 dL_law_1218 ki_2 ?_
                                                                    refine ag_iadd E1 dL_law_1219 ?_
                                                                    obtain ⟨hin_508, h⟩ := h
                                                                    refine ag_sld E1 hX hsb hin_508 dL_law_1220 ?_
                                                                    refine ag_aload_n E1 dL_law_1221 rfl 0 rfl ?_
                                                                    refine ag_iload_n E1 dL_law_1222 rfl 3 rfl ?_
                                                                    refine ag_iconst E1 dL_law_1223 ki_3 ?_
                                                                    refine ag_iadd E1 dL_law_1224 ?_
                                                                    obtain ⟨hin_509, h⟩ := h
                                                                    refine ag_sld E1 hX hsb hin_509 dL_law_1225 ?_
                                                                    obtain ⟨S_512, e_514, h⟩ := h
                                                                    refine ag_le e_514 ?_
                                                                    refine ag_callV E1 (ci := 1) (C := RX0) (T0 := TX0) (n2 := 43) pX_obj rfl (kX0_sheet _ _ _ _ _ _ _ _ _ _ _ _ _ h) (lw_V q1323 q1324 q1325 q83 q1326) hdX0_sheet (Nat.le_of_ble_eq_true rfl) (Nat.le_of_ble_eq_true rfl) (As := [.int (xs (Int32.toNatClampNeg (x3 + (1 : Int32)))), .int (xs (Int32.toNatClampNeg (x3 + (2 : Int32)))), .int (xs (Int32.toNatClampNeg (x3 + (3 : Int32))))]) rfl (Nat.le_of_ble_eq_true rfl) dL_law_1226 (fun v_ w_ hv => ?_) rfl
                                                                    obtain ⟨S_513, rfl, r_510, rfl, h⟩ := hv
                                                                    refine ag_named (fun f_511 e_515 => ?_)
                                                                    have h := h f_511 e_515
                                                                    refine ag_aload_n E1 dL_law_1229 rfl 2 rfl ?_
                                                                    refine ag_aload_n E1 dL_law_1230 rfl 0 rfl ?_
                                                                    refine ag_iload_n E1 dL_law_1231 rfl 3 rfl ?_
                                                                    refine ag_iconst E1 dL_law_1232 ki_1 ?_
                                                                    refine ag_iadd E1 dL_law_1233 ?_
                                                                    obtain ⟨hin_516, h⟩ := h
                                                                    refine ag_sld E1 hX hsb hin_516 dL_law_1234 ?_
                                                                    refine ag_aload_n E1 dL_law_1235 rfl 0 rfl ?_
                                                                    refine ag_iload_n E1 dL_law_1236 rfl 3 rfl ?_
                                                                    refine ag_iconst E1 dL_law_1237 ki_2 ?_
                                                                    refine ag_iadd E1 dL_law_1238 ?_
                                                                    obtain ⟨hin_517, h⟩ := h
                                                                    refine ag_sld E1 hX hsb hin_517 dL_law_1239 ?_
                                                                    refine ag_aload_n E1 dL_law_1240 rfl 0 rfl ?_
                                                                    refine ag_iload_n E1 dL_law_1241 rfl 3 rfl ?_
                                                                    refine ag_iconst E1 dL_law_1242 ki_3 ?_
                                                                    refine ag_iadd E1 dL_law_1243 ?_
                                                                    obtain ⟨hin_518, h⟩ := h
                                                                    refine ag_sld E1 hX hsb hin_518 dL_law_1244 ?_
                                                                    obtain ⟨S_521, e_523, h⟩ := h
                                                                    refine ag_le e_523 ?_
                                                                    refine ag_callV E1 (ci := 0) (C := RX7) (T0 := TX7) (n2 := 56) pM_obj rfl (kX7_sheet _ _ _ _ _ _ _ f_511.1 f_511.2.1 f_511.2.2 _ _ _ _ _ h) (lw_V q1911 q1912 q1913 q107 q1914) hdX7_sheet (Nat.le_of_ble_eq_true rfl) (Nat.le_of_ble_eq_true rfl) (As := [.int (xs (Int32.toNatClampNeg (x3 + (1 : Int32)))), .int (xs (Int32.toNatClampNeg (x3 + (2 : Int32)))), .int (xs (Int32.toNatClampNeg (x3 + (3 : Int32))))]) rfl (Nat.le_of_ble_eq_true rfl) dL_law_1245 (fun v_ w_ hv => ?_) rfl
                                                                    obtain ⟨S_522, rfl, r_519, rfl, h⟩ := hv
                                                                    refine ag_named (fun f_520 e_524 => ?_)
                                                                    have h := h f_520 e_524
                                                                    refine ag_icmp_eq E1 (tgt := 1445) dL_law_1248 (by decide) (fun c_1248 => ?_) (fun c_1248 => ?_)
                                                                    · have h := h.1 c_1248
                                                                      exact tbL_law_1445 E hb hX hsb hK18 h
                                                                    · have h := h.2 c_1248
                                                                      refine ag_iconst E1 dL_law_1251 ki_0 ?_
                                                                      exact law_ret E1 hb h dL_law_1252
                                                                  · have h := h.2 c_33_31
                                                                    have n_31 := lv_neT c_33_31 (show (31 : Int32).toInt = 31 by decide)
                                                                    rcases Classical.em (((xs (Int32.toNatClampNeg x3)) &&& (63 : Int32)) = (32 : Int32)) with c_33_32 | c_33_32
                                                                    · have h := h.1 c_33_32
                                                                      refine ag_tableIn E1 (tgt := 1253) (off := 1220) dL_law_33 (by rw [c_33_32]; decide) (by rw [c_33_32]; decide) (by rw [c_33_32]; decide) (by decide) ?_
                                                                      refine ag_aload_n E1 dL_law_1253 rfl 1 rfl ?_
                                                                      refine ag_aload_n E1 dL_law_1254 rfl 0 rfl ?_
                                                                      refine ag_iload_n E1 dL_law_1255 rfl 3 rfl ?_
                                                                      refine ag_iconst E1 dL_law_1256 ki_1 ?_
                                                                      refine ag_iadd E1 dL_law_1257 ?_
                                                                      obtain ⟨hin_525, h⟩ := h
                                                                      refine ag_sld E1 hX hsb hin_525 dL_law_1258 ?_
                                                                      refine ag_aload_n E1 dL_law_1259 rfl 0 rfl ?_
                                                                      refine ag_iload_n E1 dL_law_1260 rfl 3 rfl ?_
                                                                      refine ag_iconst E1 dL_law_1261 ki_2 ?_
                                                                      refine ag_iadd E1 dL_law_1262 ?_
                                                                      obtain ⟨hin_526, h⟩ := h
                                                                      refine ag_sld E1 hX hsb hin_526 dL_law_1263 ?_
                                                                      refine ag_aload_n E1 dL_law_1264 rfl 0 rfl ?_
                                                                      refine ag_iload_n E1 dL_law_1265 rfl 3 rfl ?_
                                                                      refine ag_iconst E1 dL_law_1266 ki_3 ?_
                                                                      refine ag_iadd E1 dL_law_1267 ?_
                                                                      obtain ⟨hin_527, h⟩ := h
                                                                      refine ag_sld E1 hX hsb hin_527 dL_law_1268 ?_
                                                                      obtain ⟨S_530, e_532, h⟩ := h
                                                                      refine ag_le e_532 ?_
                                                                      refine ag_callVW E1 (ci := 1) (C := RX0) (T0 := TX0) (n2 := 43) pX_obj rfl (kX0_cell _ _ _ _ _ _ _ _ _ _ _ _ _ h) (lw_VW q1327 q1328 q1329 q83 q1330) hdX0_cell (Nat.le_of_ble_eq_true rfl) (Nat.le_of_ble_eq_true rfl) (As := [.int (xs (Int32.toNatClampNeg (x3 + (1 : Int32)))), .int (xs (Int32.toNatClampNeg (x3 + (2 : Int32)))), .int (xs (Int32.toNatClampNeg (x3 + (3 : Int32))))]) rfl (Nat.le_of_ble_eq_true rfl) dL_law_1269 rfl (fun v_ w_ hv => ?_) (fun a_ w_ hx => hx.elim)
                                                                      obtain ⟨S_531, rfl, r_528, rfl, h⟩ := hv
                                                                      refine ag_named (fun f_529 e_533 => ?_)
                                                                      have h := h f_529 e_533
                                                                      refine ag_aload_n E1 dL_law_1272 rfl 2 rfl ?_
                                                                      refine ag_aload_n E1 dL_law_1273 rfl 0 rfl ?_
                                                                      refine ag_iload_n E1 dL_law_1274 rfl 3 rfl ?_
                                                                      refine ag_iconst E1 dL_law_1275 ki_1 ?_
                                                                      refine ag_iadd E1 dL_law_1276 ?_
                                                                      obtain ⟨hin_534, h⟩ := h
                                                                      refine ag_sld E1 hX hsb hin_534 dL_law_1277 ?_
                                                                      refine ag_aload_n E1 dL_law_1278 rfl 0 rfl ?_
                                                                      refine ag_iload_n E1 dL_law_1279 rfl 3 rfl ?_
                                                                      refine ag_iconst E1 dL_law_1280 ki_2 ?_
                                                                      refine ag_iadd E1 dL_law_1281 ?_
                                                                      obtain ⟨hin_535, h⟩ := h
                                                                      refine ag_sld E1 hX hsb hin_535 dL_law_1282 ?_
                                                                      refine ag_aload_n E1 dL_law_1283 rfl 0 rfl ?_
                                                                      refine ag_iload_n E1 dL_law_1284 rfl 3 rfl ?_
                                                                      refine ag_iconst E1 dL_law_1285 ki_3 ?_
                                                                      refine ag_iadd E1 dL_law_1286 ?_
                                                                      obtain ⟨hin_536, h⟩ := h
                                                                      refine ag_sld E1 hX hsb hin_536 dL_law_1287 ?_
                                                                      obtain ⟨S_539, e_541, h⟩ := h
                                                                      refine ag_le e_541 ?_
                                                                      refine ag_callV E1 (ci := 0) (C := RX7) (T0 := TX7) (n2 := 56) pM_obj rfl (kX7_cell _ _ _ _ _ _ _ f_529.1 f_529.2.1 f_529.2.2 _ _ _ _ _ h) (lw_V q1915 q1916 q1917 q107 q1918) hdX7_cell (Nat.le_of_ble_eq_true rfl) (Nat.le_of_ble_eq_true rfl) (As := [.int (xs (Int32.toNatClampNeg (x3 + (1 : Int32)))), .int (xs (Int32.toNatClampNeg (x3 + (2 : Int32)))), .int (xs (Int32.toNatClampNeg (x3 + (3 : Int32))))]) rfl (Nat.le_of_ble_eq_true rfl) dL_law_1288 (fun v_ w_ hv => ?_) rfl
                                                                      obtain ⟨S_540, rfl, r_537, rfl, h⟩ := hv
                                                                      refine ag_named (fun f_538 e_542 => ?_)
                                                                      have h := h f_538 e_542
                                                                      refine ag_icmp_eq E1 (tgt := 1445) dL_law_1291 (by decide) (fun c_1291 => ?_) (fun c_1291 => ?_)
                                                                      · have h := h.1 c_1291
                                                                        exact tbL_law_1445 E hb hX hsb hK18 h
                                                                      · have h := h.2 c_1291
                                                                        refine ag_iconst E1 dL_law_1294 ki_0 ?_
                                                                        exact law_ret E1 hb h dL_law_1295
                                                                    · have h := h.2 c_33_32
                                                                      have n_32 := lv_neT c_33_32 (show (32 : Int32).toInt = 32 by decide)
                                                                      rcases Classical.em (((xs (Int32.toNatClampNeg x3)) &&& (63 : Int32)) = (33 : Int32)) with c_33_33 | c_33_33
                                                                      · have h := h.1 c_33_33
                                                                        refine ag_tableIn E1 (tgt := 1296) (off := 1263) dL_law_33 (by rw [c_33_33]; decide) (by rw [c_33_33]; decide) (by rw [c_33_33]; decide) (by decide) ?_
                                                                        refine ag_aload_n E1 dL_law_1296 rfl 1 rfl ?_
                                                                        refine ag_aload_n E1 dL_law_1297 rfl 0 rfl ?_
                                                                        refine ag_iload_n E1 dL_law_1298 rfl 3 rfl ?_
                                                                        refine ag_iconst E1 dL_law_1299 ki_1 ?_
                                                                        refine ag_iadd E1 dL_law_1300 ?_
                                                                        obtain ⟨hin_543, h⟩ := h
                                                                        refine ag_sld E1 hX hsb hin_543 dL_law_1301 ?_
                                                                        refine ag_aload_n E1 dL_law_1302 rfl 0 rfl ?_
                                                                        refine ag_iload_n E1 dL_law_1303 rfl 3 rfl ?_
                                                                        refine ag_iconst E1 dL_law_1304 ki_2 ?_
                                                                        refine ag_iadd E1 dL_law_1305 ?_
                                                                        obtain ⟨hin_544, h⟩ := h
                                                                        refine ag_sld E1 hX hsb hin_544 dL_law_1306 ?_
                                                                        refine ag_aload_n E1 dL_law_1307 rfl 0 rfl ?_
                                                                        refine ag_iload_n E1 dL_law_1308 rfl 3 rfl ?_
                                                                        refine ag_iconst E1 dL_law_1309 ki_3 ?_
                                                                        refine ag_iadd E1 dL_law_1310 ?_
                                                                        obtain ⟨hin_545, h⟩ := h
                                                                        refine ag_sld E1 hX hsb hin_545 dL_law_1311 ?_
                                                                        refine ag_aload_n E1 dL_law_1312 rfl 0 rfl ?_
                                                                        refine ag_iload_n E1 dL_law_1313 rfl 3 rfl ?_
                                                                        refine ag_iconst E1 dL_law_1314 ki_4 ?_
                                                                        refine ag_iadd E1 dL_law_1315 ?_
                                                                        obtain ⟨hin_546, h⟩ := h
                                                                        refine ag_sld E1 hX hsb hin_546 dL_law_1316 ?_
                                                                        refine ag_aload_n E1 dL_law_1317 rfl 0 rfl ?_
                                                                        refine ag_iload_n E1 dL_law_1318 rfl 3 rfl ?_
                                                                        refine ag_iconst E1 dL_law_1319 ki_5 ?_
                                                                        refine ag_iadd E1 dL_law_1320 ?_
                                                                        obtain ⟨hin_547, h⟩ := h
                                                                        refine ag_sld E1 hX hsb hin_547 dL_law_1321 ?_
                                                                        obtain ⟨S_550, e_552, h⟩ := h
                                                                        refine ag_le e_552 ?_
                                                                        refine ag_callVW E1 (ci := 1) (C := RX0) (T0 := TX0) (n2 := 43) pX_obj rfl (kX0_copy _ _ _ _ _ _ _ _ _ _ _ _ _ _ _ h) (lw_VW q1361 q1362 q1363 q83 q1364) hdX0_copy (Nat.le_of_ble_eq_true rfl) (Nat.le_of_ble_eq_true rfl) (As := [.int (xs (Int32.toNatClampNeg (x3 + (1 : Int32)))), .int (xs (Int32.toNatClampNeg (x3 + (2 : Int32)))), .int (xs (Int32.toNatClampNeg (x3 + (3 : Int32)))), .int (xs (Int32.toNatClampNeg (x3 + (4 : Int32)))), .int (xs (Int32.toNatClampNeg (x3 + (5 : Int32))))]) rfl (Nat.le_of_ble_eq_true rfl) dL_law_1322 rfl (fun v_ w_ hv => ?_) (fun a_ w_ hx => hx.elim)
                                                                        obtain ⟨S_551, rfl, r_548, rfl, h⟩ := hv
                                                                        refine ag_named (fun f_549 e_553 => ?_)
                                                                        have h := h f_549 e_553
                                                                        refine ag_aload_n E1 dL_law_1325 rfl 2 rfl ?_
                                                                        refine ag_aload_n E1 dL_law_1326 rfl 0 rfl ?_
                                                                        refine ag_iload_n E1 dL_law_1327 rfl 3 rfl ?_
                                                                        refine ag_iconst E1 dL_law_1328 ki_1 ?_
                                                                        refine ag_iadd E1 dL_law_1329 ?_
                                                                        obtain ⟨hin_554, h⟩ := h
                                                                        refine ag_sld E1 hX hsb hin_554 dL_law_1330 ?_
                                                                        refine ag_aload_n E1 dL_law_1331 rfl 0 rfl ?_
                                                                        refine ag_iload_n E1 dL_law_1332 rfl 3 rfl ?_
                                                                        refine ag_iconst E1 dL_law_1333 ki_2 ?_
                                                                        refine ag_iadd E1 dL_law_1334 ?_
                                                                        obtain ⟨hin_555, h⟩ := h
                                                                        refine ag_sld E1 hX hsb hin_555 dL_law_1335 ?_
                                                                        refine ag_aload_n E1 dL_law_1336 rfl 0 rfl ?_
                                                                        refine ag_iload_n E1 dL_law_1337 rfl 3 rfl ?_
                                                                        refine ag_iconst E1 dL_law_1338 ki_3 ?_
                                                                        refine ag_iadd E1 dL_law_1339 ?_
                                                                        obtain ⟨hin_556, h⟩ := h
                                                                        refine ag_sld E1 hX hsb hin_556 dL_law_1340 ?_
                                                                        refine ag_aload_n E1 dL_law_1341 rfl 0 rfl ?_
                                                                        refine ag_iload_n E1 dL_law_1342 rfl 3 rfl ?_
                                                                        refine ag_iconst E1 dL_law_1343 ki_4 ?_
                                                                        refine ag_iadd E1 dL_law_1344 ?_
                                                                        obtain ⟨hin_557, h⟩ := h
                                                                        refine ag_sld E1 hX hsb hin_557 dL_law_1345 ?_
                                                                        refine ag_aload_n E1 dL_law_1346 rfl 0 rfl ?_
                                                                        refine ag_iload_n E1 dL_law_1347 rfl 3 rfl ?_
                                                                        refine ag_iconst E1 dL_law_1348 ki_5 ?_
                                                                        refine ag_iadd E1 dL_law_1349 ?_
                                                                        obtain ⟨hin_558, h⟩ := h
                                                                        refine ag_sld E1 hX hsb hin_558 dL_law_1350 ?_
                                                                        obtain ⟨S_561, e_563, h⟩ := h
                                                                        refine ag_le e_563 ?_
                                                                        refine ag_callV E1 (ci := 0) (C := RX7) (T0 := TX7) (n2 := 56) pM_obj rfl (kX7_copy _ _ _ _ _ _ _ f_549.1 f_549.2.1 f_549.2.2 _ _ _ _ _ _ _ h) (lw_V q1919 q1920 q1921 q107 q1922) hdX7_copy (Nat.le_of_ble_eq_true rfl) (Nat.le_of_ble_eq_true rfl) (As := [.int (xs (Int32.toNatClampNeg (x3 + (1 : Int32)))), .int (xs (Int32.toNatClampNeg (x3 + (2 : Int32)))), .int (xs (Int32.toNatClampNeg (x3 + (3 : Int32)))), .int (xs (Int32.toNatClampNeg (x3 + (4 : Int32)))), .int (xs (Int32.toNatClampNeg (x3 + (5 : Int32))))]) rfl (Nat.le_of_ble_eq_true rfl) dL_law_1351 (fun v_ w_ hv => ?_) rfl
                                                                        obtain ⟨S_562, rfl, r_559, rfl, h⟩ := hv
                                                                        refine ag_named (fun f_560 e_564 => ?_)
                                                                        have h := h f_560 e_564
                                                                        refine ag_icmp_eq E1 (tgt := 1445) dL_law_1354 (by decide) (fun c_1354 => ?_) (fun c_1354 => ?_)
                                                                        · have h := h.1 c_1354
                                                                          exact tbL_law_1445 E hb hX hsb hK18 h
                                                                        · have h := h.2 c_1354
                                                                          refine ag_iconst E1 dL_law_1357 ki_0 ?_
                                                                          exact law_ret E1 hb h dL_law_1358
                                                                      · have h := h.2 c_33_33
                                                                        have n_33 := lv_neT c_33_33 (show (33 : Int32).toInt = 33 by decide)
                                                                        rcases Classical.em (((xs (Int32.toNatClampNeg x3)) &&& (63 : Int32)) = (34 : Int32)) with c_33_34 | c_33_34
                                                                        · have h := h.1 c_33_34
                                                                          refine ag_tableIn E1 (tgt := 1359) (off := 1326) dL_law_33 (by rw [c_33_34]; decide) (by rw [c_33_34]; decide) (by rw [c_33_34]; decide) (by decide) ?_
                                                                          refine ag_aload_n E1 dL_law_1359 rfl 1 rfl ?_
                                                                          refine ag_aload_n E1 dL_law_1360 rfl 0 rfl ?_
                                                                          refine ag_iload_n E1 dL_law_1361 rfl 3 rfl ?_
                                                                          refine ag_iconst E1 dL_law_1362 ki_1 ?_
                                                                          refine ag_iadd E1 dL_law_1363 ?_
                                                                          obtain ⟨hin_565, h⟩ := h
                                                                          refine ag_sld E1 hX hsb hin_565 dL_law_1364 ?_
                                                                          refine ag_aload_n E1 dL_law_1365 rfl 0 rfl ?_
                                                                          refine ag_iload_n E1 dL_law_1366 rfl 3 rfl ?_
                                                                          refine ag_iconst E1 dL_law_1367 ki_2 ?_
                                                                          refine ag_iadd E1 dL_law_1368 ?_
                                                                          obtain ⟨hin_566, h⟩ := h
                                                                          refine ag_sld E1 hX hsb hin_566 dL_law_1369 ?_
                                                                          refine ag_aload_n E1 dL_law_1370 rfl 0 rfl ?_
                                                                          refine ag_iload_n E1 dL_law_1371 rfl 3 rfl ?_
                                                                          refine ag_iconst E1 dL_law_1372 ki_3 ?_
                                                                          refine ag_iadd E1 dL_law_1373 ?_
                                                                          obtain ⟨hin_567, h⟩ := h
                                                                          refine ag_sld E1 hX hsb hin_567 dL_law_1374 ?_
                                                                          refine ag_aload_n E1 dL_law_1375 rfl 0 rfl ?_
                                                                          refine ag_iload_n E1 dL_law_1376 rfl 3 rfl ?_
                                                                          refine ag_iconst E1 dL_law_1377 ki_4 ?_
                                                                          refine ag_iadd E1 dL_law_1378 ?_
                                                                          obtain ⟨hin_568, h⟩ := h
                                                                          refine ag_sld E1 hX hsb hin_568 dL_law_1379 ?_
                                                                          obtain ⟨S_571, e_573, h⟩ := h
                                                                          refine ag_le e_573 ?_
                                                                          refine ag_callVW E1 (ci := 1) (C := RX0) (T0 := TX0) (n2 := 43) pX_obj rfl (kX0_roads _ _ _ _ _ _ _ _ _ _ _ _ _ _ h) (lw_VW q1365 q1366 q1367 q83 q1368) hdX0_roads (Nat.le_of_ble_eq_true rfl) (Nat.le_of_ble_eq_true rfl) (As := [.int (xs (Int32.toNatClampNeg (x3 + (1 : Int32)))), .int (xs (Int32.toNatClampNeg (x3 + (2 : Int32)))), .int (xs (Int32.toNatClampNeg (x3 + (3 : Int32)))), .int (xs (Int32.toNatClampNeg (x3 + (4 : Int32))))]) rfl (Nat.le_of_ble_eq_true rfl) dL_law_1380 rfl (fun v_ w_ hv => ?_) (fun a_ w_ hx => hx.elim)
                                                                          obtain ⟨S_572, rfl, r_569, rfl, h⟩ := hv
                                                                          refine ag_named (fun f_570 e_574 => ?_)
                                                                          have h := h f_570 e_574
                                                                          refine ag_aload_n E1 dL_law_1383 rfl 2 rfl ?_
                                                                          refine ag_aload_n E1 dL_law_1384 rfl 0 rfl ?_
                                                                          refine ag_iload_n E1 dL_law_1385 rfl 3 rfl ?_
                                                                          refine ag_iconst E1 dL_law_1386 ki_1 ?_
                                                                          refine ag_iadd E1 dL_law_1387 ?_
                                                                          obtain ⟨hin_575, h⟩ := h
                                                                          refine ag_sld E1 hX hsb hin_575 dL_law_1388 ?_
                                                                          refine ag_aload_n E1 dL_law_1389 rfl 0 rfl ?_
                                                                          refine ag_iload_n E1 dL_law_1390 rfl 3 rfl ?_
                                                                          refine ag_iconst E1 dL_law_1391 ki_2 ?_
                                                                          refine ag_iadd E1 dL_law_1392 ?_
                                                                          obtain ⟨hin_576, h⟩ := h
                                                                          refine ag_sld E1 hX hsb hin_576 dL_law_1393 ?_
                                                                          refine ag_aload_n E1 dL_law_1394 rfl 0 rfl ?_
                                                                          refine ag_iload_n E1 dL_law_1395 rfl 3 rfl ?_
                                                                          refine ag_iconst E1 dL_law_1396 ki_3 ?_
                                                                          refine ag_iadd E1 dL_law_1397 ?_
                                                                          obtain ⟨hin_577, h⟩ := h
                                                                          refine ag_sld E1 hX hsb hin_577 dL_law_1398 ?_
                                                                          refine ag_aload_n E1 dL_law_1399 rfl 0 rfl ?_
                                                                          refine ag_iload_n E1 dL_law_1400 rfl 3 rfl ?_
                                                                          refine ag_iconst E1 dL_law_1401 ki_4 ?_
                                                                          refine ag_iadd E1 dL_law_1402 ?_
                                                                          obtain ⟨hin_578, h⟩ := h
                                                                          refine ag_sld E1 hX hsb hin_578 dL_law_1403 ?_
                                                                          obtain ⟨S_581, e_583, h⟩ := h
                                                                          refine ag_le e_583 ?_
                                                                          refine ag_callV E1 (ci := 0) (C := RX7) (T0 := TX7) (n2 := 56) pM_obj rfl (kX7_roads _ _ _ _ _ _ _ f_570.1 f_570.2.1 f_570.2.2 _ _ _ _ _ _ h) (lw_V q1923 q1924 q1925 q107 q1926) hdX7_roads (Nat.le_of_ble_eq_true rfl) (Nat.le_of_ble_eq_true rfl) (As := [.int (xs (Int32.toNatClampNeg (x3 + (1 : Int32)))), .int (xs (Int32.toNatClampNeg (x3 + (2 : Int32)))), .int (xs (Int32.toNatClampNeg (x3 + (3 : Int32)))), .int (xs (Int32.toNatClampNeg (x3 + (4 : Int32))))]) rfl (Nat.le_of_ble_eq_true rfl) dL_law_1404 (fun v_ w_ hv => ?_) rfl
                                                                          obtain ⟨S_582, rfl, r_579, rfl, h⟩ := hv
                                                                          refine ag_named (fun f_580 e_584 => ?_)
                                                                          have h := h f_580 e_584
                                                                          refine ag_icmp_eq E1 (tgt := 1445) dL_law_1407 (by decide) (fun c_1407 => ?_) (fun c_1407 => ?_)
                                                                          · have h := h.1 c_1407
                                                                            exact tbL_law_1445 E hb hX hsb hK18 h
                                                                          · have h := h.2 c_1407
                                                                            refine ag_iconst E1 dL_law_1410 ki_0 ?_
                                                                            exact law_ret E1 hb h dL_law_1411
                                                                        · have h := h.2 c_33_34
                                                                          have n_34 := lv_neT c_33_34 (show (34 : Int32).toInt = 34 by decide)
                                                                          rcases Classical.em (((xs (Int32.toNatClampNeg x3)) &&& (63 : Int32)) = (35 : Int32)) with c_33_35 | c_33_35
                                                                          · have h := h.1 c_33_35
                                                                            refine ag_tableIn E1 (tgt := 1412) (off := 1379) dL_law_33 (by rw [c_33_35]; decide) (by rw [c_33_35]; decide) (by rw [c_33_35]; decide) (by decide) ?_
                                                                            refine ag_aload_n E1 dL_law_1412 rfl 1 rfl ?_
                                                                            refine ag_aload_n E1 dL_law_1413 rfl 0 rfl ?_
                                                                            refine ag_iload_n E1 dL_law_1414 rfl 3 rfl ?_
                                                                            refine ag_iconst E1 dL_law_1415 ki_1 ?_
                                                                            refine ag_iadd E1 dL_law_1416 ?_
                                                                            obtain ⟨hin_585, h⟩ := h
                                                                            refine ag_sld E1 hX hsb hin_585 dL_law_1417 ?_
                                                                            refine ag_aload_n E1 dL_law_1418 rfl 0 rfl ?_
                                                                            refine ag_iload_n E1 dL_law_1419 rfl 3 rfl ?_
                                                                            refine ag_iconst E1 dL_law_1420 ki_2 ?_
                                                                            refine ag_iadd E1 dL_law_1421 ?_
                                                                            obtain ⟨hin_586, h⟩ := h
                                                                            refine ag_sld E1 hX hsb hin_586 dL_law_1422 ?_
                                                                            obtain ⟨S_589, e_591, h⟩ := h
                                                                            refine ag_le e_591 ?_
                                                                            refine ag_callVW E1 (ci := 1) (C := RX0) (T0 := TX0) (n2 := 43) pX_obj rfl (kX0_taken _ _ _ _ _ _ _ _ _ _ _ _ h) (lw_VW q1371 q1372 q1373 q83 q1374) hdX0_taken (Nat.le_of_ble_eq_true rfl) (Nat.le_of_ble_eq_true rfl) (As := [.int (xs (Int32.toNatClampNeg (x3 + (1 : Int32)))), .int (xs (Int32.toNatClampNeg (x3 + (2 : Int32))))]) rfl (Nat.le_of_ble_eq_true rfl) dL_law_1423 rfl (fun v_ w_ hv => ?_) (fun a_ w_ hx => hx.elim)
                                                                            obtain ⟨S_590, rfl, r_587, rfl, h⟩ := hv
                                                                            refine ag_named (fun f_588 e_592 => ?_)
                                                                            have h := h f_588 e_592
                                                                            refine ag_aload_n E1 dL_law_1426 rfl 2 rfl ?_
                                                                            refine ag_aload_n E1 dL_law_1427 rfl 0 rfl ?_
                                                                            refine ag_iload_n E1 dL_law_1428 rfl 3 rfl ?_
                                                                            refine ag_iconst E1 dL_law_1429 ki_1 ?_
                                                                            refine ag_iadd E1 dL_law_1430 ?_
                                                                            obtain ⟨hin_593, h⟩ := h
                                                                            refine ag_sld E1 hX hsb hin_593 dL_law_1431 ?_
                                                                            refine ag_aload_n E1 dL_law_1432 rfl 0 rfl ?_
                                                                            refine ag_iload_n E1 dL_law_1433 rfl 3 rfl ?_
                                                                            refine ag_iconst E1 dL_law_1434 ki_2 ?_
                                                                            refine ag_iadd E1 dL_law_1435 ?_
                                                                            obtain ⟨hin_594, h⟩ := h
                                                                            refine ag_sld E1 hX hsb hin_594 dL_law_1436 ?_
                                                                            obtain ⟨S_597, e_599, h⟩ := h
                                                                            refine ag_le e_599 ?_
                                                                            refine ag_callV E1 (ci := 0) (C := RX7) (T0 := TX7) (n2 := 56) pM_obj rfl (kX7_taken _ _ _ _ _ _ _ f_588.1 f_588.2.1 f_588.2.2 _ _ _ _ h) (lw_V q1928 q1929 q1930 q107 q1931) hdX7_taken (Nat.le_of_ble_eq_true rfl) (Nat.le_of_ble_eq_true rfl) (As := [.int (xs (Int32.toNatClampNeg (x3 + (1 : Int32)))), .int (xs (Int32.toNatClampNeg (x3 + (2 : Int32))))]) rfl (Nat.le_of_ble_eq_true rfl) dL_law_1437 (fun v_ w_ hv => ?_) rfl
                                                                            obtain ⟨S_598, rfl, r_595, rfl, h⟩ := hv
                                                                            refine ag_named (fun f_596 e_600 => ?_)
                                                                            have h := h f_596 e_600
                                                                            refine ag_icmp_eq E1 (tgt := 1445) dL_law_1440 (by decide) (fun c_1440 => ?_) (fun c_1440 => ?_)
                                                                            · have h := h.1 c_1440
                                                                              exact tbL_law_1445 E hb hX hsb hK18 h
                                                                            · have h := h.2 c_1440
                                                                              refine ag_iconst E1 dL_law_1443 ki_0 ?_
                                                                              exact law_ret E1 hb h dL_law_1444
                                                                          · have h := h.2 c_33_35
                                                                            have n_35 := lv_neT c_33_35 (show (35 : Int32).toInt = 35 by decide)
                                                                            refine ag_tableOut E1 (tgt := 1445) dL_law_33 (by omega) (by decide) ?_
                                                                            exact tbL_law_1445 E hb hX hsb hK18 h
theorem tlL_law_18 (E : EX p room_1 s m #[Value.ref sc] meth c cL_law 4 "MarketDaysLaw" ret D cs b H0 (XKd b H0 ad vs) hh 215 8495 z u) (hb : s.heap.size = b) (hX : va_X sc L xs s s.heap) (hsb : sc < b) {Q : Int32 → cW → Prop}  : ∀ (n : Nat) (x1 : Nat) (x2 : Nat) (x3 : Int32) (f : cW), wlL_law_18 b cs ad vs sc L xs  Q n x1 x2 x3 f → AG p l e room_1 s m #[Value.ref sc] below meth c D clC b 4 (lw_Z below #[Value.ref sc] s) 18 [(0, .ref sc), (1, .ref x1), (2, .ref x2), (3, .int x3)] [] f := by
  intro n
  induction n with
  | zero => intro _ _ _ _ h; exact h.elim
  | succ n ih => intro x1 x2 x3 f h; exact tbL_law_18 E hb hX hsb ih h
theorem kL_law (E : EX p room_1 s m #[Value.ref sc] meth c cL_law 4 "MarketDaysLaw" ret D cs b H0 (XKd b H0 ad vs) hh 215 8495 z u) (hb : s.heap.size = b) (hX : va_X sc L xs s s.heap) (hsb : sc < b) {Q : Int32 → cW → Prop} {f : cW} (h : wL_law b cs ad vs sc L xs f Q) : AG p l e room_1 s m #[Value.ref sc] below meth c D clC b 4 (lw_Z below #[Value.ref sc] s) 0 [(0, .ref sc)] [] f := by
  have E1 := E.1
  obtain ⟨hb_3, h⟩ := h
  refine ag_new E1 (ci := 1) (C := RX0) (T := TX0) (N := 43) (fs := [.null, .null, .null, .null, .null, .null, .int (0 : Int32), .int (0 : Int32), .null, .null, .int (0 : Int32), .null, .null, .int (0 : Int32), .null, .int (0 : Int32), .int (0 : Int32), .int (0 : Int32), .long (0 : Int64), .null, .null, .int (0 : Int32), .null, .null, .int (0 : Int32), .int (0 : Int32), .null, .null, .int (0 : Int32), .null, .null, .null, .null, .null, .int (0 : Int32), .int (0 : Int32), .int (0 : Int32), .int (0 : Int32), .null, .int (0 : Int32), .null, .int (0 : Int32), .null]) tyX0 tyX0_ok in_X0 q120 q121 q83 rfl rfl hb_3 dL_law_0 (fun a_1 f_2 e_4 e_5 => ?_)
  have h := h a_1 f_2 e_4 e_5
  have hP_6 : f_2.1 a_1 = some (.inr (1, vp_V [.null, .null, .null, .null, .null, .null, .int (0 : Int32), .int (0 : Int32), .null, .null, .int (0 : Int32), .null, .null, .int (0 : Int32), .null, .int (0 : Int32), .int (0 : Int32), .int (0 : Int32), .long (0 : Int64), .null, .null, .int (0 : Int32), .null, .null, .int (0 : Int32), .int (0 : Int32), .null, .null, .int (0 : Int32), .null, .null, .null, .null, .null, .int (0 : Int32), .int (0 : Int32), .int (0 : Int32), .int (0 : Int32), .null, .int (0 : Int32), .null, .int (0 : Int32), .null])) := by rw [e_5, e_4]; exact wNew_s
  refine ag_dup E1 dL_law_3 rfl ?_
  refine ag_callI E1 (kX0_init _ _ _ _ _ _ _ _ _ _ h) q124 q83 q122 q123 rfl hdX0_init (Nat.le_of_ble_eq_true rfl) (Nat.le_of_ble_eq_true rfl) (As := []) rfl (Nat.le_of_ble_eq_true rfl) dL_law_4 (fun v_ f_7 hv => ?_) rfl
  obtain ⟨rfl, h⟩ := hv
  refine ag_astore_n E1 (lv' := [(1, .ref a_1), (0, .ref sc)]) dL_law_7 rfl (Nat.lt_of_lt_of_le (Nat.le_refl _) (Nat.le_of_ble_eq_true rfl)) rfl ?_
  obtain ⟨hb_10, h⟩ := h
  refine ag_new E1 (ci := 0) (C := RX7) (T := TX7) (N := 56) (fs := [.int (0 : Int32), .null, .null, .null, .null, .null, .int (0 : Int32), .int (0 : Int32), .null, .null, .null, .int (0 : Int32), .null, .null, .int (0 : Int32), .int (0 : Int32), .int (0 : Int32), .null, .null, .null, .int (0 : Int32), .int (0 : Int32), .null, .int (0 : Int32), .null, .int (0 : Int32), .int (0 : Int32), .int (0 : Int32), .int (0 : Int32), .int (0 : Int32), .null, .null, .null, .null, .null, .null, .null, .null, .null, .null, .int (0 : Int32), .int (0 : Int32), .int (0 : Int32), .int (0 : Int32), .null, .null, .int (0 : Int32), .int (0 : Int32), .int (0 : Int32), .null, .null, .null, .null, .null, .null, .null]) tyX7 tyX7_ok in_X7 q1425 q1426 q107 rfl rfl hb_10 dL_law_8 (fun a_8 f_9 e_11 e_12 => ?_)
  have h := h a_8 f_9 e_11 e_12
  have hP_13 : f_9.1 a_8 = some (.inr (0, vp_V [.int (0 : Int32), .null, .null, .null, .null, .null, .int (0 : Int32), .int (0 : Int32), .null, .null, .null, .int (0 : Int32), .null, .null, .int (0 : Int32), .int (0 : Int32), .int (0 : Int32), .null, .null, .null, .int (0 : Int32), .int (0 : Int32), .null, .int (0 : Int32), .null, .int (0 : Int32), .int (0 : Int32), .int (0 : Int32), .int (0 : Int32), .int (0 : Int32), .null, .null, .null, .null, .null, .null, .null, .null, .null, .null, .int (0 : Int32), .int (0 : Int32), .int (0 : Int32), .int (0 : Int32), .null, .null, .int (0 : Int32), .int (0 : Int32), .int (0 : Int32), .null, .null, .null, .null, .null, .null, .null])) := by rw [e_12, e_11]; exact wNew_s
  refine ag_dup E1 dL_law_11 rfl ?_
  refine ag_callI E1 (kX7_init _ _ _ _ _ _ _ _ _ _ h) q1429 q107 q1427 q1428 rfl hdX7_init (Nat.le_of_ble_eq_true rfl) (Nat.le_of_ble_eq_true rfl) (As := []) rfl (Nat.le_of_ble_eq_true rfl) dL_law_12 (fun v_ f_14 hv => ?_) rfl
  obtain ⟨rfl, h⟩ := hv
  refine ag_astore_n E1 (lv' := [(2, .ref a_8), (1, .ref a_1), (0, .ref sc)]) dL_law_15 rfl (Nat.lt_of_lt_of_le (Nat.le_refl _) (Nat.le_of_ble_eq_true rfl)) rfl ?_
  refine ag_iconst E1 dL_law_16 ki_0 ?_
  refine ag_istore_n E1 (lv' := [(3, .int (0 : Int32)), (2, .ref a_8), (1, .ref a_1), (0, .ref sc)]) dL_law_17 rfl (Nat.lt_of_lt_of_le (Nat.le_refl _) (Nat.le_of_ble_eq_true rfl)) rfl ?_
  refine ag_sub (lv' := [(0, .ref sc), (1, .ref a_1), (2, .ref a_8), (3, .int (0 : Int32))]) [3, 2, 1, 0] rfl ?_
  obtain ⟨n, h⟩ := h
  exact tlL_law_18 E hb hX hsb  n _ _ _ _ h
end
