/-! PLAIN LAYER: the list of givings grows -/
set_option maxRecDepth 100000
abbrev rA (cl n : Nat) (c : Nat → Option Nat) : cE := .inl (cl, n, .inr (.inr (.inr (.inr c))))
abbrev lE (mc : Int32) (v : Value) (n : Int32) : cE := .inr (16, vp_V [.int mc, v, .int n])
theorem lE_inj {mc mc' n n' : Int32} {v v' : Value} (h : lE mc v n = lE mc' v' n') : v = v' := by
  have h1 := congrArg Prod.snd (Sum.inr.inj h)
  have h2 := congrFun h1 1
  exact h2
/-- what adding leaves: the rest of the world Z', its end, its slots -/
def adP (o : Nat) (cs : Nat → Nat) (p : Nat → Bool) (g : St) (G x : Nat) (f f' : XS) : Prop :=
  f'.1 = f.1 ∧ f'.2.1 = f.2.1 ∧ (∀ q, q < f.2.2.2.1 → q ≠ o + 9 → (∀ (N : Nat) (c : Nat → Option Nat), N = 10 ∨ N = 15 → f.2.2.1 q ≠ some (rA (cs 4) N c)) → f'.2.2.1 q = f.2.2.1 q) ∧
  (∀ a e, f'.2.2.1 a = some e → a < f'.2.2.2.1) ∧ f.2.2.2.1 ≤ f'.2.2.2.1 ∧ f'.2.2.2.1 ≤ f.2.2.2.1 + 1 ∧ f'.2.2.2.2 ≤ f.2.2.2.2 + 15 ∧
  ∃ (mc : Int32) (e N : Nat) (c : Nat → Option Nat), xF o e ∧ G + 1 ≤ N ∧ (N = 10 ∨ N = 15) ∧ N ≤ 15 ∧ e ≠ o + 9 ∧ f'.2.2.1 (o + 9) = some (lE mc (.ref e) (Int32.ofNat (G + 1))) ∧ f'.2.2.1 e = some (rA (cs 4) N c) ∧ c G = some x ∧
    (∀ i, i < G → ∃ (a k n : Nat) (D : Nat → Int32), c i = some a ∧ gvAt o cs (cutP p f.2.2.1) g i a k n D) ∧ (e = f.2.2.2.1 ∨ p e = true)
section
variable {b o : Nat} {cs ad : Nat → Nat} {vs : Nat → Option Nat} {f : XS} {g : St}
theorem wX_upd' {a : Nat} {e : cE} {S : XS} (h : xF o a) : (updP (wX o cs S).1 a e, (wX o cs S).2) = wX o cs (S.1, S.2.1, updP S.2.2.1 a e, S.2.2.2) := wX_upd h
/-- the last steps: the object is laid into the array, the size told -/
theorem p_lay {x e N G : Nat} {c : Nat → Option Nat} {mc m : Int32} {ci : Nat} {V : Nat → Value} {Z : cP} {zu : Nat × Nat} {Q : cW → Prop} {w : cW} (hF : xF o e) (he9 : e ≠ o + 9) (hx : xF o x) (hxe : x ≠ e) (hw : w = wX o cs (f.1, f.2.1, Z, zu)) (h9 : Z (o + 9) = some (lE mc (.ref e) m)) (hE : Z e = some (rA (cs 4) N c)) (hxZ : Z x = some (.inr (ci, V))) (hok : oOk ci = true) (hGN : G < N) (hN : N ≤ 15) (h : Q (wX o cs (f.1, f.2.1, updP (updP Z e (rA (cs 4) N (va_up c G (some x)))) (o + 9) (lE mc (.ref e) (Int32.ofNat (G + 1))), zu))) :
    ∃ (n_4 : Nat) (c_5 : Nat → Option Nat), w.1 e = some (.inl (cs 4, n_4, .inr (.inr (.inr (.inr c_5))))) ∧ (vp_in (Int32.ofNat G) n_4 ∧ (∃ (ci_8 : Nat) (cV_9 : Nat → Value), w.1 x = some (.inr (ci_8, cV_9)) ∧ oOk ci_8 = true ∧ (∀ f_12 : cW, f_12 = (updP w.1 e (.inl (cs 4, n_4, .inr (.inr (.inr (.inr (va_up c_5 (Int32.toNatClampNeg (Int32.ofNat G)) (some x))))))), w.2) → (∃ (y_14 : Int32) (v_15 : Value) (y_16 : Int32), f_12.1 (o + 9) = some (.inr (16, vp_V [.int y_14, v_15, .int y_16])) ∧ (∀ f_18 : cW, f_18 = (updP f_12.1 (o + 9) (.inr (16, vp_V [.int y_14, v_15, .int (Int32.ofNat G + (1 : Int32))])), f_12.2) → Q f_18))))) := by
  subst hw
  refine ⟨N, c, (wX_at hF).trans hE, n_in hGN (by omega), ci, V, (wX_at hx).trans hxZ, hok, fun f12 e12 => ?_⟩
  rw [n_clamp (by omega), wX_upd hF] at e12
  subst e12
  refine ⟨mc, .ref e, m, ?_, fun f18 e18 => ?_⟩
  · rw [wX_at xF9]
    show updP Z e _ (o + 9) = _
    rw [updP_ne (fun q => he9 q.symm)]
    exact h9
  · rw [n_suc, wX_upd xF9] at e18
    subst e18
    exact h
theorem p_add {G x : Nat} {ci : Nat} {V : Nat → Value} {p : Nat → Bool} {Q : Int32 → cW → Prop} (hL : GLn o cs ad (cutP p f.2.2.1) g G) (hG : G < 12) (hz1 : ∀ a e, f.2.2.1 a = some e → a < f.2.2.2.1) (hz2 : o + 33 ≤ f.2.2.2.1) (hz3 : f.2.2.2.1 + 1 ≤ b + cB) (hz4 : f.2.2.2.2 + 15 ≤ sB) (hx : xF o x) (hxZ : f.2.2.1 x = some (.inr (ci, V))) (hok : oOk ci = true) (hx9 : x ≠ o + 9) (h : ∀ f', adP o cs p g G x f f' → Q 1 (wX o cs f')) : wJ2_add b cs ad vs (wX o cs f) (o + 9) x Q := by
  have hxz := hz1 x _ hxZ
  have hFz : xF o f.2.2.2.1 := Or.inr (Or.inr (Or.inr hz2))
  obtain ⟨mc, ⟨rfl, h9c⟩ | ⟨e, N, c, he, hGN, hN0, hN15, he9, h9c, hEc, hall⟩⟩ := hL <;> have h9 := cutP_le h9c
  · -- an empty list
    refine Or.inl ?_
    unfold wJ2_add_a wJ2_add_2_a wJ2_grow_a wJ2_grow_2_a wbJ2_add_2_a_11
    refine ⟨_, _, _, (wX_at xF9).trans h9, fun f5 e5 => ⟨rfl, fun q => absurd rfl q, fun _ => ?_⟩⟩
    rw [wX_upd xF9] at e5
    subst e5
    generalize hZ1 : updP f.2.2.1 (o + 9) (.inr (16, vp_V [.int (mc + (1 : Int32)), .ref (ad 42), .int (Int32.ofNat 0)])) = Z1
    have h91 : Z1 (o + 9) = some (.inr (16, vp_V [.int (mc + (1 : Int32)), .ref (ad 42), .int (Int32.ofNat 0)])) := by rw [← hZ1]; exact updP_eq
    have h9w : (wX o cs (f.1, f.2.1, Z1, f.2.2.2)).1 (o + 9) = some (.inr (16, vp_V [.int (mc + (1 : Int32)), .ref (ad 42), .int (Int32.ofNat 0)])) := (wX_at xF9).trans h91
    have em : Int32.toNatClampNeg (i_max (10 : Int32) ((Int32.ofNat 0) + 1)) = 10 := by decide
    refine ⟨_, _, _, h9w, _, _, _, h9w, _, _, _, h9w, rfl, fun q => absurd q (by decide), fun _ => ⟨rfl, fun _ => ⟨by decide, by rw [em]; decide, ?_, fun a7 f8 e7 e8 => ?_⟩, fun q => absurd rfl q⟩⟩
    · unfold bud
      rw [em]
      exact ⟨hz3, by show f.2.2.2.2 + 10 ≤ sB; omega⟩
    · rw [em] at e8
      have e7' : a7 = f.2.2.2.1 := e7
      subst e7'
      have e8' : f8 = wX o cs (xNew (f.1, f.2.1, Z1, f.2.2.2) (rA (cs 4) 10 (fun _ => none)) 10) := by
        rw [e8]
        exact wX_new hFz
      have hz9 : f.2.2.2.1 ≠ o + 9 := by omega
      subst e8'
      have h98 : (wX o cs (xNew (f.1, f.2.1, Z1, f.2.2.2) (rA (cs 4) 10 (fun _ => none)) 10)).1 (o + 9) = some (.inr (16, vp_V [.int (mc + (1 : Int32)), .ref (ad 42), .int (Int32.ofNat 0)])) := by
        rw [wX_at xF9]
        show updP Z1 f.2.2.2.1 _ (o + 9) = _
        rw [updP_ne (fun q => hz9 q.symm)]
        exact h91
      refine ⟨_, _, _, h98, fun f19 e19 => ?_⟩
      rw [wX_upd xF9] at e19
      have e19' : f19 = wX o cs (f.1, f.2.1, updP (updP Z1 f.2.2.2.1 (rA (cs 4) 10 (fun _ => none))) (o + 9) (lE (mc + 1) (.ref f.2.2.2.1) (Int32.ofNat 0)), f.2.2.2.1 + 1, f.2.2.2.2 + 10) := e19
      refine p_lay (f := f) (x := x) (e := f.2.2.2.1) (N := 10) (G := 0) (c := fun _ => none) (ci := ci) (V := V) (mc := mc + 1) (m := Int32.ofNat 0) (zu := (f.2.2.2.1 + 1, f.2.2.2.2 + 10)) (Q := fun f_9 => Q 1 f_9) hFz hz9 hx (by omega) e19' updP_eq ?_ ?_ hok (by decide) (by decide) ?_
      · rw [updP_ne hz9]
        exact updP_eq
      · rw [updP_ne hx9, updP_ne (by omega), ← hZ1, updP_ne hx9]
        exact hxZ
      · refine h _ ⟨rfl, rfl, fun q hq h9q _ => ?_, fun a ev q => ?_, by show _ ≤ _ + 1; omega, by show _ + 1 ≤ _; omega, by show _ + 10 ≤ _; omega, mc + 1, f.2.2.2.1, 10, va_up (fun _ => none) 0 (some x), hFz, by decide, Or.inl rfl, by decide, hz9, updP_eq, ?_, va_up_self _ _ _, fun i hi => absurd hi (Nat.not_lt_zero _), Or.inl rfl⟩
        · show updP (updP (updP (updP Z1 _ _) _ _) _ _) _ _ q = _
          rw [updP_ne h9q, updP_ne (by omega), updP_ne h9q, updP_ne (by omega), ← hZ1, updP_ne h9q]
        · have q' : updP (updP (updP (updP Z1 f.2.2.2.1 (rA (cs 4) 10 (fun _ => none))) (o + 9) (lE (mc + 1) (.ref f.2.2.2.1) (Int32.ofNat 0))) f.2.2.2.1 (rA (cs 4) 10 (va_up (fun _ => none) 0 (some x)))) (o + 9) (lE (mc + 1) (.ref f.2.2.2.1) (Int32.ofNat (0 + 1))) a = some ev := q
          show a < f.2.2.2.1 + 1
          by_cases c1 : a = o + 9
          · omega
          · by_cases c2 : a = f.2.2.2.1
            · omega
            · rw [updP_ne c1, updP_ne c2, updP_ne c1, updP_ne c2, ← hZ1, updP_ne c1] at q'
              have := hz1 a ev q'
              omega
        · show updP (updP _ _ _) (o + 9) _ f.2.2.2.1 = _
          rw [updP_ne hz9]
          exact updP_eq
  · -- a list with some
    refine Or.inr ?_
    have hE := cutP_le hEc
    have hez := hz1 e _ hE
    have hxe : x ≠ e := by
      intro q
      rw [q, hE] at hxZ
      cases hxZ
    unfold wJ2_add_b wJ2_add_2_b
    refine ⟨_, _, _, (wX_at xF9).trans h9, fun f5 e5 => ⟨e, rfl, ?_⟩⟩
    rw [wX_upd xF9] at e5
    subst e5
    generalize hZ1 : updP f.2.2.1 (o + 9) (.inr (16, vp_V [.int (mc + (1 : Int32)), .ref e, .int (Int32.ofNat G)])) = Z1
    have h91 : Z1 (o + 9) = some (lE (mc + 1) (.ref e) (Int32.ofNat G)) := by rw [← hZ1]; exact updP_eq
    have hE1 : Z1 e = some (rA (cs 4) N c) := by rw [← hZ1, updP_ne he9]; exact hE
    have hx1 : Z1 x = some (.inr (ci, V)) := by rw [← hZ1, updP_ne hx9]; exact hxZ
    have hEw : (wX o cs (f.1, f.2.1, Z1, f.2.2.2)).1 e = some (rA (cs 4) N c) := (wX_at he).trans hE1
    have h9w : (wX o cs (f.1, f.2.1, Z1, f.2.2.2)).1 (o + 9) = some (lE (mc + 1) (.ref e) (Int32.ofNat G)) := (wX_at xF9).trans h91
    have eGN : (Int32.ofNat G = Int32.ofNat N) ↔ G = N := n_eqI (by omega) (by omega)
    refine ⟨N, c, hEw, fun q => ?_, fun q => ?_⟩
    · -- there is room
      have hlt : G < N := by
        have : ¬ G = N := fun z => q (eGN.mpr z)
        omega
      unfold wbJ2_add_2_b_11
      refine p_lay (f := f) (x := x) (e := e) (N := N) (G := G) (c := c) (ci := ci) (V := V) (mc := mc + 1) (m := Int32.ofNat G) (zu := f.2.2.2) (Q := fun f_9 => Q 1 f_9) he he9 hx hxe rfl h91 hE1 hx1 hok hlt hN15 ?_
      refine h _ ⟨rfl, rfl, fun q hq h9q hqe => ?_, fun a ev q => ?_, Nat.le_refl _, Nat.le_add_right _ _, Nat.le_add_right _ _, mc + 1, e, N, va_up c G (some x), he, by omega, hN0, hN15, he9, updP_eq, ?_, va_up_self _ _ _, fun i hi => ?_, Or.inr (cutP_p hEc)⟩
      · show updP (updP Z1 e _) (o + 9) _ q = _
        have hqn : q ≠ e := fun z => hqe N c hN0 (by rw [z]; exact hE)
        rw [updP_ne h9q, updP_ne hqn, ← hZ1, updP_ne h9q]
      · have q' : updP (updP Z1 e (rA (cs 4) N (va_up c G (some x)))) (o + 9) (lE (mc + 1) (.ref e) (Int32.ofNat (G + 1))) a = some ev := q
        show a < f.2.2.2.1
        by_cases c1 : a = o + 9
        · omega
        · by_cases c2 : a = e
          · rw [c2]; exact hez
          · rw [updP_ne c1, updP_ne c2, ← hZ1, updP_ne c1] at q'
            exact hz1 a ev q'
      · show updP (updP Z1 e _) (o + 9) _ e = _
        rw [updP_ne he9]
        exact updP_eq
      · obtain ⟨a, k, n, D, hc, hg⟩ := hall i hi
        exact ⟨a, k, n, D, by rw [va_up_ne _ _ (by omega)]; exact hc, hg⟩
    · -- it must grow
      have hGe := eGN.mp q
      subst hGe
      unfold wJ2_grow_b wJ2_grow_2_b wbJ2_grow_2_b_20 wJ9_newLength wJ11_copyOf_2 wJ11_copyOf_3 wbJ11_copyOf_3_24 wbJ2_add_2_b_11
      have hG10 : G = 10 := by omega
      subst hG10
      have hnl' : Int32.ofNat 10 + i_max (Int32.ofNat 10 + 1 - Int32.ofNat 10) (i_shr (Int32.ofNat 10) 1) = Int32.ofNat 15 := by decide
      have c15 : Int32.toNatClampNeg (Int32.ofNat 15) = 15 := by decide
      have hz9 : f.2.2.2.1 ≠ o + 9 := by omega
      refine ⟨_, _, _, h9w, _, _, _, h9w, _, _, _, h9w, e, rfl, 10, c, hEw, fun x2 e2 => ⟨fun _ => fun x3 e3 => ?_, fun q => ?_⟩⟩
      · subst e2
        rw [hnl'] at e3
        subst e3
        refine ⟨fun q => absurd q (by decide), fun _ => ⟨fun q => absurd q (by decide), fun _ => ⟨_, _, _, h9w, e, rfl, 10, c, hEw, fun q => absurd rfl q, fun _ => ⟨by decide, by decide, ?_, fun a1 f2 ea1 ef2 => ?_⟩⟩⟩⟩
        · unfold bud
          rw [c15]
          exact ⟨hz3, hz4⟩
        · rw [c15] at ef2
          have ea1' : a1 = f.2.2.2.1 := ea1
          subst ea1'
          have ef2' : f2 = wX o cs (xNew (f.1, f.2.1, Z1, f.2.2.2) (rA (cs 4) 15 (fun _ => none)) 15) := by
            rw [ef2]
            exact wX_new hFz
          subst ef2'
          have hlow : ∀ q, q ≠ f.2.2.2.1 → xF o q → (wX o cs (xNew (f.1, f.2.1, Z1, f.2.2.2) (rA (cs 4) 15 (fun _ => none)) 15)).1 q = Z1 q := by
            intro q hq hF
            rw [wX_at hF]
            exact updP_ne hq
          have c10 : Int32.toNatClampNeg (i_min (Int32.ofNat 10) (Int32.ofNat 15)) = 10 := by decide
          refine ⟨10, c, (hlow e (by omega) he).trans hE1, 15, fun _ => none, (wX_at hFz).trans xNew_s, by decide, by decide, by decide, by decide, by decide, fun i hi y hy => ?_, fun f21 e21 => ?_⟩
          · rw [c10] at hi
            have hy' : c i = some y := by
              rw [show (0 : Int32).toNatClampNeg + i = i by show 0 + i = i; omega] at hy
              exact hy
            obtain ⟨a, k, n, D, hc, hg⟩ := hall i hi
            have hya : a = y := Option.some.inj (hc.symm.trans hy')
            subst hya
            obtain ⟨g1, g2, g3, ⟨da, g4, g5c, g6⟩, g7⟩ := hg
            have g5 := cutP_le g5c
            have haz := hz1 a _ g5
            have ha9 : a ≠ o + 9 := by
              intro q
              rw [q, h9] at g5
              have := congrArg Prod.fst (Sum.inr.inj (Option.some.inj g5))
              simp at this
              omega
            refine ⟨3 + k, _, (hlow a (by omega) g1).trans ((by rw [← hZ1, updP_ne ha9]; exact g5)), ?_⟩
            have : k = 0 ∨ k = 1 ∨ k = 2 ∨ k = 3 ∨ k = 4 ∨ k = 5 := by omega
            rcases this with q | q | q | q | q | q <;> subst q <;> rfl
          · rw [c10, wX_upd hFz] at e21
            have e21' : f21 = wX o cs (f.1, f.2.1, updP Z1 f.2.2.2.1 (rA (cs 4) 15 (va_cpy c (fun _ => none) 0 0 10)), f.2.2.2.1 + 1, f.2.2.2.2 + 15) := by
              rw [e21]
              show wX o cs (f.1, f.2.1, updP (updP Z1 _ _) f.2.2.2.1 _, _) = _
              rw [updP_updP]
              rfl
            subst e21'
            have h921 : (wX o cs (f.1, f.2.1, updP Z1 f.2.2.2.1 (rA (cs 4) 15 (va_cpy c (fun _ => none) 0 0 10)), f.2.2.2.1 + 1, f.2.2.2.2 + 15)).1 (o + 9) = some (lE (mc + 1) (.ref e) (Int32.ofNat 10)) := by
              rw [wX_at xF9]
              show updP Z1 _ _ (o + 9) = _
              rw [updP_ne (fun q => hz9 q.symm)]
              exact h91
            refine ⟨_, _, _, h921, fun f25 e25 => ?_⟩
            rw [wX_upd xF9] at e25
            refine p_lay (f := f) (x := x) (e := f.2.2.2.1) (N := 15) (G := 10) (c := va_cpy c (fun _ => none) 0 0 10) (ci := ci) (V := V) (mc := mc + 1) (m := Int32.ofNat 10) (zu := (f.2.2.2.1 + 1, f.2.2.2.2 + 15)) (Q := fun f_9 => Q 1 f_9) hFz hz9 hx (by omega) e25 updP_eq ?_ ?_ hok (by decide) (by decide) ?_
            · rw [updP_ne hz9]
              exact updP_eq
            · rw [updP_ne hx9]
              show updP Z1 f.2.2.2.1 _ x = _
              rw [updP_ne (by omega)]
              exact hx1
            · refine h _ ⟨rfl, rfl, fun q hq h9q hqe => ?_, fun a ev q => ?_, by show _ ≤ _ + 1; omega, by show _ + 1 ≤ _; omega, by show _ + 15 ≤ _; omega, mc + 1, f.2.2.2.1, 15, va_up (va_cpy c (fun _ => none) 0 0 10) 10 (some x), hFz, by decide, Or.inr rfl, by decide, hz9, updP_eq, ?_, va_up_self _ _ _, fun i hi => ?_, Or.inl rfl⟩
              · show updP (updP (updP (updP Z1 _ _) _ _) _ _) _ _ q = _
                rw [updP_ne h9q, updP_ne (by omega), updP_ne h9q, updP_ne (by omega), ← hZ1, updP_ne h9q]
              · have q' : updP (updP (updP (updP Z1 f.2.2.2.1 (rA (cs 4) 15 (va_cpy c (fun _ => none) 0 0 10))) (o + 9) (lE (mc + 1) (.ref f.2.2.2.1) (Int32.ofNat 10))) f.2.2.2.1 (rA (cs 4) 15 (va_up (va_cpy c (fun _ => none) 0 0 10) 10 (some x)))) (o + 9) (lE (mc + 1) (.ref f.2.2.2.1) (Int32.ofNat (10 + 1))) a = some ev := q
                show a < f.2.2.2.1 + 1
                by_cases c1 : a = o + 9
                · omega
                · by_cases c2 : a = f.2.2.2.1
                  · omega
                  · rw [updP_ne c1, updP_ne c2, updP_ne c1, updP_ne c2, ← hZ1, updP_ne c1] at q'
                    have := hz1 a ev q'
                    omega
              · show updP (updP _ _ _) (o + 9) _ f.2.2.2.1 = _
                rw [updP_ne hz9]
                exact updP_eq
              · obtain ⟨a, k, n, D, hc, hg⟩ := hall i hi
                refine ⟨a, k, n, D, ?_, hg⟩
                rw [va_up_ne _ _ (by omega)]
                unfold va_cpy
                rw [if_pos (by omega), show 0 + (i - 0) = i by omega]
                exact hc
      · subst e2
        exact absurd (by decide) q
end
