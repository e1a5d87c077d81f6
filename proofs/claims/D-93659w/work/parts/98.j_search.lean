/-! PLAIN LAYER: meets by aims 0 and 1; search -/
set_option maxRecDepth 100000
section
variable {b o : Nat} {cs ad : Nat → Nat} {vs : Nat → Option Nat} {S S0 : XS} {g : St} {T w : Nat}
/-- behind walked++ -/
def sxW (S0 : XS) (T : Nat) (n : Nat) (k : Option (Int64 × List Nat)) (f : XS) : Prop := sxB S0 T (n, k) f
theorem sx_inc {A : sA} {f f1 : XS} (hb : sxB S0 T A f) (e1 : f1 = (upd2 f.1 99 16 (f.1 99 16 + 1), f.2)) : sxB S0 T (A.1 + 1, A.2) f1 := by
  obtain ⟨k1, k2, k3, k4, k5, k6, k7, k8⟩ := hb
  subst e1
  refine ⟨fun r a1 a2 a3 a4 a5 => by show upd2 f.1 99 16 _ r = _; rw [upd2_o a5]; exact k1 r a1 a2 a3 a4 a5, fun k a1 a2 => by show upd2 f.1 99 16 _ 99 k = _; rw [upd2_at, if_neg a1]; exact k2 k a1 a2, k3, k4, k5, k6, ?_, k8⟩
  show upd2 f.1 99 16 (f.1 99 16 + 1) 99 16 = _
  rw [upd2_at, if_pos rfl, k7, n_suc]
theorem x_meets76 {aim n : Nat} {k : Option (Int64 × List Nat)} {v : Int64} {P : List Nat} {s : Nat → Bool} {f : XS} {Q : Int32 → XS → Prop} (ha : 1 ≤ aim) (ha3 : aim ≤ 3) (hT6 : T ≤ 6) (h21 : S0.1 99 21 = Int32.ofNat aim) (hl : P.length = T) (hb : sxB S0 T (n, k) f) (hp : sxP s T P f) (h : ∀ f', sxB S0 T (n, ktA aim v P k) f' → sxP s T P f' → Q (if aim = 1 then 1 else 0) f') : wbX0_meets_76 b cs ad vs o Q v f := by
  have h117 : ∀ f', sxB S0 T (n, ktA aim v P k) f' → sxP s T P f' → wbX0_meets_117 b cs ad vs o Q f' := by
    intro f' hb' hp'
    have e21 : f'.1 99 21 = Int32.ofNat aim := by rw [hb'.2.1 21 (by decide) (by decide)]; exact h21
    have eq : (Int32.ofNat aim = 1) ↔ aim = 1 := n_eqI (b := 1) (by omega) (by decide)
    have := h f' hb' hp'
    unfold wbX0_meets_117
    rw [e21]
    refine ⟨fun q => ?_, fun q => ?_⟩
    · rw [if_neg (fun z => q (eq.mpr z))] at this; exact this
    · rw [if_pos (eq.mp q)] at this; exact this
  have h92 : ktA aim v P k = some (v, P) → wbX0_meets_92 b cs ad vs o Q v f := by
    intro hk
    obtain ⟨k1, k2, k3, k4, k5, k6, k7, k8⟩ := hb
    unfold wbX0_meets_92
    intro f2 e2 f3 e3
    subst e2
    subst e3
    refine ⟨by decide, by decide, by decide, by decide, by decide, fun i hi => ?_, fun f10 e10 => h117 f10 ?_ ?_⟩
    · rw [show (0 : Int32).toNatClampNeg + i = i by show 0 + i = i; omega]
      exact k5 i hi
    · have e10' : f10 = (updR (upd2 f.1 99 17 1) 20 (cp (f.1 19) (f.1 20) 6), (v, f.2.1.2), f.2.2) := by
        rw [e10]
        show (updR (upd2 f.1 99 17 1) 20 (va_cpy (f.1 19) (f.1 20) 0 0 6), _) = _
        rw [cpy_cp]
      subst e10'
      refine ⟨fun r a1 a2 a3 a4 a5 => by show updR (upd2 f.1 99 17 1) 20 _ r = _; rw [updR_n a4, upd2_o a5]; exact k1 r a1 a2 a3 a4 a5, fun j a1 a2 => by show upd2 f.1 99 17 1 99 j = _; rw [upd2_at, if_neg a2]; exact k2 j a1 a2, k3, k4, k5, fun i hi => ?_, k7, Or.inr ⟨v, P, hk, rfl, rfl, fun i hi => ?_⟩⟩
      · show fits .byte (.int (cp (f.1 19) (f.1 20) 6 i)) = true
        unfold cp
        rw [if_pos hi]
        exact k5 i hi
      · show cp (f.1 19) (f.1 20) 6 i = _
        unfold cp
        rw [if_pos (by omega)]
        exact hp.2.1 i (by omega)
    · rw [e10]
      exact hp
  unfold wbX0_meets_76
  have hn0 : ¬ aim = 0 := by omega
  obtain ⟨k1, k2, k3, k4, k5, k6, k7, k8⟩ := hb
  rcases k8 with ⟨hk, h17⟩ | ⟨v', P', hk, h17, hv, h20⟩
  · have hk' : k = none := hk
    subst hk'
    rw [h17]
    refine w0' (h92 ?_)
    show (if aim = 0 then none else some (v, P)) = _
    rw [if_neg hn0]
  · have hk' : k = some (v', P') := hk
    subst hk'
    rw [h17, hv]
    refine w1' ⟨fun q => ?_, fun q => ?_⟩
    · have hnl : ¬ v' < v := by
        intro z
        have h1 := Int64.lt_iff_toInt_lt.mp z
        have h2 := lg_gt.mpr h1
        have h3 := i_lt.mp h2
        have h4 := i_le.mp q
        omega
      have hkk : ktA aim v P (some (v', P')) = some (v', P') := by
        show (if aim = 0 then some (v', P') else if v' < v then some (v, P) else some (v', P')) = _
        rw [if_neg hn0, if_neg hnl]
      exact h117 f (by rw [hkk]; exact ⟨k1, k2, k3, k4, k5, k6, k7, Or.inr ⟨v', P', rfl, h17, hv, h20⟩⟩) hp
    · have hl' : v' < v := by
        by_cases z : v' < v
        · exact z
        · exfalso
          apply q
          have h1 : ¬ v'.toInt < v.toInt := fun y => z (Int64.lt_iff_toInt_lt.mpr y)
          have h2 : ¬ 0 < lg_cmp v v' := fun y => h1 (lg_gt.mp y)
          refine i_le.mpr ?_
          have h3 : ¬ (0 : Int32).toInt < (lg_cmp v v').toInt := fun y => h2 (i_lt.mpr y)
          omega
      refine h92 ?_
      show (if aim = 0 then some (v', P') else if v' < v then some (v, P) else some (v', P')) = _
      rw [if_neg hn0, if_pos hl']
theorem mt_0 {set : Int32} {vl : List Nat → Int64} (h21 : S0.1 99 21 = Int32.ofNat 0) : mtOk b o cs ad vs S0 T w set 0 vl := by
  intro P A f Q hl hPw hA hb hp h
  unfold wX0_meets
  intro f1 e1
  have hb1 := sx_inc hb e1
  have e21 : f1.1 99 21 = 0 := by rw [hb1.2.1 21 (by decide) (by decide)]; exact h21
  have hp1 : sxP (iS set) T P f1 := by rw [e1]; exact hp
  have hA' := hA rfl
  have hk : mtA 0 vl A P = (A.1 + 1, A.2) := by
    unfold mtA ktA
    cases A.2 <;> rfl
  have h' := h f1 (by rw [hk]; exact hb1) hp1
  rw [hk] at h'
  rw [e21, hb1.2.2.2.2.2.2.1]
  have eq : (Int32.ofNat (A.1 + 1) = 100000) ↔ A.1 + 1 = 100000 := n_eqI (b := 100000) (by omega) (by decide)
  refine w0' ⟨fun q => ?_, fun q => ?_⟩
  · have : stA 0 (A.1 + 1, A.2) = false := by
      unfold stA
      rw [decide_eq_false (fun z => q (eq.mpr z))]
      rfl
    rw [this] at h'
    exact h'
  · have : stA 0 (A.1 + 1, A.2) = true := by
      unfold stA
      rw [decide_eq_true (eq.mp q)]
      rfl
    rw [this] at h'
    exact h'
theorem mt_1 {set : Int32} (hT6 : T ≤ 6) (h21 : S0.1 99 21 = Int32.ofNat 1) : mtOk b o cs ad vs S0 T w set 1 (fun _ => 1) := by
  intro P A f Q hl hPw hA hb hp h
  unfold wX0_meets
  intro f1 e1
  have hb1 := sx_inc hb e1
  have e21 : f1.1 99 21 = 1 := by rw [hb1.2.1 21 (by decide) (by decide)]; exact h21
  have hp1 : sxP (iS set) T P f1 := by rw [e1]; exact hp
  rw [e21]
  refine ⟨fun q => absurd q (by decide), fun _ => ⟨fun _ => x_meets76 (aim := 1) (by decide) (by decide) hT6 h21 hl hb1 hp1 (fun f' hb' hp' => ?_), fun q => absurd rfl q⟩⟩
  exact h f' hb' hp'
/-- the state with which the class begins its search -/
def sS (S : XS) (set : Int32) (aim : Nat) : XS := (upd2 (upd2 (upd2 (upd2 S.1 99 15 set) 99 21 (Int32.ofNat aim)) 99 16 0) 99 17 0, ((0 : Int64), S.2.1.2), S.2.2)
theorem x_search {r aim : Nat} {l : List Nat} {far : Nat → Int32} {set : Int32} {vl : List Nat → Int64} {Q : XS → Prop} (hC : sxC o cs (sS S set aim) g T w r l far set aim) (hMt : mtOk b o cs ad vs (sS S set aim) T w set aim vl) (hT6 : T ≤ 6) (hw2 : 2 ≤ w) (hw7 : w ≤ 7) (h20 : byR (S.1 20)) (h : ∀ f', sxB (sS S set aim) T (fdA aim vl (wA (bA g l far) T w set) (0, none)).2 f' → Q f') : wX0_search b cs ad vs o S set (Int32.ofNat aim) Q := by
  unfold wX0_search
  intro f1 e1 f2 e2 f3 e3 f4 e4 f5 e5
  have e5' : f5 = sS S set aim := by
    rw [e5, e4, e3, e2, e1]
    rfl
  subst e5'
  generalize hS5 : sS S set aim = S5 at *
  have h14a : (wX o cs S5).1 (o + 11) = some (.inl (cs 0, 6, .inl (S5.1 14))) := wX_arr (k := 14) (d := 1) (j := 11) (n := 6) rfl rfl rfl rfl (by decide)
  refine pJ11_fill h14a (by decide) ⟨(updR S5.1 14 (cp (fun _ => 0) (S5.1 14) 6), S5.2), wX_row (k := 14) (d := 1) (j := 11) (n := 6) rfl rfl rfl rfl (by decide), ?_⟩
  generalize hf6 : ((updR S5.1 14 (cp (fun _ => 0) (S5.1 14) 6), S5.2) : XS) = f6
  have h19a : (wX o cs f6).1 (o + 12) = some (.inl (cs 1, 6, .inl (f6.1 19))) := wX_arr (k := 19) (d := 2) (j := 12) (n := 6) rfl rfl rfl rfl (by decide)
  refine pJ11_fill_2 h19a (by decide) ⟨(updR f6.1 19 (cp (fun _ => vp_nar .byte 0) (f6.1 19) 6), f6.2), wX_row (k := 19) (d := 2) (j := 12) (n := 6) rfl rfl rfl rfl (by decide), ?_⟩
  have en0 : vp_nar .byte 0 = 0 := nar_tab (d := 0) (by decide)
  rw [en0]
  have h14 : ∀ i, i < 6 → ((updR f6.1 19 (cp (fun _ => 0) (f6.1 19) 6), f6.2) : XS).1 14 i = 0 := by
    intro i hi
    rw [← hf6]
    show cp (fun _ => 0) (S5.1 14) 6 i = 0
    unfold cp
    rw [if_pos hi]
  have h19 : ∀ i, i < 6 → ((updR f6.1 19 (cp (fun _ => 0) (f6.1 19) 6), f6.2) : XS).1 19 i = 0 := by
    intro i hi
    show cp (fun _ => 0) (f6.1 19) 6 i = 0
    unfold cp
    rw [if_pos hi]
  have hb : sxB S5 T (0, none) (updR f6.1 19 (cp (fun _ => 0) (f6.1 19) 6), f6.2) := by
    refine ⟨fun r a1 a2 a3 a4 a5 => ?_, fun k a1 a2 => ?_, ?_, ?_, fun i hi => ?_, fun i hi => ?_, ?_, Or.inl ⟨rfl, ?_⟩⟩
    · show updR f6.1 19 _ r = _
      rw [updR_n a3, ← hf6]
      exact updR_n a2
    · rw [← hf6]; rfl
    · rw [← hf6]
    · rw [← hf6]
    · rw [h19 i hi]; exact fit_tab 0 (by decide)
    · rw [← hf6, ← hS5]; exact h20 i hi
    · rw [← hf6, ← hS5]; rfl
    · rw [← hf6, ← hS5]; rfl
  unfold wX0_walks
  refine x_walks hC hMt hT6 hw2 hw7 T 8 [] (0, none) _ _ (by simp) (by omega) (fun d hd => absurd hd (List.not_mem_nil)) (fun _ => by decide) hb ⟨fun i hi => ?_, fun i hi => absurd hi (Nat.not_lt_zero _), fun i hi _ => h19 i (by omega)⟩ (fun f' hb' hp' => ?_)
  · rw [h14 i (by omega), hO_up (by simp)]
  · have hq := h f' hb'
    by_cases c : (fdA aim vl (wA (bA g l far) T w set) (0, none)).1 = true
    · have c' : (fdA aim vl (wy (frP (bA g l far) (iS set)) (iS set) w T []) (0, none)).1 = true := c
      rw [c']
      exact w1 hq
    · have c' : (fdA aim vl (wy (frP (bA g l far) (iS set)) (iS set) w T []) (0, none)).1 = false := Bool.eq_false_iff.mpr c
      rw [c']
      refine w0 ?_
      have h14b : (wX o cs f').1 (o + 11) = some (.inl (cs 0, 6, .inl (f'.1 14))) := wX_arr (k := 14) (d := 1) (j := 11) (n := 6) rfl rfl rfl rfl (by decide)
      refine pJ11_fill h14b (by decide) ⟨(updR f'.1 14 (cp (fun _ => 0) (f'.1 14) 6), f'.2), wX_row (k := 14) (d := 1) (j := 11) (n := 6) rfl rfl rfl rfl (by decide), h _ ?_⟩
      exact sxB_12 hb' (xS_of (fun r _ a2 => updR_n a2) rfl)
end
