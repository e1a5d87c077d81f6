/-! WHAT IS KNOWN AT THE LAW's ENTRY (by program) -/
set_option maxRecDepth 100000
set_option maxHeartbeats 4000000
abbrev stF : List Cond := flatC (Jvm.Cond.and given_1 narrow_1)
def stIn (c : Cond) : Bool := decide (c ∈ stF)
def stT (i : Nat) : Term := match sRef[i]? with
  | some r => .string r.1 r.2.1
  | none => .string "" 0
theorem st_at {n : Nat} {f : Nat → Bool} (h : (List.range n).all f = true) (i : Nat) (hi : i < n) : f i = true := List.all_eq_true.mp h i (List.mem_range.mpr hi)
theorem st_ex : (List.range 13).all (fun i => stIn (.exactly (stT i) "java/lang/String")) = true := by decide +kernel
theorem st_co : (List.range 13).all (fun i => stIn (.eq (.field (stT i) "java/lang/String" "coder" "B") (.int 0))) = true := by decide +kernel
theorem st_ar : (List.range 13).all (fun i => stIn (.arrayOf (.field (stT i) "java/lang/String" "value" "[B") .byte)) = true := by decide +kernel
theorem st_le : (List.range 13).all (fun i => stIn (.eq (.length (.field (stT i) "java/lang/String" "value" "[B")) (.int (Int32.ofNat (sLen.getD i 0))))) = true := by decide +kernel
theorem st_el : (List.range 13).all (fun i => (List.range (sLen.getD i 0)).all (fun j => stIn (.eq (.elem (.field (stT i) "java/lang/String" "value" "[B") (.int (Int32.ofNat j))) (.int ((sByt.getD i []).getD j 0))))) = true := by decide +kernel
def stR (i : Nat) : Nat := if 8 ≤ i then i - 8 else i + 5
theorem st_ne0 : (List.range 13).all (fun j => decide (stR j ≤ stR 0) || stIn (.not (.eq (stT 0) (stT j)))) = true := by decide +kernel
theorem st_ne1 : (List.range 13).all (fun j => decide (stR j ≤ stR 1) || stIn (.not (.eq (stT 1) (stT j)))) = true := by decide +kernel
theorem st_ne2 : (List.range 13).all (fun j => decide (stR j ≤ stR 2) || stIn (.not (.eq (stT 2) (stT j)))) = true := by decide +kernel
theorem st_ne3 : (List.range 13).all (fun j => decide (stR j ≤ stR 3) || stIn (.not (.eq (stT 3) (stT j)))) = true := by decide +kernel
theorem st_ne4 : (List.range 13).all (fun j => decide (stR j ≤ stR 4) || stIn (.not (.eq (stT 4) (stT j)))) = true := by decide +kernel
theorem st_ne5 : (List.range 13).all (fun j => decide (stR j ≤ stR 5) || stIn (.not (.eq (stT 5) (stT j)))) = true := by decide +kernel
theorem st_ne6 : (List.range 13).all (fun j => decide (stR j ≤ stR 6) || stIn (.not (.eq (stT 6) (stT j)))) = true := by decide +kernel
theorem st_ne7 : (List.range 13).all (fun j => decide (stR j ≤ stR 7) || stIn (.not (.eq (stT 7) (stT j)))) = true := by decide +kernel
theorem st_ne8 : (List.range 13).all (fun j => decide (stR j ≤ stR 8) || stIn (.not (.eq (stT 8) (stT j)))) = true := by decide +kernel
theorem st_ne9 : (List.range 13).all (fun j => decide (stR j ≤ stR 9) || stIn (.not (.eq (stT 9) (stT j)))) = true := by decide +kernel
theorem st_ne10 : (List.range 13).all (fun j => decide (stR j ≤ stR 10) || stIn (.not (.eq (stT 10) (stT j)))) = true := by decide +kernel
theorem st_ne11 : (List.range 13).all (fun j => decide (stR j ≤ stR 11) || stIn (.not (.eq (stT 11) (stT j)))) = true := by decide +kernel
theorem st_ne12 : (List.range 13).all (fun j => decide (stR j ≤ stR 12) || stIn (.not (.eq (stT 12) (stT j)))) = true := by decide +kernel
theorem st_ne (i j : Nat) (hi : i < 13) (hj : j < 13) (h : stR i < stR j) : stIn (.not (.eq (stT i) (stT j))) = true := by
  have hk2 : i = 0 ∨ i = 1 ∨ i = 2 ∨ i = 3 ∨ i = 4 ∨ i = 5 ∨ i = 6 ∨ i = 7 ∨ i = 8 ∨ i = 9 ∨ i = 10 ∨ i = 11 ∨ i = 12 := by omega
  rcases hk2 with e | e | e | e | e | e | e | e | e | e | e | e | e <;> subst e
  · have q := st_at st_ne0 j hj
    simp only [Bool.or_eq_true, decide_eq_true_eq] at q
    rcases q with q | q
    · exact absurd h (Nat.not_lt.mpr q)
    · exact q
  · have q := st_at st_ne1 j hj
    simp only [Bool.or_eq_true, decide_eq_true_eq] at q
    rcases q with q | q
    · exact absurd h (Nat.not_lt.mpr q)
    · exact q
  · have q := st_at st_ne2 j hj
    simp only [Bool.or_eq_true, decide_eq_true_eq] at q
    rcases q with q | q
    · exact absurd h (Nat.not_lt.mpr q)
    · exact q
  · have q := st_at st_ne3 j hj
    simp only [Bool.or_eq_true, decide_eq_true_eq] at q
    rcases q with q | q
    · exact absurd h (Nat.not_lt.mpr q)
    · exact q
  · have q := st_at st_ne4 j hj
    simp only [Bool.or_eq_true, decide_eq_true_eq] at q
    rcases q with q | q
    · exact absurd h (Nat.not_lt.mpr q)
    · exact q
  · have q := st_at st_ne5 j hj
    simp only [Bool.or_eq_true, decide_eq_true_eq] at q
    rcases q with q | q
    · exact absurd h (Nat.not_lt.mpr q)
    · exact q
  · have q := st_at st_ne6 j hj
    simp only [Bool.or_eq_true, decide_eq_true_eq] at q
    rcases q with q | q
    · exact absurd h (Nat.not_lt.mpr q)
    · exact q
  · have q := st_at st_ne7 j hj
    simp only [Bool.or_eq_true, decide_eq_true_eq] at q
    rcases q with q | q
    · exact absurd h (Nat.not_lt.mpr q)
    · exact q
  · have q := st_at st_ne8 j hj
    simp only [Bool.or_eq_true, decide_eq_true_eq] at q
    rcases q with q | q
    · exact absurd h (Nat.not_lt.mpr q)
    · exact q
  · have q := st_at st_ne9 j hj
    simp only [Bool.or_eq_true, decide_eq_true_eq] at q
    rcases q with q | q
    · exact absurd h (Nat.not_lt.mpr q)
    · exact q
  · have q := st_at st_ne10 j hj
    simp only [Bool.or_eq_true, decide_eq_true_eq] at q
    rcases q with q | q
    · exact absurd h (Nat.not_lt.mpr q)
    · exact q
  · have q := st_at st_ne11 j hj
    simp only [Bool.or_eq_true, decide_eq_true_eq] at q
    rcases q with q | q
    · exact absurd h (Nat.not_lt.mpr q)
    · exact q
  · have q := st_at st_ne12 j hj
    simp only [Bool.or_eq_true, decide_eq_true_eq] at q
    rcases q with q | q
    · exact absurd h (Nat.not_lt.mpr q)
    · exact q
theorem st_ky : (List.range 2).all (fun j => stIn (.eq (.elem (.static "MarketDays" "KEYS" "[Ljava/lang/String;") (.int (Int32.ofNat j))) (stT j))) = true := by decide +kernel
theorem st_nm : (List.range 6).all (fun j => stIn (.eq (.elem (.static "MarketDays" "NAMES" "[Ljava/lang/String;") (.int (Int32.ofNat j))) (stT (2 + j)))) = true := by decide +kernel
theorem st_nc0 : ((ncL.drop 0).take 20).all (fun q => stIn (.not (.castable q.1 q.2))) = true := by decide +kernel
theorem st_nc20 : ((ncL.drop 20).take 20).all (fun q => stIn (.not (.castable q.1 q.2))) = true := by decide +kernel
theorem st_nc40 : ((ncL.drop 40).take 20).all (fun q => stIn (.not (.castable q.1 q.2))) = true := by decide +kernel
theorem st_nc60 : ((ncL.drop 60).take 20).all (fun q => stIn (.not (.castable q.1 q.2))) = true := by decide +kernel
theorem st_nc80 : ((ncL.drop 80).take 20).all (fun q => stIn (.not (.castable q.1 q.2))) = true := by decide +kernel
theorem st_nc100 : ((ncL.drop 100).take 20).all (fun q => stIn (.not (.castable q.1 q.2))) = true := by decide +kernel
theorem st_nc120 : ((ncL.drop 120).take 20).all (fun q => stIn (.not (.castable q.1 q.2))) = true := by decide +kernel
theorem st_nc140 : ((ncL.drop 140).take 20).all (fun q => stIn (.not (.castable q.1 q.2))) = true := by decide +kernel
theorem st_nc160 : ((ncL.drop 160).take 20).all (fun q => stIn (.not (.castable q.1 q.2))) = true := by decide +kernel
theorem st_nc180 : ((ncL.drop 180).take 20).all (fun q => stIn (.not (.castable q.1 q.2))) = true := by decide +kernel
theorem st_nc (q : String × String) (hq : q ∈ ncL) : stIn (.not (.castable q.1 q.2)) = true := by
  obtain ⟨i, hi⟩ := List.mem_iff_getElem?.mp hq
  have hl : i < 183 := (List.getElem?_eq_some_iff.mp hi).1
  have key : ∀ k, k ≤ i → i < k + 20 → ((ncL.drop k).take 20).all (fun q => stIn (.not (.castable q.1 q.2))) = true → stIn (.not (.castable q.1 q.2)) = true := fun k h1 h2 h3 => List.all_eq_true.mp h3 q (List.mem_iff_getElem?.mpr ⟨i - k, by rw [List.getElem?_take, if_pos (by omega), List.getElem?_drop, show k + (i - k) = i by omega]; exact hi⟩)
  have hc : (0 ≤ i ∧ i < 0 + 20) ∨ (20 ≤ i ∧ i < 20 + 20) ∨ (40 ≤ i ∧ i < 40 + 20) ∨ (60 ≤ i ∧ i < 60 + 20) ∨ (80 ≤ i ∧ i < 80 + 20) ∨ (100 ≤ i ∧ i < 100 + 20) ∨ (120 ≤ i ∧ i < 120 + 20) ∨ (140 ≤ i ∧ i < 140 + 20) ∨ (160 ≤ i ∧ i < 160 + 20) ∨ (180 ≤ i ∧ i < 180 + 20) := by omega
  rcases hc with h | h | h | h | h | h | h | h | h | h
  · exact key 0 h.1 h.2 st_nc0
  · exact key 20 h.1 h.2 st_nc20
  · exact key 40 h.1 h.2 st_nc40
  · exact key 60 h.1 h.2 st_nc60
  · exact key 80 h.1 h.2 st_nc80
  · exact key 100 h.1 h.2 st_nc100
  · exact key 120 h.1 h.2 st_nc120
  · exact key 140 h.1 h.2 st_nc140
  · exact key 160 h.1 h.2 st_nc160
  · exact key 180 h.1 h.2 st_nc180
theorem st_in {c : Cond} (h : stIn c = true) : c ∈ stF := of_decide_eq_true h
theorem kn_prim {s : State} {A : Array Value} {t : FieldType} (h : (Cond.arrayClass t).before A s = true) : ∃ cA : ClassId, ArrOfT s cA t ∧ s.vm.findClass ("[" ++ t.toString) = some cA := by
  obtain ⟨c, k, comp, h1, h2, h3⟩ := Cond.arrayClass_spec h
  exact ⟨c, fun n z => ⟨fun q hq => (by cases hq), k, h2, comp, h3⟩, h1⟩
theorem kn_obj {s : State} {A : Array Value} {C : String} (h : (Cond.arrayOver (.object C)).before A s = true) : ∃ cA : ClassId, ArrOfT s cA (.object C) ∧ va_RA s cA (.object C) := by
  obtain ⟨comp, c, k, h0, -, h2, h3, h1⟩ := Cond.arrayOver_spec h
  exact ⟨c, fun n z => ⟨fun q hq => (by cases hq), k, h2, comp, h3⟩, k, comp, h2, h3, h0, h1⟩
theorem kn_arr {s : State} {A : Array Value} {t : FieldType} (h : (Cond.arrayOver (.array t)).before A s = true) : ∃ cA : ClassId, ArrOfT s cA (.array t) ∧ s.vm.findClass ("[" ++ (FieldType.array t).toString) = some cA := by
  obtain ⟨comp, c, k, h0, -, h2, h3, h1⟩ := arrayOverA_spec h
  exact ⟨c, fun n z => ⟨fun q hq => (by cases hq), k, h2, comp, h3⟩, h1⟩
theorem zq_of {C n d : String} {A : Nat → Prop} {U : State} {H : Heap} (h : va_Zq C n d A U H) : ∃ x : Option Nat, va_Z C n d (va_rf x) A U H := by
  rcases h with h | ⟨t, h⟩
  · exact ⟨none, h⟩
  · exact ⟨some t, h⟩
def adOf (aK aV : Nat → Nat) (a0 a1 a2 a3 a4 : Nat) (aC : Nat → Nat) (i : Nat) : Nat := if i < 20 then aK i else if i < 40 then aV (i - 20) else if i = 40 then a0 else if i = 41 then a1 else if i = 42 then a2 else if i = 43 then a3 else if i = 44 then a4 else aC (i - 1000)
theorem nw_of {A : Array Value} {s : State} {w : Cond} (hk : nwOk w = true) (h : w.before A s = true) : va_Nw w s := by
  cases w
  all_goals first
    | exact va_tabs rfl rfl h
    | exact h
    | (unfold va_Nw; simp only [Cond.before, Cond.holds, Cond.value] at h ⊢; exact h)
    | exact absurd hk (by intro q; cases q)
theorem va_Tcong {ty : FieldType} {t N : Nat} {f g : Nat → Value} {A : Nat → Prop} {U : State} {H : Heap} (e : ∀ j : Nat, j < N → f j = g j) (h : va_T ty t N f A U H) : va_T ty t N g A U H := by
  obtain ⟨cell, h1, h2, h3, h4, h5, h6, h7⟩ := h
  exact ⟨cell, h1, h2, h3, h4, h5, fun j hj => (h6 j hj).trans (congrArg some (e j hj)), h7⟩
/-- what is known at the law's entry -/
theorem law_known {p : Program} {s : State} {m : MethodId} {meth : Method} {c : Code} {sc L : Nat} {xs : Nat → Int32} (C0 : lw_At p s m meth c sc L xs) : ∃ (D : va_G) (cs ad : Nat → Nat) (vs : Nat → Option Nat), kK D clC (tysC cs) (XKd s.heap.size s.heap ad vs) s := by
  obtain ⟨-, -, -, -, -, hts, -, -, -, hgv⟩ := C0
  have hs := flat_of_before _ hgv
  have hA : ∀ a : Nat, a < s.heap.size → ¬ s.heap.size ≤ a := fun a h => Nat.not_le.mpr h
  obtain ⟨c0, i0, k0⟩ := u_known (C := RX7) (T := TX7) (N := 56) (n := 56) hts (fun w h => lw_all_tbl (in_X7 w h)) (hts _ (lw_all_tbl q1426))
  obtain ⟨c1, i1, k1⟩ := u_known (C := RX0) (T := TX0) (N := 43) (n := 43) hts (fun w h => lw_all_tbl (in_X0 w h)) (hts _ (lw_all_tbl q121))
  obtain ⟨c2, i2, k2⟩ := u_known (C := RX1) (T := TX1) (N := 3) (n := 3) hts (fun w h => lw_all_tbl (in_X1 w h)) (hts _ (lw_all_tbl q159))
  obtain ⟨c3, i3, k3⟩ := u_known (C := RX8) (T := TX8) (N := 3) (n := 3) hts (fun w h => lw_all_tbl (in_X8 w h)) (hts _ (lw_all_tbl q910))
  obtain ⟨c4, i4, k4⟩ := u_known (C := RX9) (T := TX9) (N := 3) (n := 3) hts (fun w h => lw_all_tbl (in_X9 w h)) (hts _ (lw_all_tbl q933))
  obtain ⟨c5, i5, k5⟩ := u_known (C := RX10) (T := TX10) (N := 3) (n := 3) hts (fun w h => lw_all_tbl (in_X10 w h)) (hts _ (lw_all_tbl q943))
  obtain ⟨c6, i6, k6⟩ := u_known (C := RX11) (T := TX11) (N := 3) (n := 3) hts (fun w h => lw_all_tbl (in_X11 w h)) (hts _ (lw_all_tbl q953))
  obtain ⟨c7, i7, k7⟩ := u_known (C := RX12) (T := TX12) (N := 3) (n := 3) hts (fun w h => lw_all_tbl (in_X12 w h)) (hts _ (lw_all_tbl q963))
  obtain ⟨c8, i8, k8⟩ := u_known (C := RX13) (T := TX13) (N := 3) (n := 3) hts (fun w h => lw_all_tbl (in_X13 w h)) (hts _ (lw_all_tbl q973))
  obtain ⟨c9, i9, k9⟩ := u_known (C := RX4) (T := TX4) (N := 2) (n := 2) hts (fun w h => lw_all_tbl (in_X4 w h)) (hts _ (lw_all_tbl q605))
  obtain ⟨c10, i10, k10⟩ := u_known (C := RX5) (T := TX5) (N := 2) (n := 2) hts (fun w h => lw_all_tbl (in_X5 w h)) (hts _ (lw_all_tbl q630))
  obtain ⟨c11, i11, k11⟩ := u_known (C := RX6) (T := TX6) (N := 3) (n := 3) hts (fun w h => lw_all_tbl (in_X6 w h)) (hts _ (lw_all_tbl q649))
  obtain ⟨c12, i12, k12⟩ := u_known (C := RX2) (T := TX2) (N := 8) (n := 8) hts (fun w h => lw_all_tbl (in_X2 w h)) (hts _ (lw_all_tbl q231))
  obtain ⟨c13, i13, k13⟩ := u_known (C := RX3) (T := TX3) (N := 7) (n := 7) hts (fun w h => lw_all_tbl (in_X3 w h)) (hts _ (lw_all_tbl q451))
  obtain ⟨c14, i14, k14⟩ := u_known (C := RX14) (T := TX14) (N := 7) (n := 7) hts (fun w h => lw_all_tbl (in_X14 w h)) (hts _ (lw_all_tbl q1336))
  obtain ⟨c15, i15, k15⟩ := u_known (C := RX15) (T := TX15) (N := 1) (n := 1) hts (fun w h => lw_all_tbl (in_X15 w h)) (hts _ (lw_all_tbl q1377))
  obtain ⟨c16, i16, k16⟩ := u_known (C := RJ2) (T := TJ2) (N := 3) (n := 3) hts (fun w h => lw_all_tbl (in_J2 w h)) (hts _ (lw_all_tbl q129))
  obtain ⟨c17, i17, k17⟩ := u_known (C := RJ3) (T := TJ3) (N := 4) (n := 4) hts (fun w h => lw_all_tbl (in_J3 w h)) (hts _ (lw_all_tbl q399))
  obtain ⟨c18, i18, k18⟩ := u_known (C := RJ8) (T := TJ8) (N := 4) (n := 4) hts (fun w h => lw_all_tbl (in_J8 w h)) (hts _ (lw_all_tbl q283))
  obtain ⟨t0, p0, r0⟩ := kn_prim (hts _ (lw_all_tbl q154))
  obtain ⟨t1, p1, r1⟩ := kn_prim (hts _ (lw_all_tbl q177))
  obtain ⟨t2, p2, r2⟩ := kn_prim (hts _ (lw_all_tbl q1620))
  obtain ⟨t3, p3, r3⟩ := kn_prim (hts _ (lw_all_tbl q1619))
  obtain ⟨t4, p4, r4⟩ := kn_obj (hts _ q1042)
  obtain ⟨t5, p5, r5⟩ := kn_obj (hts _ q268)
  obtain ⟨t7, p7, r7⟩ := kn_obj (hts _ q158)
  obtain ⟨t6, p6, r6⟩ := kn_arr (hts _ q156)
  obtain ⟨aK, aV, hSt, hKe⟩ := vk_Sof (args := #[Value.ref sc]) (s := s) (N := 13) (tm := stT) (len := sLen) (byt := sByt) (A := fun q => s.heap.size ≤ q) (by decide) (fun i hi => hs _ (st_in (st_at st_ex i hi))) (fun i hi => hs _ (st_in (st_at st_co i hi))) (fun i hi => hs _ (st_in (st_at st_ar i hi))) (fun i hi => hs _ (st_in (st_at st_le i hi))) (fun i hi j hj => hs _ (st_in (st_at (st_at st_el i hi) j hj)))
    (fun i j hi hj hij => by
      have e : stR i ≠ stR j := fun q => hij (by
        unfold stR at q
        by_cases h1 : 8 ≤ i
        · by_cases h2 : 8 ≤ j
          · rw [if_pos h1, if_pos h2] at q; omega
          · rw [if_pos h1, if_neg h2] at q; omega
        · by_cases h2 : 8 ≤ j
          · rw [if_neg h1, if_pos h2] at q; omega
          · rw [if_neg h1, if_neg h2] at q; omega)
      rcases Nat.lt_or_gt_of_ne e with q | q
      · exact Or.inl (hs _ (st_in (st_ne i j hi hj q)))
      · exact Or.inr (hs _ (st_in (st_ne j i hj hi q)))) hA
  obtain ⟨aC, hC, hCe⟩ := vb_Cof (args := #[Value.ref sc]) (s := s) (A := fun q => s.heap.size ≤ q) (st := (.static "java/lang/Integer$IntegerCache" "cache" "[Ljava/lang/Integer;")) rfl (va_eqt (hs _ (by decide +kernel))) (hs _ (by decide +kernel)) hA
  obtain ⟨a0, e0, h0⟩ := va_Tof (args := #[Value.ref sc]) (s := s) (A := fun q => s.heap.size ≤ q) (tm := (.static "MarketDays" "KEYS" "[Ljava/lang/String;")) (ty := .object "java/lang/String") (N := 2) (f := fun j => .ref (aK j)) (by decide) (hs _ (by decide +kernel)) (va_eqt (hs _ (by decide +kernel))) (fun j hj => va_eqv (hs _ (st_in (st_at st_ky j hj))) (hKe j (by omega))) hA
  obtain ⟨a1, e1, h1⟩ := va_Tof (args := #[Value.ref sc]) (s := s) (A := fun q => s.heap.size ≤ q) (tm := (.static "MarketDays" "NAMES" "[Ljava/lang/String;")) (ty := .object "java/lang/String") (N := 6) (f := fun j => .ref (aK (2 + j))) (by decide) (hs _ (by decide +kernel)) (va_eqt (hs _ (by decide +kernel))) (fun j hj => va_eqv (hs _ (st_in (st_at st_nm j hj))) (hKe (2 + j) (by omega))) hA
  obtain ⟨a2, e2, h2⟩ := va_Tof (args := #[Value.ref sc]) (s := s) (A := fun q => s.heap.size ≤ q) (tm := (.static "java/util/ArrayList" "DEFAULTCAPACITY_EMPTY_ELEMENTDATA" "[Ljava/lang/Object;")) (ty := .object "java/lang/Object") (N := 0) (f := fun _ => .null) (by decide) (hs _ (by decide +kernel)) (va_eqt (hs _ (by decide +kernel))) (fun j hj => absurd hj (by omega)) hA
  obtain ⟨a3, e3, h3⟩ := va_Tof (args := #[Value.ref sc]) (s := s) (A := fun q => s.heap.size ≤ q) (tm := (.static "java/lang/Integer$IntegerCache" "cache" "[Ljava/lang/Integer;")) (ty := .object "java/lang/Integer") (N := 256) (f := fun j => .ref (aC j)) (by decide) (hs _ (by decide +kernel)) (va_eqt (hs _ (by decide +kernel))) (fun j hj => hCe j hj) hA
  obtain ⟨a4, h4⟩ := va_Mi.of (args := #[Value.ref sc]) (s := s) (C := "[Ljava/lang/Object;") (hs _ (by decide +kernel))
  obtain ⟨v0, z0⟩ := zq_of (va_Zqof (args := #[Value.ref sc]) (s := s) (A := fun q => s.heap.size ≤ q) (C := "java/lang/Throwable") (n := "UNASSIGNED_STACK") (d := "[Ljava/lang/StackTraceElement;") (hts _ q477) (hts _ (lw_all_tbl q99)) (hs _ (by decide +kernel)) hA)
  obtain ⟨v1, z1⟩ := zq_of (va_Zqof (args := #[Value.ref sc]) (s := s) (A := fun q => s.heap.size ≤ q) (C := "java/lang/Throwable") (n := "SUPPRESSED_SENTINEL") (d := "Ljava/util/List;") (hts _ q479) (hts _ (lw_all_tbl q99)) (hs _ (by decide +kernel)) hA)
  obtain ⟨v2, z2⟩ := zq_of (va_Zqof (args := #[Value.ref sc]) (s := s) (A := fun q => s.heap.size ≤ q) (C := "jdk/internal/util/Preconditions") (n := "SIOOBE_FORMATTER") (d := "Ljava/util/function/BiFunction;") (hts _ q207) (hts _ (lw_all_tbl q90)) (hs _ (by decide +kernel)) hA)
  have eK : ∀ i, i < 13 → adOf aK aV a0 a1 a2 a3 a4 aC i = aK i := fun i hi => by unfold adOf; rw [if_pos (by omega)]
  have eC : ∀ k, adOf aK aV a0 a1 a2 a3 a4 aC (1000 + k) = aC k := fun k => by
    unfold adOf
    rw [if_neg (by omega), if_neg (by omega), if_neg (by omega), if_neg (by omega), if_neg (by omega), if_neg (by omega), if_neg (by omega), show 1000 + k - 1000 = k by omega]
  have eC2 : aC = fun k => adOf aK aV a0 a1 a2 a3 a4 aC (1000 + k) := funext fun k => (eC k).symm
  refine ⟨(fun k => match k with | 0 => c0 | 1 => c1 | 2 => c2 | 3 => c3 | 4 => c4 | 5 => c5 | 6 => c6 | 7 => c7 | 8 => c8 | 9 => c9 | 10 => c10 | 11 => c11 | 12 => c12 | 13 => c13 | 14 => c14 | 15 => c15 | 16 => c16 | 17 => c17 | _ => c18, fun k => match k with | 0 => i0 | 1 => i1 | 2 => i2 | 3 => i3 | 4 => i4 | 5 => i5 | 6 => i6 | 7 => i7 | 8 => i8 | 9 => i9 | 10 => i10 | 11 => i11 | 12 => i12 | 13 => i13 | 14 => i14 | 15 => i15 | 16 => i16 | 17 => i17 | _ => i18), (fun k => match k with | 0 => t0 | 1 => t1 | 2 => t2 | 3 => t3 | 4 => t4 | 5 => t5 | 6 => t6 | _ => t7), adOf aK aV a0 a1 a2 a3 a4 aC, (fun k => match k with | 0 => v0 | 1 => v1 | _ => v2), ⟨?_, ?_⟩, ?_, XKd.warm⟩
  · intro k q hq
    have hk : k < 19 := (List.getElem?_eq_some_iff.mp hq).1
    have hk2 : k = 0 ∨ k = 1 ∨ k = 2 ∨ k = 3 ∨ k = 4 ∨ k = 5 ∨ k = 6 ∨ k = 7 ∨ k = 8 ∨ k = 9 ∨ k = 10 ∨ k = 11 ∨ k = 12 ∨ k = 13 ∨ k = 14 ∨ k = 15 ∨ k = 16 ∨ k = 17 ∨ k = 18 := by omega
    rcases hk2 with h | h | h | h | h | h | h | h | h | h | h | h | h | h | h | h | h | h | h <;> subst h <;> (obtain rfl := (Option.some.inj hq).symm)
    · exact k0
    · exact k1
    · exact k2
    · exact k3
    · exact k4
    · exact k5
    · exact k6
    · exact k7
    · exact k8
    · exact k9
    · exact k10
    · exact k11
    · exact k12
    · exact k13
    · exact k14
    · exact k15
    · exact k16
    · exact k17
    · exact k18
  · intro k q hq
    have hk : k < 8 := (List.getElem?_eq_some_iff.mp hq).1
    have hk2 : k = 0 ∨ k = 1 ∨ k = 2 ∨ k = 3 ∨ k = 4 ∨ k = 5 ∨ k = 6 ∨ k = 7 := by omega
    rcases hk2 with h | h | h | h | h | h | h | h <;> subst h <;> (obtain rfl := (Option.some.inj hq).symm)
    · exact ⟨p0, r0⟩
    · exact ⟨p1, r1⟩
    · exact ⟨p2, r2⟩
    · exact ⟨p3, r3⟩
    · exact ⟨p4, r4⟩
    · exact ⟨p5, r5⟩
    · exact ⟨p6, r6⟩
    · exact ⟨p7, r7⟩
  · refine ⟨fun w hw hk => nw_of hk (hts w hw), ⟨va_Fw.of (hts _ q856) (hts _ q855) (hts _ q861) (hts _ q859) (hts _ q857), va_Fw.of (hts _ q856) (hts _ q855) (hts _ q867) (hts _ q865) (hts _ q863), va_Fw.of (hts _ q856) (hts _ q855) (hts _ q875) (hts _ q873) (hts _ q871)⟩, fun q hq => va_Nc.of (hs _ (st_in (st_nc q hq))), ?_, ?_, ?_, ?_, ?_⟩
    · refine ⟨fun i hi => ?_, fun i j hi hj e => ?_⟩
      · have e1 : adOf aK aV a0 a1 a2 a3 a4 aC i = aK i := by unfold adOf; rw [if_pos (by omega)]
        have e2 : adOf aK aV a0 a1 a2 a3 a4 aC (20 + i) = aV i := by unfold adOf; rw [if_neg (by omega), if_pos (by omega), show 20 + i - 20 = i by omega]
        have h := hSt.1 i hi
        show va_O _ (adOf aK aV a0 a1 a2 a3 a4 aC i) _ _ _ ∧ va_OF _ _ _ _ (adOf aK aV a0 a1 a2 a3 a4 aC i) _ _ _ ∧ va_OF _ _ _ (.ref (adOf aK aV a0 a1 a2 a3 a4 aC (20 + i))) (adOf aK aV a0 a1 a2 a3 a4 aC i) _ _ _ ∧ va_T _ (adOf aK aV a0 a1 a2 a3 a4 aC (20 + i)) _ _ _ _ _
        rw [e1, e2]
        exact h
      · have e1 : ∀ i, i < 13 → adOf aK aV a0 a1 a2 a3 a4 aC i = aK i := fun i hi => by unfold adOf; rw [if_pos (by omega)]
        refine hSt.2 i j hi hj ?_
        rw [← e1 i hi, ← e1 j hj]
        exact e
    · intro i r hr
      have hi : i < 13 := (List.getElem?_eq_some_iff.mp hr).1
      have e1 : adOf aK aV a0 a1 a2 a3 a4 aC i = aK i := by unfold adOf; rw [if_pos (by omega)]
      rw [e1]
      have he := hKe i hi
      have hT : stT i = .string r.1 r.2.1 := by unfold stT; rw [hr]
      rw [hT] at he
      refine vk_R.of (A := #[Value.ref sc]) ?_ he
      have hk2 : i = 0 ∨ i = 1 ∨ i = 2 ∨ i = 3 ∨ i = 4 ∨ i = 5 ∨ i = 6 ∨ i = 7 ∨ i = 8 ∨ i = 9 ∨ i = 10 ∨ i = 11 ∨ i = 12 := by omega
      rcases hk2 with h | h | h | h | h | h | h | h | h | h | h | h | h <;> subst h <;> (obtain rfl := (Option.some.inj hr).symm)
      · exact hts _ q1988
      · exact hts _ q1989
      · exact hts _ q1991
      · exact hts _ q1992
      · exact hts _ q1993
      · exact hts _ q1994
      · exact hts _ q1995
      · exact hts _ q1996
      · exact hts _ q178
      · exact hts _ q519
      · exact hts _ q599
      · exact hts _ q664
      · exact hts _ q665
    · exact ⟨va_Zof (hts _ q191) (hts _ (lw_all_tbl q88)) (va_eqi (hs _ (by decide +kernel))) hA, va_Zof (hts _ q266) (hts _ (lw_all_tbl q83)) e0 hA, va_Zof (hts _ q643) (hts _ (lw_all_tbl q83)) e1 hA, va_Zof (hts _ q141) (hts _ (lw_all_tbl q86)) e2 hA, va_Zof (hts _ q1382) (hts _ (lw_all_tbl q119)) (va_eqi (hs _ (by decide +kernel))) hA, va_Zof (hts _ q1384) (hts _ (lw_all_tbl q119)) e3 hA, z0, z1, z2⟩
    · exact ⟨va_Tcong (fun j hj => by rw [eK j (by omega)]) h0, va_Tcong (fun j hj => by rw [eK (2 + j) (by omega)]) h1, h2, va_Tcong (fun j hj => by rw [eC]) h3⟩
    · exact ⟨eC2 ▸ hC, h4, va_tabs rfl rfl (selects_priv (n := 4) (by decide) (hts _ (lw_all_tbl q283)) (hts _ q327) (hts _ (lw_all_tbl q328)) (by decide) (hts _ (lw_all_tbl q364)) (hts _ (lw_all_tbl q362)))⟩
/-- the world at the law's entry: nothing is known -/
def w00 (b : Nat) : cW := (fun _ => none, b, 0)
/-- THE WHOLE CLAIM, PLAIN: for each place b where new cells begin, each script, each way the old heap may lie -/
def PlainLaw : Prop := ∀ (b : Nat) (cs ad : Nat → Nat) (vs : Nat → Option Nat) (sc L : Nat) (xs : Nat → Int32), L ≤ 384 → (∀ i, i < 33 → (i < 13 ∨ 20 ≤ i) → ad i < b) → ad 40 < b → ad 41 < b → ad 42 < b → ad 43 < b → (∀ k, k < 256 → ad (1000 + k) < b) → wL_law b cs ad vs sc L xs (w00 b) (fun _ _ => True)
theorem whole_of (HP : PlainLaw) {p : Program} {e : Env} {s : State} {m : MethodId} {below : List Frame} {meth : Method} {c : Code} (l : Launch) {b L : Nat} {xs : Nat → Int32} (hL : L ≤ 384) (C0 : lw_At p s m meth c b L xs) : W p l e room_1 s m #[Value.ref b] below meth c s.heap [] 0 0 (lw_Z below #[Value.ref b] s) (entryFrame m ([Value.ref b] : List Value).toArray 4) := by
  obtain ⟨D, cs, ad, vs, hK⟩ := law_known C0
  have C1 := C0
  obtain ⟨hx, hb, hr, hml, hown, hts, hX, hbl, hlk, -⟩ := C1
  have hu : us s.heap.size s.heap = 0 := by
    rw [us, List.drop_of_length_le (by simp)]
    rfl
  have XK := hK.2.1
  have hlt : ∀ a : Nat, ¬ s.heap.size ≤ a → a < s.heap.size := fun a h => Nat.not_le.mp h
  have h := HP s.heap.size cs ad vs b L xs hL (fun i hi hi2 => by
    by_cases h13 : i < 13
    · obtain ⟨_, _, _, _, h4⟩ := (xk_s i h13 XK).1
      exact hlt _ h4
    · obtain ⟨_, _, _, _, _, _, _, h4⟩ := (xk_s (i - 20) (by omega) XK).2.2.2
      have e : 20 + (i - 20) = i := by omega
      rw [e] at h4
      exact hlt _ h4) (by obtain ⟨_, _, _, _, _, _, _, h4⟩ := xk_keysT XK; exact hlt _ h4) (by obtain ⟨_, _, _, _, _, _, _, h4⟩ := xk_namesT XK; exact hlt _ h4) (by obtain ⟨_, _, _, _, _, _, _, h4⟩ := xk_emptyT XK; exact hlt _ h4) (by obtain ⟨_, _, _, _, _, _, _, h4⟩ := xk_cacheT XK; exact hlt _ h4) (fun k hk => by obtain ⟨_, _, _, _, h4⟩ := (xk_C XK).1 k hk; exact hlt _ h4)
  have E : EX p room_1 s m #[Value.ref b] meth c cL_law 4 "MarketDaysLaw" ret D cs s.heap.size s.heap (XKd s.heap.size s.heap ad vs) (c.exceptionTable.toList.map fun h => (h.startPc, h.endPc, h.handlerPc, h.catchType)) 215 8495 s.heap.size 0 :=
    ⟨⟨⟨hx, hb, hml, hown, fun w hw => hts w (lw_all_tbl hw)⟩, hK, hr, hlk, fun q _ => rfl, Nat.le_refl _, by show 601024 = s.heap.size + cB - s.heap.size; unfold cB; omega, by show 7293034 = sB - us s.heap.size s.heap; rw [hu]; rfl, by decide, by decide, (table_eq _).symm⟩, rfl, hu⟩
  have K := kL_law (l := l) (e := e) (below := below) E rfl hX hbl h s.heap [] _ ⟨rfl, hu, ⟨Nat.le_refl _, Nat.le_add_right _ _, Nat.zero_le _⟩, fun a x hx => by cases hx⟩ va_S.rf (lv_entry [Value.ref b] (n := 4) (Nat.le_of_ble_eq_true rfl))
  rw [lg_entry_eq]
  have hz : s.heap.size - s.heap.size = 0 := Nat.sub_self _
  have hu0 : usd s s.heap = 0 := hu
  rw [hz, hu0] at K
  exact K
