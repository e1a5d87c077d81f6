/-! PLAIN LAYER: the reference's moves, a token each -/
set_option maxRecDepth 100000
def d19 (H : List Nat) : List Nat := H.dropWhile (fun s => s == 19)
def t19 (H : List Nat) : List Nat := H.takeWhile (fun s => s == 19)
theorem td19 {H : List Nat} : t19 H ++ d19 H = H := List.takeWhile_append_dropWhile
theorem t19_all {H : List Nat} : ∀ s ∈ t19 H, s = 19 := by
  intro s hs
  unfold t19 at hs
  have := List.all_takeWhile (p := fun s => s == 19) (l := H)
  have h2 := List.all_eq_true.mp this s hs
  simpa using h2
theorem d19_hd {H : List Nat} : ∀ s, (d19 H).head? = some s → s ≠ 19 := by
  intro s hs
  unfold d19 at hs
  have := List.head?_dropWhile_not (fun s => s == 19) H
  rw [hs] at this
  simpa using this
theorem rk7 {s : Nat} (hs : sgn s) : 7 ≤ rkN s ↔ s = 19 := by
  have : s = 0 ∨ s = 11 ∨ s = 12 ∨ s = 13 ∨ s = 14 ∨ s = 15 ∨ s = 16 ∨ s = 17 ∨ s = 18 ∨ s = 19 := by unfold sgn at hs; omega
  rcases this with q | q | q | q | q | q | q | q | q | q <;> subst q <;> decide
section
variable {B : Nat → Nat} {n : Nat} {g0 g : St} {X : Nat} {O H : List Nat} {Q : Int32 → St → Prop}
/-- where the reader fails -/
def FC (B : Nat → Nat) (n : Nat) (g0 : St) (X : Nat) (Q : Int32 → St → Prop) (j : Nat) : Prop := ∀ g', (∃ O H, MH g0 X g' O H) → g' 99 41 = Int32.ofNat (bg B n j) → Q 0 g'
theorem e_step {i : Nat} {x1 x2 : Int32} (ht : tpR g0 B n) (h : WS B n g0 X g i O H)
    (hq : ∀ g' K, TS B n g0 X g' i O H → (kd B n i ≠ 0 → ∀ y1 y2 f', ER B n Q (i + 1) y1 y2 f' → K y1 y2 f') →
      ((x1 = (0 : Int32) → ((¬ (g' 99 42) = (59 : Int32) → ((¬ (g' 99 42) = (41 : Int32) → (wX7_signOf g' (fun r_5 f_4 => ((r_5 = (-1 : Int32) → Q (0 : Int32) f_4) ∧ (¬ r_5 = (-1 : Int32) → (wX7_between f_4 r_5 (fun r_7 f_6 => ((¬ r_7 = (0 : Int32) → (((12 : Int32) < r_5 → K (1 : Int32) (0 : Int32) f_6) ∧ (¬ (12 : Int32) < r_5 → K (1 : Int32) (1 : Int32) f_6))) ∧ (r_7 = (0 : Int32) → Q (0 : Int32) f_6))))))))) ∧ ((g' 99 42) = (41 : Int32) → (wX7_unwinds g' (1 : Int32) (fun f_8 => ((¬ (f_8 99 46) = (0 : Int32) → (∀ f_9 : St, f_9 = upd2 f_8 99 46 ((f_8 99 46) - (1 : Int32)) → (∀ f_10 : St, f_10 = upd2 f_9 99 47 ((f_9 99 47) - (1 : Int32)) → (wX7_unwinds f_10 (7 : Int32) (fun f_11 => K x1 x2 f_11))))) ∧ ((f_8 99 46) = (0 : Int32) → Q (0 : Int32) f_8))))))) ∧ ((g' 99 42) = (59 : Int32) → (wX7_unwinds g' (1 : Int32) (fun f_20 => ((¬ (f_20 99 46) = (0 : Int32) → Q (0 : Int32) f_20) ∧ ((f_20 99 46) = (0 : Int32) → Q (1 : Int32) f_20))))))) ∧ (¬ x1 = (0 : Int32) → (((g' 99 42) = (1 : Int32) → wbX7_eRead_38 K (fun _ => True) Q x2 g') ∧ (¬ (g' 99 42) = (1 : Int32) → ((¬ (g' 99 42) = (2 : Int32) → ((¬ (g' 99 42) = (6 : Int32) → wbX7_eRead_99 K (fun _ => True) Q x1 g') ∧ ((g' 99 42) = (6 : Int32) → ((x2 = (0 : Int32) → wbX7_eRead_99 K (fun _ => True) Q x1 g') ∧ (¬ x2 = (0 : Int32) → (wX7_opensOne g' (13 : Int32) (fun r_19 f_18 => ((¬ r_19 = (0 : Int32) → K x1 x2 f_18) ∧ (r_19 = (0 : Int32) → Q (0 : Int32) f_18))))))))) ∧ ((g' 99 42) = (2 : Int32) → wbX7_eRead_38 K (fun _ => True) Q x2 g'))))))) : ER B n Q i x1 x2 g := by
  intro N hN
  have hp := ps_le (B := B) (n := n) i
  cases N with
  | zero => omega
  | succ N =>
    show wbX7_eRead_14 _ _ Q x1 x2 g
    unfold wbX7_eRead_14
    refine m_tokS ht h (fun g' hg' => ?_)
    refine hq g' _ hg' (fun hne y1 y2 f' hE => hE N ?_)
    have := ps_lt hne
    omega
theorem TS_MH {i : Nat} (h : TS B n g0 X g i O H) : MH g0 X g O H := h.1
theorem TS_len {i : Nat} (h : TS B n g0 X g i O H) (ht : tpR g0 B n) (hk : kd B n i ≠ 0) : O.length + H.length + 1 ≤ ps B n (i + 1) ∧ ps B n (i + 1) ≤ 160 := by
  have h1 := ps_lt hk
  have h2 := ps_le (B := B) (n := n) (i + 1)
  have h3 := h.2.2.1
  have h4 := ht.1
  omega
/-- in the state 'wants': what can't stand there -/
theorem w_bad {i : Nat} {mn : Int32} (ht : tpR g0 B n) (h : WS B n g0 X g i O H) (h1 : kd B n i ≠ 1) (h2 : kd B n i ≠ 2) (h6 : kd B n i = 6 → mn = 0) (h45 : kd B n i ≠ 45) (h40 : kd B n i ≠ 40) (hF : FC B n g0 X Q i) : ER B n Q i 1 mn g := by
  refine e_step ht h (fun g' K hg' hK => ⟨fun q => absurd q (by decide), fun _ => ?_⟩)
  have hk := kd_256 (B := B) (n := n) (i := i) ht.2.1
  obtain ⟨hM, t40, tl, t41, t42, t43⟩ := hg'
  have e : ∀ x, x < 256 → x ≠ 7 → x ≠ 8 → ((g' 99 42 = Int32.ofNat x) ↔ kd B n i = x) := fun x hx a1 a2 => by rw [t42]; exact tk_eq hk hx a1 a2
  have hq0 : Q 0 g' := hF g' ⟨O, H, hM⟩ t41
  have h99 : wbX7_eRead_99 K (fun _ => True) Q 1 g' := by
    unfold wbX7_eRead_99
    exact ⟨fun _ => ⟨fun _ => hq0, fun q => absurd ((e 40 (by decide) (by decide) (by decide)).mp q) h40⟩, fun q => absurd ((e 45 (by decide) (by decide) (by decide)).mp q) h45⟩
  refine ⟨fun q => absurd ((e 1 (by decide) (by decide) (by decide)).mp q) h1, fun _ => ⟨fun _ => ⟨fun _ => h99, fun q => ⟨fun _ => h99, fun q0 => ?_⟩⟩, fun q => absurd ((e 2 (by decide) (by decide) (by decide)).mp q) h2⟩⟩
  exact absurd (h6 ((e 6 (by decide) (by decide) (by decide)).mp q)) q0
/-- a leaf -/
theorem w_leaf {i c : Nat} {mn : Int32} (ht : tpR g0 B n) (h : WS B n g0 X g i O H) (hc : lfC (kd B n i) (vl B n i) = some c) (hn : ∀ g', WS B n g0 X g' (i + 1) (O ++ (c :: t19 H)) (d19 H) → ER B n Q (i + 1) 0 mn g') : ER B n Q i 1 mn g := by
  refine e_step ht h (fun g' K hg' hK => ⟨fun q => absurd q (by decide), fun _ => ?_⟩)
  have hk := kd_256 (B := B) (n := n) (i := i) ht.2.1
  have hkd : kd B n i = 1 ∧ c = 100000 + vl B n i ∨ kd B n i = 2 ∧ c = vl B n i := by
    unfold lfC at hc
    by_cases c1 : kd B n i = 1
    · rw [if_pos c1] at hc
      exact Or.inl ⟨c1, (Option.some.inj hc).symm⟩
    · rw [if_neg c1] at hc
      by_cases c2 : kd B n i = 2
      · rw [if_pos c2] at hc
        exact Or.inr ⟨c2, (Option.some.inj hc).symm⟩
      · rw [if_neg c2] at hc
        cases hc
  have hne : kd B n i ≠ 0 := by omega
  have hlen := TS_len hg' ht hne
  obtain ⟨hM, t40, tl, t41, t42, t43⟩ := hg'
  have e : ∀ x, x < 256 → x ≠ 7 → x ≠ 8 → ((g' 99 42 = Int32.ofNat x) ↔ kd B n i = x) := fun x hx a1 a2 => by rw [t42]; exact tk_eq hk hx a1 a2
  have h61 : wbX7_eRead_61 K (fun _ => True) Q mn (Int32.ofNat c) g' := by
    unfold wbX7_eRead_61
    refine m_puts hM (by omega) (fun g1 hg1 hs1 => ?_)
    have hsg := hg1.2.2.2.2.1
    have hg1' : MH g0 X g1 (O ++ [c]) (t19 H ++ d19 H) := by rw [td19]; exact hg1
    refine m_unw hg1' (by decide) (by decide) (fun s hs => ?_) (fun s hs => ?_) (fun g2 hg2 hs2 => hK hne _ _ _ (hn g2 ⟨?_, ?_, ?_⟩))
    · rw [t19_all s hs]; decide
    · have h1 := d19_hd s hs
      have h2 : sgn s := by
        refine hsg s ?_
        rw [← td19 (H := H)]
        exact List.mem_append_right _ (List.mem_of_mem_head? hs)
      have h3 := rk7 h2
      have : ¬ 7 ≤ rkN s := fun z => h1 (h3.mp z)
      exact Nat.lt_of_not_le this
    · rw [List.append_assoc] at hg2
      exact hg2
    · rw [hs2.1, hs1.1]; exact t40
    · have := congrArg List.length (td19 (H := H))
      rw [List.length_append] at this
      rw [List.length_append, List.length_cons]
      omega
  have h38 : wbX7_eRead_38 K (fun _ => True) Q mn g' := by
    unfold wbX7_eRead_38
    refine ⟨fun q => ?_, fun q => ?_⟩
    · rcases hkd with ⟨k1, k2⟩ | ⟨k1, k2⟩
      · exact absurd ((e 1 (by decide) (by decide) (by decide)).mpr k1) q
      · rw [t43 (by omega), ← k2]
        exact h61
    · have k0 := (e 1 (by decide) (by decide) (by decide)).mp q
      rcases hkd with ⟨k1, k2⟩ | ⟨k1, k2⟩
      · rw [t43 (by omega), show (100000 : Int32) = Int32.ofNat 100000 from rfl, n_add, ← k2]
        exact h61
      · omega
  refine ⟨fun _ => h38, fun q1 => ⟨fun q2 => ?_, fun _ => h38⟩⟩
  exfalso
  rcases hkd with ⟨k1, k2⟩ | ⟨k1, k2⟩
  · exact q1 ((e 1 (by decide) (by decide) (by decide)).mpr k1)
  · exact q2 ((e 2 (by decide) (by decide) (by decide)).mpr k1)
/-- a sign that opens: - ( not -/
theorem w_open {i s : Nat} {mn mn2 : Int32} (ht : tpR g0 B n) (h : WS B n g0 X g i O H) (hs : kd B n i = 45 ∧ s = 19 ∧ mn2 = 0 ∨ kd B n i = 40 ∧ s = 0 ∧ mn2 = 1 ∨ kd B n i = 6 ∧ s = 13 ∧ mn2 = mn ∧ ¬ mn = 0) (h5 : cO H = 5 → FC B n g0 X Q i) (hn : cO H ≠ 5 → ∀ g', WS B n g0 X g' (i + 1) O (s :: H) → ER B n Q (i + 1) 1 mn2 g') : ER B n Q i 1 mn g := by
  refine e_step ht h (fun g' K hg' hK => ⟨fun q => absurd q (by decide), fun _ => ?_⟩)
  have hk := kd_256 (B := B) (n := n) (i := i) ht.2.1
  have hne : kd B n i ≠ 0 := by rcases hs with ⟨a, -⟩ | ⟨a, -⟩ | ⟨a, -⟩ <;> omega
  have hlen := TS_len hg' ht hne
  obtain ⟨hM, t40, tl, t41, t42, t43⟩ := hg'
  have e : ∀ x, x < 256 → x ≠ 7 → x ≠ 8 → ((g' 99 42 = Int32.ofNat x) ↔ kd B n i = x) := fun x hx a1 a2 => by rw [t42]; exact tk_eq hk hx a1 a2
  have e1 := e 1 (by decide) (by decide) (by decide)
  have e2 := e 2 (by decide) (by decide) (by decide)
  have e6 := e 6 (by decide) (by decide) (by decide)
  have e45 := e 45 (by decide) (by decide) (by decide)
  have e40 := e 40 (by decide) (by decide) (by decide)
  have hgo : ∀ {s' : Nat}, s' = s → sgn s' → isO s' = true → wX7_opensOne g' (Int32.ofNat s') (fun r f => (¬ r = (0 : Int32) → K 1 mn2 f) ∧ (r = (0 : Int32) → Q 0 f)) := by
    intro s' es hs1 hs2
    subst es
    refine m_open hM hs1 hs2 (by omega) (fun z => w0 (h5 z g' ⟨O, H, hM⟩ t41)) (fun z g1 hg1 hs1' => w1 (hK hne _ _ _ (hn z g1 ⟨hg1, ?_, ?_⟩)))
    · rw [hs1'.1]; exact t40
    · rw [List.length_cons]; omega
  refine ⟨fun q => ?_, fun _ => ⟨fun _ => ⟨fun q6 => ?_, fun q6 => ⟨fun qm => ?_, fun qm => ?_⟩⟩, fun q => ?_⟩⟩
  · have := e1.mp q
    rcases hs with ⟨a, -⟩ | ⟨a, -⟩ | ⟨a, -⟩ <;> omega
  · unfold wbX7_eRead_99
    rcases hs with ⟨a, a1, a2⟩ | ⟨a, a1, a2⟩ | ⟨a, -⟩
    · subst a2
      exact ⟨fun q => absurd (e45.mpr a) q, fun _ => hgo (s' := 19) a1.symm (by unfold sgn; omega) rfl⟩
    · subst a2
      exact ⟨fun _ => ⟨fun q => absurd (e40.mpr a) q, fun _ => hgo (s' := 0) a1.symm (by unfold sgn; omega) rfl⟩, fun q => absurd (e45.mp q) (by omega)⟩
    · exact absurd (e6.mpr a) q6
  · have := e6.mp q6
    rcases hs with ⟨a, -⟩ | ⟨a, -⟩ | ⟨a, a1, a2, a3⟩
    · omega
    · omega
    · exact absurd qm a3
  · have := e6.mp q6
    rcases hs with ⟨a, -⟩ | ⟨a, -⟩ | ⟨a, a1, a2, a3⟩
    · omega
    · omega
    · subst a2
      exact hgo (s' := 13) a1.symm (by unfold sgn; omega) rfl
  · have := e2.mp q
    rcases hs with ⟨a, -⟩ | ⟨a, -⟩ | ⟨a, -⟩ <;> omega
/-- the sign of a token between two -/
def sgC2 (k : Nat) : Option Nat := if k = 4 then some 11 else if k = 5 then some 12 else if k = 60 then some 14 else if k = 61 then some 15 else if k = 43 then some 16 else if k = 45 then some 17 else if k = 42 then some 18 else none
theorem m_signOf {i : Nat} {g' : St} {R : Int32 → St → Prop} (hB : ∀ t, B t < 256) (t42 : g' 99 42 = tkC (kd B n i)) (h : R (match sgC2 (kd B n i) with | some c => Int32.ofNat c | none => -1) g') : wX7_signOf g' R := by
  have hk := kd_256 (B := B) (n := n) (i := i) hB
  have e : ∀ x, x < 256 → x ≠ 7 → x ≠ 8 → ((g' 99 42 = Int32.ofNat x) ↔ kd B n i = x) := fun x hx a1 a2 => by rw [t42]; exact tk_eq hk hx a1 a2
  have e4 := e 4 (by decide) (by decide) (by decide)
  have e5 := e 5 (by decide) (by decide) (by decide)
  have e60 := e 60 (by decide) (by decide) (by decide)
  have e61 := e 61 (by decide) (by decide) (by decide)
  have e43 := e 43 (by decide) (by decide) (by decide)
  have e45 := e 45 (by decide) (by decide) (by decide)
  have e42 := e 42 (by decide) (by decide) (by decide)
  unfold wX7_signOf
  unfold sgC2 at h
  refine ⟨fun q0 => ⟨fun q1 => ⟨fun q2 => ⟨fun q3 => ⟨fun q4 => ⟨fun q5 => ⟨fun q6 => ?_, fun q => ?_⟩, fun q => ?_⟩, fun q => ?_⟩, fun q => ?_⟩, fun q => ?_⟩, fun q => ?_⟩, fun q => ?_⟩
  · rw [if_neg (fun z => q0 (e4.mpr z)), if_neg (fun z => q1 (e5.mpr z)), if_neg (fun z => q2 (e60.mpr z)), if_neg (fun z => q3 (e61.mpr z)), if_neg (fun z => q4 (e43.mpr z)), if_neg (fun z => q5 (e45.mpr z)), if_neg (fun z => q6 (e42.mpr z))] at h
    exact h
  · rw [if_neg (fun z => q0 (e4.mpr z)), if_neg (fun z => q1 (e5.mpr z)), if_neg (fun z => q2 (e60.mpr z)), if_neg (fun z => q3 (e61.mpr z)), if_neg (fun z => q4 (e43.mpr z)), if_neg (fun z => q5 (e45.mpr z)), if_pos (e42.mp q)] at h
    exact h
  · rw [if_neg (fun z => q0 (e4.mpr z)), if_neg (fun z => q1 (e5.mpr z)), if_neg (fun z => q2 (e60.mpr z)), if_neg (fun z => q3 (e61.mpr z)), if_neg (fun z => q4 (e43.mpr z)), if_pos (e45.mp q)] at h
    exact h
  · rw [if_neg (fun z => q0 (e4.mpr z)), if_neg (fun z => q1 (e5.mpr z)), if_neg (fun z => q2 (e60.mpr z)), if_neg (fun z => q3 (e61.mpr z)), if_pos (e43.mp q)] at h
    exact h
  · rw [if_neg (fun z => q0 (e4.mpr z)), if_neg (fun z => q1 (e5.mpr z)), if_neg (fun z => q2 (e60.mpr z)), if_pos (e61.mp q)] at h
    exact h
  · rw [if_neg (fun z => q0 (e4.mpr z)), if_neg (fun z => q1 (e5.mpr z)), if_pos (e60.mp q)] at h
    exact h
  · rw [if_neg (fun z => q0 (e4.mpr z)), if_pos (e5.mp q)] at h
    exact h
  · rw [if_pos (e4.mp q)] at h
    exact h
theorem sgC2_s {k c : Nat} (h : sgC2 k = some c) : (c = 11 ∨ c = 12 ∨ c = 14 ∨ c = 15 ∨ c = 16 ∨ c = 17 ∨ c = 18) ∧ k ≠ 0 ∧ k ≠ 59 ∧ k ≠ 41 := by
  unfold sgC2 at h
  by_cases c1 : k = 4
  · rw [if_pos c1] at h
    have := Option.some.inj h
    omega
  rw [if_neg c1] at h
  by_cases c2 : k = 5
  · rw [if_pos c2] at h
    have := Option.some.inj h
    omega
  rw [if_neg c2] at h
  by_cases c3 : k = 60
  · rw [if_pos c3] at h
    have := Option.some.inj h
    omega
  rw [if_neg c3] at h
  by_cases c4 : k = 61
  · rw [if_pos c4] at h
    have := Option.some.inj h
    omega
  rw [if_neg c4] at h
  by_cases c5 : k = 43
  · rw [if_pos c5] at h
    have := Option.some.inj h
    omega
  rw [if_neg c5] at h
  by_cases c6 : k = 45
  · rw [if_pos c6] at h
    have := Option.some.inj h
    omega
  rw [if_neg c6] at h
  by_cases c7 : k = 42
  · rw [if_pos c7] at h
    have := Option.some.inj h
    omega
  rw [if_neg c7] at h
  cases h
/-- a sign between two -/
theorem n_op {i c : Nat} {A : List Nat} {mn : Int32} (ht : tpR g0 B n) (h : WS B n g0 X g i O (A ++ H)) (hc : sgC2 (kd B n i) = some c) (hA : ∀ s ∈ A, lstN c ≤ rkN s) (hH : ∀ s, H.head? = some s → rkN s < lstN c)
    (h0 : rkN c = 4 → (∃ s, H.head? = some s ∧ rkN s = 4) → FC B n g0 X Q i) (hn : ¬ (rkN c = 4 ∧ ∃ s, H.head? = some s ∧ rkN s = 4) → ∀ g', WS B n g0 X g' (i + 1) (O ++ A) (c :: H) → ER B n Q (i + 1) 1 (if 12 < c then 0 else 1) g') : ER B n Q i 0 mn g := by
  obtain ⟨hc1, hc0, hc59, hc41⟩ := sgC2_s hc
  refine e_step ht h (fun g' K hg' hK => ⟨fun _ => ?_, fun q => absurd rfl q⟩)
  have hk := kd_256 (B := B) (n := n) (i := i) ht.2.1
  have hlen := TS_len hg' ht hc0
  rw [List.length_append] at hlen
  obtain ⟨hM, t40, tl, t41, t42, t43⟩ := hg'
  have e : ∀ x, x < 256 → x ≠ 7 → x ≠ 8 → ((g' 99 42 = Int32.ofNat x) ↔ kd B n i = x) := fun x hx a1 a2 => by rw [t42]; exact tk_eq hk hx a1 a2
  refine ⟨fun _ => ⟨fun _ => ?_, fun q => absurd ((e 41 (by decide) (by decide) (by decide)).mp q) hc41⟩, fun q => absurd ((e 59 (by decide) (by decide) (by decide)).mp q) hc59⟩
  refine m_signOf ht.2.1 t42 ?_
  rw [hc]
  have hcl : (Int32.ofNat c = -1) → False := by
    intro q
    have := congrArg Int32.toInt q
    rw [n_toInt (by omega), im1] at this
    omega
  refine ⟨fun q => (hcl q).elim, fun _ => ?_⟩
  have h12 : ((12 : Int32) < Int32.ofNat c) ↔ 12 < c := n_ltI (a := 12) (b := c) (by decide) (by omega)
  refine m_between hM hc1 (by omega) hA hH (fun z1 z2 g1 hg1 hs1 => w0 ?_) (fun z g1 hg1 hs1 => w1 ?_)
  · refine h0 z1 z2 g1 ⟨_, _, hg1⟩ ?_
    rw [hs1.2.1]
    exact t41
  · have hw : WS B n g0 X g1 (i + 1) (O ++ A) (c :: H) := by
      refine ⟨hg1, ?_, ?_⟩
      · rw [hs1.1]; exact t40
      · rw [List.length_append, List.length_cons]
        omega
    have hE := hn z g1 hw
    refine ⟨fun q => hK hc0 _ _ _ ?_, fun q => hK hc0 _ _ _ ?_⟩
    · rw [if_pos (h12.mp q)] at hE
      exact hE
    · rw [if_neg (fun y => q (h12.mpr y))] at hE
      exact hE
/-- what can't stand in the state 'wants not' -/
theorem n_bad {i : Nat} {mn : Int32} (ht : tpR g0 B n) (h : WS B n g0 X g i O H) (hc : sgC2 (kd B n i) = none) (h59 : kd B n i ≠ 59) (h41 : kd B n i ≠ 41) (hF : FC B n g0 X Q i) : ER B n Q i 0 mn g := by
  refine e_step ht h (fun g' K hg' hK => ⟨fun _ => ?_, fun q => absurd rfl q⟩)
  have hk := kd_256 (B := B) (n := n) (i := i) ht.2.1
  obtain ⟨hM, t40, tl, t41, t42, t43⟩ := hg'
  have e : ∀ x, x < 256 → x ≠ 7 → x ≠ 8 → ((g' 99 42 = Int32.ofNat x) ↔ kd B n i = x) := fun x hx a1 a2 => by rw [t42]; exact tk_eq hk hx a1 a2
  refine ⟨fun _ => ⟨fun _ => ?_, fun q => absurd ((e 41 (by decide) (by decide) (by decide)).mp q) h41⟩, fun q => absurd ((e 59 (by decide) (by decide) (by decide)).mp q) h59⟩
  refine m_signOf ht.2.1 t42 ?_
  rw [hc]
  exact ⟨fun _ => hF g' ⟨O, H, hM⟩ t41, fun q => absurd rfl q⟩
/-- a ; : the end, or a fault where a ( waits -/
theorem n_semi {i : Nat} {A : List Nat} {mn : Int32} (ht : tpR g0 B n) (h : WS B n g0 X g i O (A ++ H)) (hk : kd B n i = 59) (hA : ∀ s ∈ A, 1 ≤ rkN s) (hH : ∀ s, H.head? = some s → rkN s < 1) (h0 : H ≠ [] → FC B n g0 X Q i) (hn : H = [] → ∀ g', WS B n g0 X g' (i + 1) (O ++ A) [] → Q 1 g') : ER B n Q i 0 mn g := by
  refine e_step ht h (fun g' K hg' hK => ⟨fun _ => ?_, fun q => absurd rfl q⟩)
  have hlen := TS_len hg' ht (by omega)
  rw [List.length_append] at hlen
  obtain ⟨hM, t40, tl, t41, t42, t43⟩ := hg'
  have e59 : g' 99 42 = 59 := by rw [t42, hk]; rfl
  refine ⟨fun q => absurd e59 q, fun _ => ?_⟩
  refine m_unw hM (m := 1) (by decide) (by decide) hA hH (fun g1 hg1 hs1 => ?_)
  have s46 := hg1.2.1.1
  have hl1 := hg1.2.2.2.2.2.1
  have he : (Int32.ofNat H.length = 0) ↔ H.length = 0 := n_eqI (a := H.length) (b := 0) (by omega) (by decide)
  rw [s46]
  refine ⟨fun q => ?_, fun q => ?_⟩
  · refine h0 (fun z => q (he.mpr (by rw [z]; rfl))) g1 ⟨_, _, hg1⟩ ?_
    rw [hs1.2.1]
    exact t41
  · have hnil := List.eq_nil_of_length_eq_zero (he.mp q)
    subst hnil
    refine hn rfl g1 ⟨hg1, ?_, ?_⟩
    · rw [hs1.1]; exact t40
    · rw [List.length_append]; simp; omega
/-- a ) -/
theorem n_close {i : Nat} {A : List Nat} {mn : Int32} (ht : tpR g0 B n) (h : WS B n g0 X g i O (A ++ H)) (hk : kd B n i = 41) (hA : ∀ s ∈ A, 1 ≤ rkN s) (hH : H = [] ∨ ∃ H', H = 0 :: H') (h0 : H = [] → FC B n g0 X Q i) (hn : ∀ H', H = 0 :: H' → ∀ g', WS B n g0 X g' (i + 1) (O ++ A ++ t19 H') (d19 H') → ER B n Q (i + 1) 0 mn g') : ER B n Q i 0 mn g := by
  refine e_step ht h (fun g' K hg' hK => ⟨fun _ => ?_, fun q => absurd rfl q⟩)
  have hlen := TS_len hg' ht (by omega)
  rw [List.length_append] at hlen
  obtain ⟨hM, t40, tl, t41, t42, t43⟩ := hg'
  have e41 : g' 99 42 = 41 := by rw [t42, hk]; rfl
  refine ⟨fun _ => ⟨fun q => absurd e41 q, fun _ => ?_⟩, fun q => absurd (e41.symm.trans q) (by decide)⟩
  have hH1 : ∀ s, H.head? = some s → rkN s < 1 := by
    intro s hs
    rcases hH with z | ⟨H', z⟩
    · rw [z] at hs; cases hs
    · rw [z] at hs
      have := Option.some.inj hs
      subst this
      decide
  refine m_unw hM (m := 1) (by decide) (by decide) hA hH1 (fun g1 hg1 hs1 => ?_)
  have s46 := hg1.2.1.1
  have s47 := hg1.2.1.2.1
  rcases hH with z | ⟨H', z⟩
  · subst z
    rw [s46]
    refine ⟨fun q => absurd rfl q, fun _ => h0 rfl g1 ⟨_, _, hg1⟩ ?_⟩
    rw [hs1.2.1]
    exact t41
  · subst z
    have hl1 := hg1.2.2.2.2.2.1
    rw [List.length_cons] at hl1
    have hcl := cO_le (H := H')
    have e46 : g1 99 46 = Int32.ofNat (H'.length + 1) := s46
    refine ⟨fun _ f9 e9 f10 e10 => ?_, fun q => ?_⟩
    · rw [e46, n_pred (by omega), Nat.add_sub_cancel] at e9
      have e10' : f10 = upd2 (upd2 g1 99 46 (Int32.ofNat H'.length)) 99 47 (Int32.ofNat (cO H')) := by
        have e947 : f9 99 47 = Int32.ofNat (cO H' + 1) := by
          rw [e9, u99 (by decide), s47, cO_c]
          rfl
        rw [e10, e947, n_pred (by omega), Nat.add_sub_cancel, e9]
      obtain ⟨hP, hS⟩ := MH_pop hg1 e10'
      have hsg := hP.2.2.2.2.1
      have hP' : MH g0 X f10 (O ++ A) (t19 H' ++ d19 H') := by rw [td19]; exact hP
      refine m_unw hP' (m := 7) (by decide) (by decide) (fun s hs => ?_) (fun s hs => ?_) (fun g2 hg2 hs2 => hK (by omega) _ _ _ (hn H' rfl g2 ⟨hg2, ?_, ?_⟩))
      · rw [t19_all s hs]; decide
      · have h1 := d19_hd s hs
        have h2 : sgn s := by
          refine hsg s ?_
          rw [← td19 (H := H')]
          exact List.mem_append_right _ (List.mem_of_mem_head? hs)
        have h3 := rk7 h2
        have : ¬ 7 ≤ rkN s := fun z => h1 (h3.mp z)
        exact Nat.lt_of_not_le this
      · rw [hs2.1, hS.1, hs1.1]; exact t40
      · have := congrArg List.length (td19 (H := H'))
        rw [List.length_append] at this
        rw [List.length_append, List.length_append]
        rw [List.length_cons] at hlen
        omega
    · exfalso
      rw [e46] at q
      have := (n_eqI (a := H'.length + 1) (b := 0) (by omega) (by decide)).mp q
      omega
end
