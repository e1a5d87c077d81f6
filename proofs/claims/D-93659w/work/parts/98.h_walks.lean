/-! PLAIN LAYER: the class goes through all ways -/
set_option maxRecDepth 100000
abbrev sA : Type := Nat × Option (Int64 × List Nat)
/-- one way is found -/
def ktA (aim : Nat) (v : Int64) (P : List Nat) : Option (Int64 × List Nat) → Option (Int64 × List Nat)
  | none => if aim = 0 then none else some (v, P)
  | some q => if aim = 0 then some q else if q.1 < v then some (v, P) else some q
def mtA (aim : Nat) (vl : List Nat → Int64) (A : sA) (P : List Nat) : sA := (A.1 + 1, ktA aim (vl P) P A.2)
def stA (aim : Nat) (A : sA) : Bool := (decide (aim = 0) && decide (A.1 = 100000)) || decide (aim = 1)
def fdA (aim : Nat) (vl : List Nat → Int64) : List (List Nat) → sA → Bool × sA
  | [], A => (false, A)
  | P :: l, A => if stA aim (mtA aim vl A P) = true then (true, mtA aim vl A P) else fdA aim vl l (mtA aim vl A P)
theorem fdA_app {aim : Nat} {vl : List Nat → Int64} : ∀ (l1 l2 : List (List Nat)) (A : sA), fdA aim vl (l1 ++ l2) A = if (fdA aim vl l1 A).1 = true then fdA aim vl l1 A else fdA aim vl l2 (fdA aim vl l1 A).2
  | [], l2, A => rfl
  | P :: l1, l2, A => by
    show (if stA aim (mtA aim vl A P) = true then (true, mtA aim vl A P) else fdA aim vl (l1 ++ l2) (mtA aim vl A P)) = _
    by_cases c : stA aim (mtA aim vl A P) = true
    · have e : fdA aim vl (P :: l1) A = (true, mtA aim vl A P) := by
        show (if _ then _ else _) = _
        rw [if_pos c]
      rw [if_pos c, e, if_pos rfl]
    · have e : fdA aim vl (P :: l1) A = fdA aim vl l1 (mtA aim vl A P) := by
        show (if _ then _ else _) = _
        rw [if_neg c]
      rw [if_neg c, e]
      exact fdA_app l1 l2 _
theorem fit_tab : ∀ d, d < 7 → fits .byte (.int (Int32.ofNat d)) = true := by decide +kernel
theorem byt_tab : ∀ d, d < 7 → i_b (Int32.ofNat d) = Int32.ofNat d := by decide +kernel
theorem nar_tab {d : Nat} (h : d < 7) : vp_nar .byte (i_b (Int32.ofNat d)) = Int32.ofNat d := by rw [vb_vp, byt_tab d h]
theorem txR_Z {o : Nat} {cs : Nat → Nat} {S S' : XS} (h : S'.2.2.1 = S.2.2.1) {r p : Nat} {l : List Nat} (ht : txR o cs S r p l) : txR o cs S' r p l := by
  obtain ⟨c, a, d, x, dn, h1, h2, h3, h4, h5, h6, h7⟩ := ht
  refine ⟨c, a, d, x, dn, ?_, h2, h3, ?_, h5, h6, nRep_X (fun a e q => ?_) h7⟩
  · rw [h]; exact h1
  · rw [h]; exact h4
  · rw [h]; exact q
section
variable {b o : Nat} {cs ad : Nat → Nat} {vs : Nat → Option Nat} {S0 : XS} {g : St} {T w : Nat}
/-- the kept one -/
def kpR (T : Nat) (f : XS) (k : Option (Int64 × List Nat)) : Prop := (k = none ∧ f.1 99 17 = 0) ∨ ∃ (v : Int64) (P : List Nat), k = some (v, P) ∧ f.1 99 17 = 1 ∧ f.2.1.1 = v ∧ ∀ i, i < T → f.1 20 i = Int32.ofNat (dyO P i)
/-- the class's state in the search, but for where it stands -/
def sxB (S0 : XS) (T : Nat) (A : sA) (f : XS) : Prop := (∀ r, r ≠ 12 → r ≠ 14 → r ≠ 19 → r ≠ 20 → r ≠ 99 → f.1 r = S0.1 r) ∧ (∀ k, k ≠ 16 → k ≠ 17 → f.1 99 k = S0.1 99 k) ∧ f.2.1.2 = S0.2.1.2 ∧ f.2.2 = S0.2.2 ∧ byR (f.1 19) ∧ byR (f.1 20) ∧ f.1 99 16 = Int32.ofNat A.1 ∧ kpR T f A.2
def sxP (s : Nat → Bool) (T : Nat) (P : List Nat) (f : XS) : Prop := (∀ i, i < T → f.1 14 i = hO s P i) ∧ (∀ i, i < P.length → f.1 19 i = Int32.ofNat (dyO P i)) ∧ ∀ i, i < T → ¬ s i = true → f.1 19 i = 0
theorem sxB_12 {A : sA} {f f' : XS} (h : sxB S0 T A f) (hx : xS f f') : sxB S0 T A f' := by
  obtain ⟨h1, h2, h3, h4, h5, h6, h7, h8⟩ := h
  have e2 := xS_2 hx
  have e99 : f'.1 99 = f.1 99 := xS_n hx (by decide) (by decide)
  have e19 : f'.1 19 = f.1 19 := xS_n hx (by decide) (by decide)
  have e20 : f'.1 20 = f.1 20 := xS_n hx (by decide) (by decide)
  refine ⟨fun r a1 a2 a3 a4 a5 => (xS_n hx a1 a2).trans (h1 r a1 a2 a3 a4 a5), ?_, ?_, ?_, ?_, ?_, ?_, ?_⟩
  · rw [e99]; exact h2
  · rw [e2]; exact h3
  · rw [e2]; exact h4
  · rw [e19]; exact h5
  · rw [e20]; exact h6
  · rw [e99]; exact h7
  · unfold kpR
    rw [e99, e20, e2]
    exact h8
theorem cxR_B {A : sA} {f : XS} {r : Nat} {l : List Nat} (h : sxB S0 T A f) (hc : cxR o cs S0 g r l) : cxR o cs f g r l := by
  obtain ⟨h1, h2, h3, h4, -⟩ := h
  obtain ⟨c1, c2, c3, c4, c5, c6, c7, c8⟩ := hc
  unfold cxR
  rw [h1 0 (by decide) (by decide) (by decide) (by decide) (by decide), h1 1 (by decide) (by decide) (by decide) (by decide) (by decide), h1 3 (by decide) (by decide) (by decide) (by decide) (by decide), h2 7 (by decide) (by decide), h2 13 (by decide) (by decide)]
  exact ⟨c1, c2, c3, c4, c5, c6, txR_Z (by rw [h4]) c7, c8⟩
/-- what the search needs of the state it begins with -/
def sxC (o : Nat) (cs : Nat → Nat) (S0 : XS) (g : St) (T w r : Nat) (l : List Nat) (far : Nat → Int32) (set : Int32) (aim : Nat) : Prop := cxR o cs S0 g r l ∧ S0.1 99 6 = Int32.ofNat T ∧ g 99 6 = Int32.ofNat w ∧ (∀ a c, a < T → c < T → S0.1 5 (6 * a + c) = far (6 * a + c)) ∧ S0.1 99 15 = set ∧ S0.1 99 21 = Int32.ofNat aim
theorem hO_hd {s : Nat → Bool} {P : List Nat} (hw7 : w ≤ 7) (hP : ∀ d ∈ P, d < w) (i : Nat) : hd w (hO s P i) := by
  unfold hO
  by_cases c : i < P.length ∧ s i = true
  · rw [if_pos c]
    refine hd_shl hw7 ?_
    unfold dyO
    have hlt : P.length - 1 - i < P.length := by omega
    rw [List.getD_eq_getElem?_getD, List.getElem?_eq_getElem hlt]
    exact hP _ (List.getElem_mem hlt)
  · rw [if_neg c]; exact hd0
theorem pX0_barsAhead {r t aim : Nat} {l P : List Nat} {far : Nat → Int32} {set : Int32} {A : sA} {f : XS} {Q : Int32 → XS → Prop} (hC : sxC o cs S0 g T w r l far set aim) (hT6 : T ≤ 6) (hw2 : 2 ≤ w) (hw7 : w ≤ 7) (hl : P.length = t + 1) (htT : t < T) (hPw : ∀ d ∈ P, d < w) (hb : sxB S0 T A f) (hp : ∀ i, i < T → f.1 14 i = hO (iS set) P i) (h : ∀ f', xS f f' → f'.1 14 = f.1 14 → Q (fl1 (!frP (bA g l far) (iS set) P)) f') : wX0_barsAhead b cs ad vs o f (Int32.ofNat t) Q := by
  obtain ⟨hc, hT, hw, hfar, hset, haim⟩ := hC
  unfold wX0_barsAhead
  have et : P.length - 1 = t := by omega
  have efr : frP (bA g l far) (iS set) P = flB (fun a => if iS set a = true then bA g l far (hO (iS set) P) a (P.length - 1) else 0) (t + 1) := congrArg (flB (fun a => if iS set a = true then bA g l far (hO (iS set) P) a (P.length - 1) else 0)) hl
  generalize hBB : (fun a => if iS set a = true then bA g l far (hO (iS set) P) a (P.length - 1) else 0) = BB at efr
  have eBB : ∀ a, BB a = if iS set a = true then bA g l far (hO (iS set) P) a t else 0 := fun a => by rw [← hBB]; show (if _ then _ else _) = _; rw [et]
  have hmono : ∀ n m, flB BB (n + m) = true → flB BB n = true := by
    intro n m
    induction m with
    | zero => exact fun q => q
    | succ m ih =>
      intro q
      have q' : (flB BB (n + m) && _) = true := q
      rw [Bool.and_eq_true] at q'
      exact ih q'.1
  refine ijX0_barsAhead_2_2 (t + 1) 0 (by omega) (by omega) (fun n x1 f' => x1 = Int32.ofNat t ∧ xS f f' ∧ f'.1 14 = f.1 14 ∧ flB BB n = true) ?_ _ _ ⟨rfl, xS.rf, rfl, rfl⟩
  intro K n x1 f' _ hn hP hK
  obtain ⟨rfl, hx, h14, hfl⟩ := hP
  have hb' := sxB_12 hb hx
  unfold wbX0_barsAhead_2
  have hlt := n_ltI (a := t) (b := n) (by omega) (by omega)
  have e15 : f'.1 99 15 = set := by rw [hb'.2.1 15 (by decide) (by decide)]; exact hset
  rw [e15]
  refine ⟨fun q => ?_, fun q => ?_⟩
  · have : n = t + 1 := by
      have := hlt.mp q
      omega
    subst this
    have := h f' hx h14
    rw [efr, hfl] at this
    exact this
  · have hnt : n ≤ t := by
      have : ¬ t < n := fun z => q (hlt.mpr z)
      omega
    have hgo : ∀ f2, xS f f2 → f2.1 14 = f.1 14 → BB n = 0 → wbX0_barsAhead_30 b cs ad vs o K Q (Int32.ofNat t) (Int32.ofNat n) f2 := by
      intro f2 hx2 h142 hz x e
      rw [n_suc] at e
      subst e
      refine hK _ _ (by omega) ⟨rfl, hx2, h142, ?_⟩
      show (flB BB n && decide (BB n = 0)) = true
      rw [hfl, decide_eq_true hz]
      rfl
    refine ⟨fun z => hgo f' hx h14 ?_, fun z => ?_⟩
    · rw [eBB, if_neg (show ¬ iS set n = true from fun y => z (of_decide_eq_true y))]
    · have hs : iS set n = true := decide_eq_true z
      have hd' : ∀ i, i < T → hd w (f'.1 14 i) := fun i hi => by rw [h14, hp i hi]; exact hO_hd hw7 hPw i
      refine pX0_bars (far := far) (cxR_B hb' hc) hw hw2 hw7 hnt (by omega) ?_ (hd' n (by omega)) (hd' t htT) (fun f2 hx2 h142 => ?_)
      · rw [hb'.1 5 (by decide) (by decide) (by decide) (by decide) (by decide)]
        exact hfar n t (by omega) htT
      · have ev : bA g l far (f'.1 14) n t = BB n := by
          rw [eBB, if_pos hs]
          exact bA_congr (T := T) (fun _ _ _ _ => rfl) (fun i hi => by rw [h14]; exact hp i hi) hnt htT
        rw [ev]
        refine ⟨fun y => hgo f2 (hx.tr hx2) (h142.trans h14) y, fun y => ?_⟩
        have hff : frP (bA g l far) (iS set) P = false := by
          rw [efr]
          by_cases c : flB BB (t + 1) = true
          · have c2 := hmono (n + 1) (t - n) (by rw [show n + 1 + (t - n) = t + 1 by omega]; exact c)
            have c3 : (flB BB n && decide (BB n = 0)) = true := c2
            rw [Bool.and_eq_true, decide_eq_true_iff] at c3
            exact absurd c3.2 y
          · exact Bool.eq_false_iff.mpr c
        have := h f2 (hx.tr hx2) (h142.trans h14)
        rw [hff] at this
        exact this
/-- what meets does, by the aim -/
def mtOk (b o : Nat) (cs ad : Nat → Nat) (vs : Nat → Option Nat) (S0 : XS) (T w : Nat) (set : Int32) (aim : Nat) (vl : List Nat → Int64) : Prop := ∀ (P : List Nat) (A : sA) (f : XS) (Q : Int32 → XS → Prop), P.length = T → (∀ d ∈ P, d < w) → (aim = 0 → A.1 < 100000) → sxB S0 T A f → sxP (iS set) T P f → (∀ f', sxB S0 T (mtA aim vl A P) f' → sxP (iS set) T P f' → Q (fl1 (stA aim (mtA aim vl A P))) f') → wX0_meets b cs ad vs o f Q
theorem fl1_vz {c : Bool} : vz (fl1 c) := by cases c <;> first | exact vz0 | exact vz1
end
