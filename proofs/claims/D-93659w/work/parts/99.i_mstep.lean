/-! PLAIN LAYER: the reference's reading, a token at a time -/
set_option maxRecDepth 100000
section
variable {g0 g : St} {X : Nat} {O H : List Nat}
theorem m_open {s : Nat} {Q : Int32 → St → Prop} (h : MH g0 X g O H) (hs : sgn s) (ho : isO s = true) (hl : O.length + (H.length + 1) ≤ 160) (h5 : cO H = 5 → Q 0 g) (hq : cO H ≠ 5 → ∀ g', MH g0 X g' O (s :: H) → same4 g g' → Q 1 g') : wX7_opensOne g (Int32.ofNat s) Q := by
  have hcl := cO_le (H := H)
  have s47 := h.2.1.2.1
  have he : (Int32.ofNat (cO H) = 5) ↔ cO H = 5 := n_eqI (a := cO H) (b := 5) (by omega) (by decide)
  unfold wX7_opensOne
  rw [s47]
  refine ⟨fun q g1 e1 => ?_, fun q => h5 (he.mp q)⟩
  rw [n_suc] at e1
  have hne : cO H ≠ 5 := fun z => q (he.mpr z)
  -- the state with opens one more is not quite MH: hold at once
  obtain ⟨⟨f1, f2, f3⟩, ⟨s46, -, s48⟩, hH, hO, hsg, hlen, hX, h0⟩ := h
  unfold wX7_holds
  have e46 : g1 99 46 = Int32.ofNat H.length := by rw [e1, u99 (by decide)]; exact s46
  rw [e46, n_clamp (by omega)]
  refine ⟨n_in (by omega) (by decide), fun g2 e2 g3 e3 => hq hne g3 ⟨⟨fun r r1 r2 r3 => ?_, fun q q0 q1 q2 q3 q4 q5 q6 => ?_, fun t ht => ?_⟩, ⟨?_, ?_, ?_⟩, fun t ht => ?_, fun t ht => ?_, ?_, hl, hX, h0⟩ ⟨?_, ?_, ?_, ?_⟩⟩
  · rw [e3, upd2_o r3, e2, upd2_o r2, e1, upd2_o r3]; exact f1 r r1 r2 r3
  · rw [e3, u99 q4, e2, upd2_o (by decide), e1, u99 q5]; exact f2 q q0 q1 q2 q3 q4 q5 q6
  · rw [e3, upd2_o (by decide), e2, upd2_o (by decide), e1, upd2_o (by decide)]; exact f3 t ht
  · rw [e3, u99s, e2, upd2_o (by decide), e46, n_suc]; rfl
  · rw [e3, u99 (by decide), e2, upd2_o (by decide), e1, u99s, cO_c, if_pos ho]
  · rw [e3, u99 (by decide), e2, upd2_o (by decide), e1, u99 (by decide)]; exact s48
  · have ht' : t < H.length + 1 := ht
    rw [e3, upd2_o (by decide), e2, upd2_at]
    cases t with
    | zero =>
      rw [if_pos (by show H.length + 1 - 1 - 0 = H.length; omega)]
      rfl
    | succ t =>
      rw [if_neg (by show ¬ H.length + 1 - 1 - (t + 1) = H.length; omega), show (s :: H).length - 1 - (t + 1) = H.length - 1 - t by show H.length + 1 - 1 - (t + 1) = _; omega, e1, upd2_o (by decide), hH t (by omega)]
      rfl
  · rw [e3, upd2_o (by decide), e2, upd2_o (by decide), e1, upd2_o (by decide)]; exact hO t ht
  · intro x hx
    rcases List.mem_cons.mp hx with q | q
    · rw [q]; exact hs
    · exact hsg x q
  · rw [e3, u99 (by decide), e2, upd2_o (by decide), e1, u99 (by decide)]
  · rw [e3, u99 (by decide), e2, upd2_o (by decide), e1, u99 (by decide)]
  · rw [e3, u99 (by decide), e2, upd2_o (by decide), e1, u99 (by decide)]
  · rw [e3, u99 (by decide), e2, upd2_o (by decide), e1, u99 (by decide)]
/-- how far a sign between two unwinds -/
def lstN (c : Nat) : Nat := if rkN c = 4 then 5 else rkN c
theorem m_between {c : Nat} {A : List Nat} {Q : Int32 → St → Prop} (h : MH g0 X g O (A ++ H)) (hc : c = 11 ∨ c = 12 ∨ c = 14 ∨ c = 15 ∨ c = 16 ∨ c = 17 ∨ c = 18) (hl : O.length + (A.length + H.length + 1) ≤ 160) (hA : ∀ s ∈ A, lstN c ≤ rkN s) (hH : ∀ s, H.head? = some s → rkN s < lstN c)
    (h0 : rkN c = 4 → (∃ s, H.head? = some s ∧ rkN s = 4) → ∀ g', MH g0 X g' (O ++ A) H → same4 g g' → Q 0 g') (hq : ¬ (rkN c = 4 ∧ ∃ s, H.head? = some s ∧ rkN s = 4) → ∀ g', MH g0 X g' (O ++ A) (c :: H) → same4 g g' → Q 1 g') : wX7_between g (Int32.ofNat c) Q := by
  have hs : sgn c := by clear h0 hq; unfold sgn; omega
  have hio : isO c = false := by rcases hc with z | z | z | z | z | z | z <;> subst z <;> rfl
  have hr : rkN c < 8 := rkN_lt
  have hr1 : 1 ≤ rkN c := by rcases hc with z | z | z | z | z | z | z <;> subst z <;> decide
  have e4 : (Int32.ofNat (rkN c) = 4) ↔ rkN c = 4 := n_eqI (a := rkN c) (b := 4) (by omega) (by decide)
  have hhold : ∀ g1, MH g0 X g1 (O ++ A) H → same4 g g1 → ¬ (rkN c = 4 ∧ ∃ s, H.head? = some s ∧ rkN s = 4) → wbX7_between_55 Q (Int32.ofNat c) g1 := by
    intro g1 h1 h4 hno
    unfold wbX7_between_55
    refine m_holds h1 hs (by rw [List.length_append]; omega) ?_ (fun g' hg' hs' => hq hno g' hg' (h4.tr hs'))
    rw [h1.2.1.2.1, cO_c, hio]
    rfl
  have hmain : wbX7_between_17 Q (Int32.ofNat c) (Int32.ofNat (lstN c)) g := by
    unfold wbX7_between_17
    refine m_unw h (by unfold lstN; split <;> omega) (by unfold lstN; split <;> omega) hA hH (fun g1 h1 h4 => m_rank hs ⟨fun q => hhold g1 h1 h4 (fun z => q (e4.mpr z.1)), fun q => ?_⟩)
    have q4 := e4.mp q
    have hlen := h1.2.2.2.2.2.1
    have s46 := h1.2.1.1
    cases H with
    | nil =>
      rw [s46]
      exact ⟨fun _ => hhold g1 h1 h4 (fun z => by obtain ⟨-, s, z1, -⟩ := z; cases z1), fun q => absurd (by decide) q⟩
    | cons s H' =>
      obtain ⟨t1, t2⟩ := MH_top h1
      have hlen' : (O ++ A).length + (H'.length + 1) ≤ 160 := hlen
      have e46 : g1 99 46 = Int32.ofNat (H'.length + 1) := s46
      have es4 : (Int32.ofNat (rkN s) = 4) ↔ rkN s = 4 := n_eqI (a := rkN s) (b := 4) (by have := rkN_lt (s := s); omega) (by decide)
      rw [e46, n_pred (by omega), Nat.add_sub_cancel, n_clamp (by omega), t1]
      refine ⟨fun q => ?_, fun _ => ⟨n_in (by omega) (by decide), m_rank t2 ⟨fun q => hhold g1 h1 h4 (fun z => ?_), fun q => h0 q4 ⟨s, rfl, es4.mp q⟩ g1 h1 h4⟩⟩⟩
      · have := (n_leI (a := H'.length + 1) (b := 0) (by omega) (by decide)).mp q
        omega
      · obtain ⟨-, s', z1, z2⟩ := z
        have : s = s' := Option.some.inj z1
        subst this
        exact q (es4.mpr z2)
  unfold wX7_between
  refine m_rank hs ⟨fun q => m_rank hs ?_, fun q => ?_⟩
  · unfold lstN at hmain
    rw [if_neg (fun z => q (e4.mpr z))] at hmain
    exact hmain
  · unfold lstN at hmain
    rw [if_pos (e4.mp q)] at hmain
    exact hmain
end
/-- the reference ahead of token i -/
def WS (B : Nat → Nat) (n : Nat) (g0 : St) (X : Nat) (g : St) (i : Nat) (O H : List Nat) : Prop := MH g0 X g O H ∧ g 99 40 = Int32.ofNat (ps B n i) ∧ O.length + H.length ≤ ps B n i
/-- the reference behind token i -/
def TS (B : Nat → Nat) (n : Nat) (g0 : St) (X : Nat) (g : St) (i : Nat) (O H : List Nat) : Prop := MH g0 X g O H ∧ g 99 40 = Int32.ofNat (ps B n (i + 1)) ∧ O.length + H.length ≤ ps B n i ∧ g 99 41 = Int32.ofNat (bg B n i) ∧ g 99 42 = tkC (kd B n i) ∧ (kd B n i = 1 ∨ kd B n i = 2 ∨ kd B n i = 3 → g 99 43 = Int32.ofNat (vl B n i))
theorem kd_256 {B : Nat → Nat} {n i : Nat} (hB : ∀ t, B t < 256) : kd B n i < 256 := by
  unfold kd kdA
  have := hB (bg B n i)
  have hw : ∀ k, wKd k < 256 := by
    intro k
    unfold wKd
    (repeat' split) <;> omega
  have := hw (wix B n (bg B n i))
  (repeat' split) <;> omega
theorem tk_eq {k x : Nat} (hk : k < 256) (hx : x < 256) (h7 : x ≠ 7) (h8 : x ≠ 8) : (tkC k = Int32.ofNat x) ↔ k = x := by
  unfold tkC
  by_cases c : k = 7 ∨ k = 8
  · rw [if_pos c]
    constructor
    · intro q
      have := congrArg Int32.toInt q
      rw [n_toInt (by omega), im1] at this
      omega
    · intro q
      omega
  · rw [if_neg c]
    exact n_eqI (by omega) (by omega)
section
variable {B : Nat → Nat} {n : Nat} {g0 g : St} {X : Nat} {O H : List Nat}
theorem MH_tp (h : MH g0 X g O H) (ht : tpR g0 B n) : tpR g B n := by
  refine ⟨ht.1, ht.2.1, ?_, fun t hlt => ?_⟩
  · rw [h.1.2.1 11 (by decide) (by decide) (by decide) (by decide) (by decide) (by decide) (by decide)]
    exact ht.2.2.1
  · rw [h.1.1 10 (by decide) (by decide) (by decide)]
    exact ht.2.2.2 t hlt
theorem m_tokS {i : Nat} {Q : St → Prop} (ht : tpR g0 B n) (h : WS B n g0 X g i O H) (hq : ∀ g', TS B n g0 X g' i O H → Q g') : wX7_next g Q := by
  obtain ⟨hM, h40, hl⟩ := h
  refine m_tok (MH_tp hM ht) (ps_le i) h40 (fun g' hx => ?_)
  obtain ⟨x1, x2, x3, x4, x5, x6⟩ := hx
  refine hq g' ⟨?_, x3, hl, x4, x5, x6⟩
  obtain ⟨⟨f1, f2, f3⟩, ⟨s46, s47, s48⟩, hH, hO, hsg, hlen, hX, h0⟩ := hM
  refine ⟨⟨fun r r1 r2 r3 => ?_, fun q q0 q1 q2 q3 q4 q5 q6 => ?_, fun t ht => ?_⟩, ⟨?_, ?_, ?_⟩, fun t ht => ?_, fun t ht => ?_, hsg, hlen, hX, h0⟩
  · rw [x1 r r3]; exact f1 r r1 r2 r3
  · rw [x2 q q0 q1 q2 q3]; exact f2 q q0 q1 q2 q3 q4 q5 q6
  · rw [x1 12 (by decide)]; exact f3 t ht
  · rw [x2 46 (by decide) (by decide) (by decide) (by decide)]; exact s46
  · rw [x2 47 (by decide) (by decide) (by decide) (by decide)]; exact s47
  · rw [x2 48 (by decide) (by decide) (by decide) (by decide)]; exact s48
  · rw [x1 45 (by decide)]; exact hH t ht
  · rw [x1 12 (by decide)]; exact hO t ht
end
/-- the loop comes to its end from here, with fuel for the bytes that are left -/
def ER (B : Nat → Nat) (n : Nat) (Q : Int32 → St → Prop) (i : Nat) (x1 x2 : Int32) (g : St) : Prop := ∀ N, n + 2 ≤ N + ps B n i → wlX7_eRead_14 (fun (f : St) => (wX7_unwinds f (1 : Int32) (fun f_20 => ((¬ (f_20 99 46) = (0 : Int32) → Q (0 : Int32) f_20) ∧ ((f_20 99 46) = (0 : Int32) → Q (1 : Int32) f_20))))) Q N x1 x2 g
