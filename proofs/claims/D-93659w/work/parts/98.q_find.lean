/-! PLAIN LAYER: find: the reference's loop; what both leave -/
set_option maxRecDepth 100000
/-- the reference's state in find, but for what it finds and keeps -/
def fnM (g1 f : St) : Prop := (∀ r, r ≠ 22 → r ≠ 49 → r ≠ 50 → r ≠ 52 → r ≠ 53 → r ≠ 54 → r ≠ 99 → f r = g1 r) ∧ ∀ k, k ≠ 20 → k ≠ 21 → f 99 k = g1 99 k
theorem fnM_tr {g1 f f' : St} (h : fnM g1 f) (h' : fnM f f') : fnM g1 f' := ⟨fun r a1 a2 a3 a4 a5 a6 a7 => (h'.1 r a1 a2 a3 a4 a5 a6 a7).trans (h.1 r a1 a2 a3 a4 a5 a6 a7), fun k a1 a2 => (h'.2 k a1 a2).trans (h.2 k a1 a2)⟩
theorem fnM_52 {f f' : St} (h : ∀ r, r ≠ 52 → f' r = f r) : fnM f f' := ⟨fun r _ _ _ a4 _ _ _ => h r a4, fun k _ _ => by rw [h 99 (by decide)]⟩
theorem fnM_mk {f f' : St} (h : mkR f f') : fnM f f' := ⟨fun r _ a2 a3 _ a5 a6 _ => h r a2 a3 a5 a6, fun k _ _ => by rw [h 99 (by decide) (by decide) (by decide) (by decide)]⟩
/-- how the reference comes by the number of a way -/
def evM (aim : Nat) (x2 : Int32) (vI : List Nat → Int32) (MEM : St → Prop) (T w : Nat) (g1 : St) : Prop := ∀ (f : St) (P : List Nat) (K : Int32 → St → Prop), fnM g1 f → MEM f → P.length = T → (∀ d ∈ P, d < w) → (∀ i, i < T → f 52 i = i_shl 1 (Int32.ofNat (dyO P i))) → (∀ f', mkR f f' → MEM f' → K (vI P) f') → ((¬ Int32.ofNat aim = 1 → ((¬ Int32.ofNat aim = 2 → wX7_others f x2 K) ∧ (Int32.ofNat aim = 2 → wX7_worthWay f K))) ∧ (Int32.ofNat aim = 1 → K 1 f))
/-- numbers of both: which is the better one -/
def cmpV (aim : Nat) (vl : List Nat → Int64) (vI : List Nat → Int32) : Prop := (aim = 2 → ∀ P P', vl P < vl P' ↔ vI P < vI P') ∧ (aim = 3 → ∀ P P', vl P < vl P' ↔ ¬ vI P ≤ vI P')
/-- what is found, in the reference -/
def kmR (vl : List Nat → Int64) (vI : List Nat → Int32) (T : Nat) (f : St) (k : Option (Int64 × List Nat)) (x3 : Int32) : Prop := (k = none ∧ f 99 20 = 0) ∨ ∃ P : List Nat, k = some (vl P, P) ∧ f 99 20 = 1 ∧ f 99 21 = Int32.ofNat T ∧ (∀ i, i < T → f 22 i = Int32.ofNat (dyO P i)) ∧ x3 = vI P
theorem ikX7_find_75 {K171 : Int32 → St → Prop} {Q : Int64 → St → Prop} (I : Nat → Int32 → Int32 → Int32 → Int32 → St → Prop) (step : ∀ (K : Int32 → Int32 → Int32 → Int32 → St → Prop) (n : Nat) (x1 x2 x3 x4 : Int32) (f : St), I n x1 x2 x3 x4 f → (∀ (m : Nat) (y1 y2 y3 y4 : Int32) (f' : St), m < n → I m y1 y2 y3 y4 f' → K y1 y2 y3 y4 f') → wbX7_find_75 K K171 Q x1 x2 x3 x4 f) {n : Nat} {x1 x2 x3 x4 : Int32} {f : St} (h : I n x1 x2 x3 x4 f) : ∃ N : Nat, wlX7_find_75 K171 Q N x1 x2 x3 x4 f := by
  have key : ∀ N n, n < N → ∀ x1 x2 x3 x4 f, I n x1 x2 x3 x4 f → wlX7_find_75 K171 Q N x1 x2 x3 x4 f := by
    intro N
    induction N with
    | zero => intro n hn; omega
    | succ N ih => intro n hn x1 x2 x3 x4 f hI; exact step _ n x1 x2 x3 x4 f hI (fun m y1 y2 y3 y4 f' hm hI' => ih m (by omega) _ _ _ _ _ hI')
  exact ⟨n + 1, key (n + 1) n (by omega) _ _ _ _ _ h⟩
theorem fdA_c {aim : Nat} {vl : List Nat → Int64} {P : List Nat} {l : List (List Nat)} {n : Nat} {k : Option (Int64 × List Nat)} (ha : 2 ≤ aim) : (fdA aim vl (P :: l) (n, k)).2.2 = (fdA aim vl l (n + 1, ktA aim (vl P) P k)).2.2 := by
  have hs : stA aim (mtA aim vl (n, k) P) = false := by
    unfold stA
    rw [decide_eq_false (by omega : ¬ aim = 0), decide_eq_false (by omega : ¬ aim = 1)]
    rfl
  show (if stA aim (mtA aim vl (n, k) P) = true then (true, mtA aim vl (n, k) P) else fdA aim vl l (mtA aim vl (n, k) P)).2.2 = _
  rw [hs]
  rfl
theorem fdA_c1 {vl : List Nat → Int64} {P : List Nat} {l : List (List Nat)} {n : Nat} {k : Option (Int64 × List Nat)} : (fdA 1 vl (P :: l) (n, k)).2.2 = ktA 1 (vl P) P k := rfl
section
variable {g g1 : St} {T w : Nat}
theorem m_find {aim : Nat} {l0 : List Nat} {x2 : Int32} {vl : List Nat → Int64} {vI : List Nat → Int32} {MEM : St → Prop} {f : St} {Q : Int64 → St → Prop} (hlk : lkM g l0 T g1) (hT : g 99 0 = Int32.ofNat T) (hT6 : T ≤ 6) (hw : g 99 6 = Int32.ofNat w) (hw2 : 2 ≤ w) (hw7 : w ≤ 7) (ha1 : 1 ≤ aim) (ha3 : aim ≤ 3) (hMm : ∀ f f', f' 53 = f 53 → f' 54 = f 54 → MEM f → MEM f') (hev : evM aim x2 vI MEM T w g1) (hcv : cmpV aim vl vI) (hI1 : aim = 1 → ∀ P, vl P = 1) (hf : fnM g1 f) (hmem : MEM f) (h20 : f 99 20 = 0) (h21 : bN (f 99 21) 6) (h22 : rIn 6 (f 22) 0 6)
    (h : ∀ (f' : St) (x3 : Int32), fnM g1 f' → kmR vl vI T f' (fdA aim vl (wA (bA g l0 (g1 39)) T w (i_shl 1 (Int32.ofNat T) - 1)) (0, none)).2.2 x3 → bN (f' 99 21) 6 → rIn 6 (f' 22) 0 6 → ((f' 99 20 = 0 → Q (-4611686018427387903 : Int64) f') ∧ (¬ f' 99 20 = 0 → Q (Int32.toInt64 x3) f'))) : wbX7_find_62 Q (Int32.ofNat aim) x2 f := by
  generalize hset : i_shl 1 (Int32.ofNat T) - 1 = set at h
  generalize hL : wA (bA g l0 (g1 39)) T w set = L at h
  generalize hKF : (fdA aim vl L (0, none)).2.2 = KF at h
  have e0 : ∀ f : St, fnM g1 f → f 99 0 = Int32.ofNat T := fun f hf => by rw [hf.2 0 (by decide) (by decide), hlk.1 99 (by decide) (by decide) (by decide) (by decide)]; exact hT
  have e6 : ∀ f : St, fnM g1 f → f 99 6 = Int32.ofNat w := fun f hf => by rw [hf.2 6 (by decide) (by decide), hlk.1 99 (by decide) (by decide) (by decide) (by decide)]; exact hw
  have hmO : ∀ f : St, fnM g1 f → mOk (bA g l0 (g1 39)) T w f := fun f hf => mOk_of' hlk hT6 hw hw2 hw7 (hf.1 2 (by decide) (by decide) (by decide) (by decide) (by decide) (by decide) (by decide)) (hf.1 4 (by decide) (by decide) (by decide) (by decide) (by decide) (by decide) (by decide)) (hf.1 51 (by decide) (by decide) (by decide) (by decide) (by decide) (by decide) (by decide)) (e0 f hf) (e6 f hf)
  have h52a : ∀ (f : St) (P : List Nat), P.length = T → (∀ i, i < T → f 52 i = hO (iS set) P i) → ∀ i, i < T → f 52 i = i_shl 1 (Int32.ofNat (dyO P i)) := fun f P hl h i hi => by rw [h i hi, ← hset]; exact hO_all hT6 hl hi
  -- the loop
  have hloop : ∀ (k : Option (Int64 × List Nat)) (x3 x4 : Int32) (f : St), fnM g1 f → MEM f → kmR vl vI T f k x3 → bN (f 99 21) 6 → rIn 6 (f 22) 0 6 → ((x4 = 0 ∧ k = KF) ∨ (x4 = 1 ∧ ∃ (P : List Nat) (n : Nat), (fdA aim vl (P :: rs (frP (bA g l0 (g1 39)) (iS set)) (iS set) w T P) (n, k)).2.2 = KF ∧ P.length = T ∧ (∀ d ∈ P, d < w) ∧ (∀ i, i < T → f 52 i = hO (iS set) P i))) → ∃ N : Nat, wlX7_find_75 (fun (x3 : Int32) (f : St) => (((f 99 20) = (0 : Int32) → Q (-4611686018427387903 : Int64) f) ∧ (¬ (f 99 20) = (0 : Int32) → Q (Int32.toInt64 x3) f))) Q N (Int32.ofNat aim) x2 x3 x4 f := by
    intro k x3 x4 f a1 a2 a3 a4 a5 a6
    have hI : ∃ m, ∃ k, fnM g1 f ∧ MEM f ∧ kmR vl vI T f k x3 ∧ bN (f 99 21) 6 ∧ rIn 6 (f 22) 0 6 ∧ ((x4 = 0 ∧ k = KF) ∨ (x4 = 1 ∧ ∃ (P : List Nat) (n : Nat), (fdA aim vl (P :: rs (frP (bA g l0 (g1 39)) (iS set)) (iS set) w T P) (n, k)).2.2 = KF ∧ m = (rs (frP (bA g l0 (g1 39)) (iS set)) (iS set) w T P).length + 1 ∧ P.length = T ∧ (∀ d ∈ P, d < w) ∧ (∀ i, i < T → f 52 i = hO (iS set) P i))) := by
      rcases a6 with a6 | ⟨a6, P, n, b1, b2, b3, b4⟩
      · exact ⟨0, k, a1, a2, a3, a4, a5, Or.inl a6⟩
      · exact ⟨_, k, a1, a2, a3, a4, a5, Or.inr ⟨a6, P, n, b1, rfl, b2, b3, b4⟩⟩
    obtain ⟨m, hI⟩ := hI
    refine ikX7_find_75 (fun m y1 y2 y3 y4 f => y1 = Int32.ofNat aim ∧ y2 = x2 ∧ ∃ k, fnM g1 f ∧ MEM f ∧ kmR vl vI T f k y3 ∧ bN (f 99 21) 6 ∧ rIn 6 (f 22) 0 6 ∧ ((y4 = 0 ∧ k = KF) ∨ (y4 = 1 ∧ ∃ (P : List Nat) (n : Nat), (fdA aim vl (P :: rs (frP (bA g l0 (g1 39)) (iS set)) (iS set) w T P) (n, k)).2.2 = KF ∧ m = (rs (frP (bA g l0 (g1 39)) (iS set)) (iS set) w T P).length + 1 ∧ P.length = T ∧ (∀ d ∈ P, d < w) ∧ (∀ i, i < T → f 52 i = hO (iS set) P i)))) ?_ (n := m) ⟨rfl, rfl, hI⟩
    clear hI a1 a2 a3 a4 a5 a6
    intro K m y1 y2 y3 y4 f hP hK
    obtain ⟨rfl, rfl, k, hf, hmem, hkm, h21, h22, hx⟩ := hP
    unfold wbX7_find_75
    rcases hx with ⟨rfl, hk⟩ | ⟨rfl, P, n, hfd, hm, hPl, hPw, h52⟩
    · subst hk
      exact w0' (h f y3 hf hkm h21 h22)
    refine w1' ?_
    have h52' := h52a f P hPl h52
    refine hev f P _ hf hmem hPl hPw h52' (fun f2 hmk2 hmem2 => ?_)
    have hf2 := fnM_tr hf (fnM_mk hmk2)
    have e992 : f2 99 = f 99 := hmk2 99 (by decide) (by decide) (by decide) (by decide)
    have e222 : f2 22 = f 22 := hmk2 22 (by decide) (by decide) (by decide) (by decide)
    have e522 : f2 52 = f 52 := hmk2 52 (by decide) (by decide) (by decide) (by decide)
    -- going on from a state that has taken P in
    have h144 : ∀ (y3' : Int32) (f3 : St), fnM g1 f3 → MEM f3 → kmR vl vI T f3 (ktA aim (vl P) P k) y3' → bN (f3 99 21) 6 → rIn 6 (f3 22) 0 6 → f3 52 = f 52 → wbX7_find_144 K (fun (x3 : Int32) (f : St) => (((f 99 20) = (0 : Int32) → Q (-4611686018427387903 : Int64) f) ∧ (¬ (f 99 20) = (0 : Int32) → Q (Int32.toInt64 x3) f))) Q (Int32.ofNat aim) y2 y3' f3 := by
      intro y3' f3 c1 c2 c3 c4 c5 c6
      unfold wbX7_find_144 wbX7_find_165 wbX7_find_166 wX7_all
      have ea1 : (Int32.ofNat aim = 1) ↔ aim = 1 := n_eqI (b := 1) (by omega) (by decide)
      refine ⟨fun q => ?_, fun q => ?_⟩
      · have hq := ea1.mp q
        refine hK 0 _ _ _ _ _ (by omega) ⟨rfl, rfl, ktA aim (vl P) P k, c1, c2, c3, c4, c5, Or.inl ⟨rfl, ?_⟩⟩
        subst hq
        rw [fdA_c1] at hfd
        exact hfd
      · have hq : 2 ≤ aim := by
          have : ¬ aim = 1 := fun z => q (ea1.mpr z)
          omega
        rw [fdA_c hq] at hfd
        rw [e0 f3 c1, hset]
        refine m_next bA_ok (hmO f3 c1) hT6 hw7 (by omega) (fun _ _ => rfl) (fun i hi => by rw [c6]; exact h52 i hi) hPl hPw (fun h0 f4 hf4 => ?_) (fun P1 h1 hP1 hPw1 f4 hf4 h524 => ?_)
        · have e4 : f4 99 = f3 99 := hf4 99 (by decide)
          have e422 : f4 22 = f3 22 := hf4 22 (by decide)
          refine w0' (hK 0 _ _ _ _ _ (by omega) ⟨rfl, rfl, ktA aim (vl P) P k, fnM_tr c1 (fnM_52 hf4), hMm f3 f4 (hf4 53 (by decide)) (hf4 54 (by decide)) c2, by unfold kmR; rw [e4, e422]; exact c3, by rw [e4]; exact c4, by rw [e422]; exact c5, Or.inl ⟨rfl, ?_⟩⟩)
          rw [h0] at hfd
          exact hfd
        · have e4 : f4 99 = f3 99 := hf4 99 (by decide)
          have e422 : f4 22 = f3 22 := hf4 22 (by decide)
          refine w1' (hK _ _ _ _ _ _ ?_ ⟨rfl, rfl, ktA aim (vl P) P k, fnM_tr c1 (fnM_52 hf4), hMm f3 f4 (hf4 53 (by decide)) (hf4 54 (by decide)) c2, by unfold kmR; rw [e4, e422]; exact c3, by rw [e4]; exact c4, by rw [e422]; exact c5, Or.inr ⟨rfl, P1, n + 1, ?_, rfl, hP1, hPw1, h524⟩⟩)
          · rw [hm, h1, List.length_cons]
            omega
          · rw [h1] at hfd
            exact hfd
    -- P is kept
    have h137 : ktA aim (vl P) P k = some (vl P, P) → wbX7_find_137 K (fun (x3 : Int32) (f : St) => (((f 99 20) = (0 : Int32) → Q (-4611686018427387903 : Int64) f) ∧ (¬ (f 99 20) = (0 : Int32) → Q (Int32.toInt64 x3) f))) Q (Int32.ofNat aim) y2 (vI P) f2 := by
      intro hk
      unfold wbX7_find_137
      refine pX7_keeps (D := dyO P) (T := T) (e0 f2 hf2) hT6 (fun t ht => Nat.lt_of_lt_of_le (dyO_lt hPw (by omega)) hw7) (fun t ht => by rw [e522]; exact h52' t ht) (by rw [e222]; exact h22) (fun F hF hFr => ?_)
      refine h144 _ _ (fnM_tr hf2 ⟨fun r a1 _ _ _ _ _ a7 => by rw [updR_n a1, upd2_o a7, upd2_o a7], fun j a1 a2 => ?_⟩) (hMm f2 _ rfl rfl hmem2) ?_ ⟨T, hT6, rfl⟩ hFr e522
      · show upd2 (upd2 f2 99 20 1) 99 21 (Int32.ofNat T) 99 j = _
        rw [upd2_at, if_neg a2, upd2_at, if_neg a1]
      · rw [hk]
        exact Or.inr ⟨P, rfl, rfl, rfl, hF, rfl⟩
    have ha0 : ¬ aim = 0 := by omega
    have ea2 : (Int32.ofNat aim = 2) ↔ aim = 2 := n_eqI (b := 2) (by omega) (by decide)
    have ea3 : (Int32.ofNat aim = 3) ↔ aim = 3 := n_eqI (b := 3) (by omega) (by decide)
    have hno : ktA aim (vl P) P k = k → wbX7_find_144 K (fun (x3 : Int32) (f : St) => (((f 99 20) = (0 : Int32) → Q (-4611686018427387903 : Int64) f) ∧ (¬ (f 99 20) = (0 : Int32) → Q (Int32.toInt64 x3) f))) Q (Int32.ofNat aim) y2 y3 f2 := by
      intro hk
      refine h144 y3 f2 hf2 hmem2 ?_ (by rw [e992]; exact h21) (by rw [e222]; exact h22) e522
      rw [hk]
      unfold kmR
      rw [e992, e222]
      exact hkm
    unfold wbX7_find_106
    rw [e992]
    rcases hkm with ⟨hk, hk20⟩ | ⟨P', hk, hk20, hk21, hk22, hk3⟩
    · subst hk
      rw [hk20]
      refine w0' (h137 ?_)
      show (if aim = 0 then none else some (vl P, P)) = _
      rw [if_neg ha0]
    · rw [hk20]
      have hkt : ktA aim (vl P) P k = if vl P' < vl P then some (vl P, P) else k := by
        rw [hk]
        show (if aim = 0 then some (vl P', P') else if vl P' < vl P then some (vl P, P) else some (vl P', P')) = _
        rw [if_neg ha0]
      refine w1' ⟨fun q2 => ?_, fun q2 => ?_⟩
      · unfold wbX7_find_126
        refine ⟨fun q3 => ?_, fun q3 => ?_⟩
        · -- the first one: it can't be kept already
          have ha : aim = 1 := by
            have h2 : ¬ aim = 2 := fun z => q2 (ea2.mpr z)
            have h3 : ¬ aim = 3 := fun z => q3 (ea3.mpr z)
            omega
          subst ha
          by_cases c : vl P' < vl P
          · rw [hI1 rfl P, hI1 rfl P'] at c
            exact absurd c (by decide)
          · exact hno (by rw [hkt, if_neg c])
        · have ha := ea3.mp q3
          subst ha
          have hc := hcv.2 rfl P' P
          rw [hk3]
          refine ⟨fun c => ?_, fun c => ?_⟩
          · have := hno (by rw [hkt, if_neg (fun z => (hc.mp z) c)])
            rw [hk3] at this
            exact this
          · exact h137 (by rw [hkt, if_pos (hc.mpr c)])
      · have ha := ea2.mp q2
        subst ha
        have hc := hcv.1 rfl P' P
        rw [hk3]
        refine ⟨fun c => h137 (by rw [hkt, if_pos (hc.mpr c)]), fun c => ?_⟩
        unfold wbX7_find_126
        refine ⟨fun _ => ?_, fun q3 => absurd q3 (by decide)⟩
        have := hno (by rw [hkt, if_neg (fun z => c (hc.mp z))])
        rw [hk3] at this
        exact this
  unfold wbX7_find_62 wX7_all
  rw [e0 f hf, hset]
  refine m_first bA_ok (hmO f hf) hT6 hw7 (by omega) (fun _ _ => rfl) (fun h0 f2 hf2 => ?_) (fun P1 h1 hP1 hPw1 f2 hf2 h522 => ?_)
  · have e4 : f2 99 = f 99 := hf2 99 (by decide)
    have e422 : f2 22 = f 22 := hf2 22 (by decide)
    refine hloop none 0 0 f2 (fnM_tr hf (fnM_52 hf2)) (hMm f f2 (hf2 53 (by decide)) (hf2 54 (by decide)) hmem) (Or.inl ⟨rfl, by rw [e4]; exact h20⟩) (by rw [e4]; exact h21) (by rw [e422]; exact h22) (Or.inl ⟨rfl, ?_⟩)
    rw [← hKF, ← hL, h0]
    rfl
  · have e4 : f2 99 = f 99 := hf2 99 (by decide)
    have e422 : f2 22 = f 22 := hf2 22 (by decide)
    refine hloop none 0 1 f2 (fnM_tr hf (fnM_52 hf2)) (hMm f f2 (hf2 53 (by decide)) (hf2 54 (by decide)) hmem) (Or.inl ⟨rfl, by rw [e4]; exact h20⟩) (by rw [e4]; exact h21) (by rw [e422]; exact h22) (Or.inr ⟨rfl, P1, 0, ?_, hP1, hPw1, h522⟩)
    rw [← h1, hL]
    exact hKF
end
