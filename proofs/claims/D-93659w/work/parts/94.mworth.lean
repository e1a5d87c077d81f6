/-! PLAIN LAYER: worthNow, worthIn, worthAll of the reference -/
set_option maxRecDepth 100000
/-- the reference's state but for rows of looking -/
def mR (g g2 : St) : Prop := ∀ r, r ≠ 39 → r ≠ 49 → r ≠ 50 → r ≠ 51 → r ≠ 52 → g2 r = g r
def mQ (g g2 : St) : Prop := ∀ r, r ≠ 49 → r ≠ 50 → g2 r = g r
theorem mR_99 {g g2 : St} (h : mR g g2) : g2 99 = g 99 := h 99 (by decide) (by decide) (by decide) (by decide) (by decide)
theorem mR_S {g g2 : St} (h : mR g g2) : mS g g2 := fun r hr => h r (by omega) (by omega) (by omega) (by omega) (by omega)
theorem mRQ {g g2 g3 : St} (h : mR g g2) (h2 : mQ g2 g3) : mR g g3 := fun r a1 a2 a3 a4 a5 => (h2 r a2 a3).trans (h r a1 a2 a3 a4 a5)
theorem mQQ {g g2 g3 : St} (h : mQ g g2) (h2 : mQ g2 g3) : mQ g g3 := fun r a1 a2 => (h2 r a1 a2).trans (h r a1 a2)
theorem mR_part {g g2 : St} {p : Nat} {l : List Nat} (h : mR g g2) (hp : partL g p l) : partL g2 p l := mS_part (mR_S h) hp
theorem worthV_R {g g2 : St} {l : List Nat} {t : Nat} {d hours others : Int32} (h : mR g g2) : worthV g2 l t d hours others = worthV g l t d hours others := by
  unfold worthV
  rw [mR_99 h, h 1 (by decide) (by decide) (by decide) (by decide) (by decide), h 3 (by decide) (by decide) (by decide) (by decide) (by decide)]
section
variable {g g2 : St} {T w t : Nat} {l : List Nat} {Q : Int32 → St → Prop}
theorem pX7_worthNow (hr : mR g g2) (hl : partL g 1 l) (hT : g 99 0 = Int32.ofNat T) (hT6 : T ≤ 6) (hw : g 99 6 = Int32.ofNat w) (hw2 : 2 ≤ w) (hw7 : w ≤ 7) (ht : t < T) (h : ∀ f, mQ g2 f → Q (wsN g l (g2 39) (g2 52) T w t w) f) : wX7_worthNow g2 (Int32.ofNat t) Q := by
  unfold wX7_worthNow
  refine ijX7_worthNow_4_3 w 0 (by omega) (by omega) (fun d x1 x2 f => x1 = Int32.ofNat t ∧ x2 = wsN g l (g2 39) (g2 52) T w t d ∧ mQ g2 f) ?_ _ _ _ ⟨rfl, rfl, fun _ _ _ => rfl⟩
  intro K d x1 x2 f _ hd' hP hK
  obtain ⟨rfl, rfl, hq⟩ := hP
  have hrf := mRQ hr hq
  have e99 := mR_99 hrf
  have e39 : f 39 = g2 39 := hq 39 (by decide) (by decide)
  have e52 : f 52 = g2 52 := hq 52 (by decide) (by decide)
  unfold wbX7_worthNow_4
  rw [e99, hw, n_clamp (n := t) (by omega), e52]
  refine w_upto (by omega) hd' (fun q => ?_) (fun hlt => ⟨n_in (by omega) (by decide), fun q => ?_, fun q => ?_⟩)
  · subst q
    exact h f hq
  · intro x e
    rw [n_suc] at e
    subst e
    refine hK _ _ _ hlt ⟨rfl, ?_, hq⟩
    show _ = if i_shr (g2 52 t) (Int32.ofNat d) &&& 1 = 1 then _ else _
    rw [if_neg q]
  · have e : Int32.ofNat d + Int32.ofNat w - 1 = Int32.ofNat (d + w - 1) := by
      rw [n_add]
      exact n_sub (a := d + w) (b := 1) (by omega)
    have hm : (d + w - 1) % w < w := Nat.mod_lt _ (by omega)
    generalize hE : (d + w - 1) % w = E at hm
    have er : i_rem (Int32.ofNat d + g 99 6 - 1) (g 99 6) = Int32.ofNat E := by rw [hw, e, n_rem (by omega) (by omega), hE]
    have hw0 : ¬ g 99 6 = 0 := by
      rw [hw]
      intro q
      have := (n_eqI (a := w) (b := 0) (by omega) (by decide)).mp q
      omega
    refine icX7_worthNow_36_6 T 0 (by omega) (by omega) (fun _ => True) (fun _ => Int32.ofNat t) (fun _ => wsN g l (g2 39) (g2 52) T w t d) (fun _ => Int32.ofNat d) (fun n => hrN (g2 39) (g2 52) t E n) (fun n => otN (g2 52) t d n) (fun _ => f) trivial ?_
    intro K2 n _ hn _ hK2
    unfold wbX7_worthNow_36
    rw [e99, hT, er, n_clamp (n := n) (by omega), e52]
    refine w_upto (by omega) hn (fun z => ?_) (fun hlt2 => ?_)
    · subst z
      refine pX7_worthBy (by omega) (mR_part hrf hl) (fun F G => ?_)
      intro x2 e2 x3 e3
      rw [n_suc] at e3
      subst e3
      have hq2 : mQ f (updR (updR f 50 G) 49 F) := fun r h1 h2 => by rw [updR_n h1, updR_n h2]
      refine hK _ _ _ hlt ⟨rfl, ?_, mQQ hq hq2⟩
      rw [e2, worthV_R hrf]
      show _ = if i_shr (g2 52 t) (Int32.ofNat d) &&& 1 = 1 then _ else _
      rw [if_pos q]
      unfold wdV
      rw [hE]
    · have eq : (Int32.ofNat n = Int32.ofNat t) ↔ n = t := n_eqI (by omega) (by omega)
      have i1 : (6 : Int32) * Int32.ofNat t + Int32.ofNat n = Int32.ofNat (6 * t + n) := n_ix
      have hgo : ∀ v u, v = hrN (g2 39) (g2 52) t E (n + 1) → u = otN (g2 52) t d (n + 1) → wbX7_worthNow_142 K2 (fun (x1 : Int32) (x2 : Int32) (x3 : Int32) (x4 : Int32) (x5 : Int32) (f : St) => (wX7_worthBy f x1 x3 x4 x5 (fun r_5 f_4 => (∀ x2_6 : Int32, x2_6 = (x2 + r_5) → wbX7_worthNow_161 K Q x1 x2_6 x3 f_4)))) Q (Int32.ofNat t) (wsN g l (g2 39) (g2 52) T w t d) (Int32.ofNat d) v u (Int32.ofNat n) f := by
        intro v u hv hu x e
        rw [n_suc] at e
        subst e
        rw [hv, hu]
        exact hK2 hlt2 trivial
      refine ⟨fun z => hgo _ _ ?_ ?_, fun z => ⟨n_in (by omega) (by decide), hw0, ?_⟩⟩
      · show _ = if n = t then _ else _
        rw [if_pos (eq.mp z)]
      · show _ = if n = t then _ else _
        rw [if_pos (eq.mp z)]
      · have z' : ¬ n = t := fun y => z (eq.mpr y)
        have h124 : ∀ v, v = hrN (g2 39) (g2 52) t E (n + 1) → wbX7_worthNow_124 K2 (fun (x1 : Int32) (x2 : Int32) (x3 : Int32) (x4 : Int32) (x5 : Int32) (f : St) => (wX7_worthBy f x1 x3 x4 x5 (fun r_5 f_4 => (∀ x2_6 : Int32, x2_6 = (x2 + r_5) → wbX7_worthNow_161 K Q x1 x2_6 x3 f_4)))) Q (Int32.ofNat t) (wsN g l (g2 39) (g2 52) T w t d) (Int32.ofNat d) (otN (g2 52) t d n) (Int32.ofNat n) v f := by
          intro v hv
          unfold wbX7_worthNow_124
          rw [n_clamp (n := n) (by omega), e52]
          refine ⟨n_in (by omega) (by decide), fun x5 e5 => hgo _ _ hv ?_⟩
          show _ = if n = t then _ else if _ then _ else _
          rw [if_neg z', e5]
          rcases and1 (i_shr (g2 52 n) (Int32.ofNat d)) with y | y
          · rw [y, if_neg (by decide), Int32.add_zero]
          · rw [y, if_pos rfl]
        refine ⟨fun y => ?_, fun y => ?_⟩
        · unfold wbX7_worthNow_83 wbX7_worthNow_122
          refine w0' (h124 _ ?_)
          show _ = if n = t then _ else if _ then _ else _
          rw [if_neg z', if_neg y]
        · unfold wbX7_worthNow_83 wbX7_worthNow_122
          rw [i1, n_clamp (n := 6 * t + n) (by omega), e39]
          refine w1' ⟨n_in (by omega) (by decide), fun y2 => h124 _ ?_, fun y2 => ⟨n_in (by omega) (by decide), h124 _ ?_⟩⟩
          · show _ = if n = t then _ else if _ then (if _ then _ else _) else _
            rw [if_neg z', if_pos y, if_pos y2]
          · show _ = if n = t then _ else if _ then (if _ then _ else _) else _
            rw [if_neg z', if_pos y, if_neg y2]
theorem pX7_worthIn {k : Nat} (hk : k < 6) (hr : mR g g2) (hl : partL g 1 l) (hT : g 99 0 = Int32.ofNat T) (hT6 : T ≤ 6) (hw : g 99 6 = Int32.ofNat w) (hw2 : 2 ≤ w) (hw7 : w ≤ 7) (ht : t < T) (h : ∀ f, mQ g2 f → Q (waV g l (g2 39) (g2 52) T w k t) f) : wX7_worthIn g2 (Int32.ofNat k) (Int32.ofNat t) Q := by
  unfold waV at h
  have hkd : ∀ (v : Int32) (f : St), Q (kdV k v) f → wbX7_worthIn_28 Q (Int32.ofNat k) v f := by
    intro v f hv
    unfold kdV at hv
    have hkk : k = 0 ∨ k = 1 ∨ k = 2 ∨ k = 3 ∨ k = 4 ∨ k = 5 := by omega
    unfold wbX7_worthIn_28 wbX7_worthIn_50
    rcases hkk with q | q | q | q | q | q <;> subst q
    · exact ⟨fun _ => ⟨fun y => absurd y (by decide), fun _ => ⟨fun _ => ⟨fun _ => hv, fun y => absurd y (by decide)⟩, fun y => absurd y (by decide)⟩⟩, fun y => absurd y (by decide)⟩
    · exact ⟨fun _ => ⟨fun y => absurd y (by decide), fun _ => ⟨fun _ => ⟨fun _ => hv, fun y => absurd y (by decide)⟩, fun y => absurd y (by decide)⟩⟩, fun y => absurd y (by decide)⟩
    · exact ⟨fun y => absurd rfl y, fun _ => hv⟩
    · exact ⟨fun _ => ⟨fun _ => hv, fun y => absurd rfl y⟩, fun y => absurd y (by decide)⟩
    · exact ⟨fun _ => ⟨fun y => absurd y (by decide), fun _ => ⟨fun y => absurd rfl y, fun _ => hv⟩⟩, fun y => absurd y (by decide)⟩
    · exact ⟨fun _ => ⟨fun y => absurd y (by decide), fun _ => ⟨fun _ => ⟨fun y => absurd rfl y, fun _ => hv⟩, fun y => absurd y (by decide)⟩⟩, fun y => absurd y (by decide)⟩
  have k1 : (Int32.ofNat k = 1) ↔ k = 1 := n_eqI (b := 1) (by omega) (by decide)
  have k5 : (Int32.ofNat k = 5) ↔ k = 5 := n_eqI (b := 5) (by omega) (by decide)
  have h23 : ¬ (g2 52 t = 0 ∧ (k = 1 ∨ k = 5)) → wbX7_worthIn_23 Q (Int32.ofNat k) (Int32.ofNat t) g2 := by
    intro hn
    unfold wbX7_worthIn_23
    refine pX7_worthNow hr hl hT hT6 hw hw2 hw7 ht (fun f hf => hkd _ _ ?_)
    have := h f hf
    rw [if_neg hn] at this
    exact this
  have h19 : (g2 52 t = 0 ∧ (k = 1 ∨ k = 5)) → wbX7_worthIn_19 Q (Int32.ofNat k) g2 := by
    intro hn
    unfold wbX7_worthIn_19
    refine hkd _ _ ?_
    have := h g2 (fun _ _ _ => rfl)
    rw [if_pos hn] at this
    exact this
  unfold wX7_worthIn
  rw [n_clamp (by omega)]
  exact ⟨n_in (by omega) (by decide), fun q => h23 (fun y => q y.1), fun q => ⟨fun z => h19 ⟨q, Or.inl (k1.mp z)⟩, fun z => ⟨fun z2 => h23 (fun y => y.2.elim (fun y1 => z (k1.mpr y1)) (fun y1 => z2 (k5.mpr y1))), fun z2 => h19 ⟨q, Or.inr (k5.mp z2)⟩⟩⟩⟩
/-- a sum over towns, but for one -/
def saN (V : Nat → Int32) (but : Int32) : Nat → Int32
  | 0 => 0
  | n + 1 => saN V but n + (if Int32.ofNat n = but then 0 else V n)
def saL (V : Nat → Int32) (but : Int32) : Nat → Int64
  | 0 => 0
  | n + 1 => if Int32.ofNat n = but then saL V but n else saL V but n + (V n).toInt64
def saI (V : Nat → Int32) (but : Int32) : Nat → Int
  | 0 => 0
  | n + 1 => saI V but n + (if Int32.ofNat n = but then 0 else (V n).toInt)
theorem saI_in {V : Nat → Int32} {but : Int32} {N : Nat} (hV : ∀ n, n < N → -8000 ≤ (V n).toInt ∧ (V n).toInt ≤ 8000) : ∀ n, n ≤ N → -8000 * (n : Int) ≤ saI V but n ∧ saI V but n ≤ 8000 * n
  | 0, _ => by simp [saI]
  | n + 1, hn => by
    have ih := saI_in (but := but) hV n (by omega)
    have := hV n (by omega)
    unfold saI
    by_cases q : Int32.ofNat n = but
    · rw [if_pos q]; omega
    · rw [if_neg q]; omega
theorem saN_I {V : Nat → Int32} {but : Int32} {N : Nat} (hN : N ≤ 6) (hV : ∀ n, n < N → -8000 ≤ (V n).toInt ∧ (V n).toInt ≤ 8000) : ∀ n, n ≤ N → (saN V but n).toInt = saI V but n
  | 0, _ => rfl
  | n + 1, hn => by
    have ih := saN_I (but := but) hN hV n (by omega)
    have hb := saI_in (but := but) hV n (by omega)
    have hv := hV n (by omega)
    unfold saN saI
    by_cases q : Int32.ofNat n = but
    · rw [if_pos q, if_pos q, Int32.add_zero, ih]; omega
    · rw [if_neg q, if_neg q, i_add (by omega) (by omega), ih]
theorem saL_I {V : Nat → Int32} {but : Int32} {N : Nat} (hN : N ≤ 6) (hV : ∀ n, n < N → -8000 ≤ (V n).toInt ∧ (V n).toInt ≤ 8000) : ∀ n, n ≤ N → (saL V but n).toInt = saI V but n
  | 0, _ => rfl
  | n + 1, hn => by
    have ih := saL_I (but := but) hN hV n (by omega)
    have hb := saI_in (but := but) hV n (by omega)
    have hv := hV n (by omega)
    unfold saL saI
    by_cases q : Int32.ofNat n = but
    · rw [if_pos q, if_pos q, ih]; omega
    · rw [if_neg q, if_neg q, Int64.toInt_add, l_of, ih]
      exact Int.bmod_eq_of_le (by omega) (by omega)
theorem saN_L {V : Nat → Int32} {but : Int32} {N : Nat} (hN : N ≤ 6) (hV : ∀ n, n < N → -8000 ≤ (V n).toInt ∧ (V n).toInt ≤ 8000) : (saN V but N).toInt64 = saL V but N := by
  apply Int64.toInt_inj.mp
  rw [l_of, saN_I hN hV N (Nat.le_refl _), saL_I hN hV N (Nat.le_refl _)]
theorem saN_congr {V V' : Nat → Int32} {but : Int32} {N : Nat} (h : ∀ n, n < N → V n = V' n) : ∀ n, n ≤ N → saN V but n = saN V' but n
  | 0, _ => rfl
  | n + 1, hn => by
    unfold saN
    rw [saN_congr h n (by omega), h n (by omega)]
theorem pX7_worthAll {k : Nat} {but : Int32} (hk : k < 6) (hr : mR g g2) (hl : partL g 1 l) (hT : g 99 0 = Int32.ofNat T) (hT6 : T ≤ 6) (hw : g 99 6 = Int32.ofNat w) (hw2 : 2 ≤ w) (hw7 : w ≤ 7) (h : ∀ f, mQ g2 f → Q (saN (waV g l (g2 39) (g2 52) T w k) but T) f) : wX7_worthAll g2 (Int32.ofNat k) but Q := by
  unfold wX7_worthAll
  refine ijX7_worthAll_5_4 T 0 (by omega) (by omega) (fun n x1 x2 x3 f => x1 = Int32.ofNat k ∧ x2 = but ∧ x3 = saN (waV g l (g2 39) (g2 52) T w k) but n ∧ mQ g2 f) ?_ _ _ _ _ ⟨rfl, rfl, rfl, fun _ _ _ => rfl⟩
  intro K n x1 x2 x3 f _ hn hP hK
  obtain ⟨rfl, rfl, rfl, hq⟩ := hP
  have hrf := mRQ hr hq
  unfold wbX7_worthAll_5
  rw [mR_99 hrf, hT]
  refine w_upto (by omega) hn (fun q => ?_) (fun hlt => ⟨fun z => pX7_worthIn hk hrf hl hT hT6 hw hw2 hw7 hlt (fun f2 hf2 => ?_), fun z => ?_⟩)
  · subst q
    exact h f hq
  · intro x3 e3 x4 e4
    rw [n_suc] at e4
    subst e4
    refine hK _ _ _ _ hlt ⟨rfl, rfl, ?_, mQQ hq hf2⟩
    show _ = _ + (if Int32.ofNat n = _ then 0 else _)
    rw [e3, if_neg z, hq 39 (by decide) (by decide), hq 52 (by decide) (by decide)]
  · intro x3 e3 x4 e4
    rw [n_suc] at e4
    subst e4
    refine hK _ _ _ _ hlt ⟨rfl, rfl, ?_, hq⟩
    show _ = _ + (if Int32.ofNat n = _ then 0 else _)
    rw [e3, if_pos z]
end
/-! bounds -/
theorem wsN_in {g : St} {l : List Nat} {far H : Nat → Int32} {T w t : Nat} : ∀ n : Nat, n ≤ 7 → -999 * (n : Int) ≤ (wsN g l far H T w t n).toInt ∧ (wsN g l far H T w t n).toInt ≤ 999 * n
  | 0, _ => by
    show _ ≤ (0 : Int32).toInt ∧ (0 : Int32).toInt ≤ _
    rw [i0]; omega
  | n + 1, hn => by
    have ih := wsN_in (g := g) (l := l) (far := far) (H := H) (T := T) (w := w) (t := t) n (by omega)
    have hc : -999 ≤ (wdV g l far H T w t n).toInt ∧ (wdV g l far H T w t n).toInt ≤ 999 := clp_in
    unfold wsN
    by_cases q : i_shr (H t) (Int32.ofNat n) &&& 1 = 1
    · rw [if_pos q, i_add (by omega) (by omega)]; omega
    · rw [if_neg q]; omega
theorem i_half {v : Int32} (h1 : -8000 ≤ v.toInt) (h2 : v.toInt ≤ 8000) : -8000 ≤ (v / 2).toInt ∧ (v / 2).toInt ≤ 8000 := by
  rw [Int32.toInt_div_of_ne_right _ _ (by decide), show (2 : Int32).toInt = 2 by decide]
  by_cases h0 : 0 ≤ v.toInt
  · rw [Int.tdiv_eq_ediv_of_nonneg h0]
    omega
  · have e : v.toInt.tdiv 2 = -((-v.toInt).tdiv 2) := by rw [Int.neg_tdiv, Int.neg_neg]
    rw [e, Int.tdiv_eq_ediv_of_nonneg (by omega)]
    omega
theorem waV_in {g : St} {l : List Nat} {far H : Nat → Int32} {T w k t : Nat} (hw7 : w ≤ 7) : -8000 ≤ (waV g l far H T w k t).toInt ∧ (waV g l far H T w k t).toInt ≤ 8000 := by
  have hs := wsN_in (g := g) (l := l) (far := far) (H := H) (T := T) (w := w) (t := t) w hw7
  unfold waV
  have hv : ∀ v : Int32, -7000 ≤ v.toInt → v.toInt ≤ 7000 → -8000 ≤ (kdV k v).toInt ∧ (kdV k v).toInt ≤ 8000 := by
    intro v h1 h2
    have e1 : (1 : Int32).toInt = 1 := by decide
    have e2 : (2 : Int32).toInt = 2 := by decide
    unfold kdV
    by_cases k2 : k = 2
    · rw [if_pos k2]
      exact i_half (by omega) (by omega)
    · rw [if_neg k2]
      by_cases k3 : k = 3
      · rw [if_pos k3, i_sub (by omega) (by omega), e2]; omega
      · rw [if_neg k3]
        by_cases k4 : k = 4
        · rw [if_pos k4, i_sub (by omega) (by omega), e2]; omega
        · rw [if_neg k4]
          by_cases k5 : k = 5
          · rw [if_pos k5, i_add (by omega) (by omega), e1]; omega
          · rw [if_neg k5]; omega
  by_cases q : H t = 0 ∧ (k = 1 ∨ k = 5)
  · rw [if_pos q]
    exact hv _ (by rw [im1]; omega) (by rw [im1]; omega)
  · rw [if_neg q]
    exact hv _ (by omega) (by omega)
