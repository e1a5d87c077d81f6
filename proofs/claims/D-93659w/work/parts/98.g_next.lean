/-! PLAIN LAYER: the reference's nextWay -/
set_option maxRecDepth 100000
/-- what bars, as the search needs it -/
def bOk (B : (Nat → Int32) → Nat → Nat → Int32) (T : Nat) : Prop := (∀ (H H' : Nat → Int32) (a t : Nat), a ≤ t → t < T → (∀ i, i < T → H i = H' i) → B H a t = B H' a t) ∧ ∀ (H : Nat → Int32) (a t : Nat), a < t → t < T → H a = 0 → B H a t = 0
def mOk (B : (Nat → Int32) → Nat → Nat → Int32) (T w : Nat) (g1 : St) : Prop := g1 99 0 = Int32.ofNat T ∧ g1 99 6 = Int32.ofNat w ∧ ∀ f : St, (∀ r, r ≠ 52 → f r = g1 r) → ∀ (a t : Nat) (Q' : Int32 → St → Prop), a ≤ t → t < T → Q' (B (f 52) a t) f → wX7_doBar f (Int32.ofNat a) (Int32.ofNat t) Q'
section
variable {g1 : St} {T w : Nat} {B : (Nat → Int32) → Nat → Nat → Int32} {set : Int32} {Q : Int32 → St → Prop}
theorem m_free {P : List Nat} {f : St} {t : Nat} {Q : Int32 → St → Prop} (hB : bOk B T) (hm : mOk B T w g1) (hT6 : T ≤ 6) (hl : P.length = t + 1) (htT : t < T) (hs : iS set t = true) (hf : ∀ r, r ≠ 52 → f r = g1 r) (h52 : ∀ i, i < T → f 52 i = hO (iS set) P i) (h : Q (fl1 (frP B (iS set) P)) f) : wX7_isFree f (Int32.ofNat t) Q := by
  refine pX7_isFree (B := B) (s := iS set) (P := P) hl (by omega) (fun a Q' ha hq => hm.2.2 f hf a t Q' ha htT ?_) h
  by_cases c : iS set a = true
  · rw [if_pos c] at hq
    rw [hB.1 (f 52) (hO (iS set) P) a t ha htT h52]
    exact hq
  · rw [if_neg c] at hq
    have hne : a ≠ t := fun e => c (by rw [e]; exact hs)
    rw [hB.2 (f 52) a t (by omega) htT (by rw [h52 a (by omega)]; unfold hO; rw [if_neg (fun q => c q.2)])]
    exact hq
/-- where the reference stands in its search: goes on, or goes back -/
def nwI (B : (Nat → Int32) → Nat → Nat → Int32) (T w : Nat) (set : Int32) (g1 : St) (L : List (List Nat)) (n : Nat) (x1 x3 x4 : Int32) (f : St) : Prop := x1 = set ∧ ∃ P : List Nat, (∀ r, r ≠ 52 → f r = g1 r) ∧ (∀ i, i < T → f 52 i = hO (iS set) P i) ∧ P.length ≤ T ∧ (∀ d ∈ P, d < w) ∧
  ((x4 = 1 ∧ x3 = Int32.ofNat P.length ∧ L = wy (frP B (iS set)) (iS set) w (T - P.length) P ++ rs (frP B (iS set)) (iS set) w T P ∧ n = cy (frP B (iS set)) (iS set) w (T - P.length) P + cr (frP B (iS set)) (iS set) w T P) ∨ (x4 = 0 ∧ x3 = Int32.ofNat P.length - 1 ∧ L = rs (frP B (iS set)) (iS set) w T P ∧ n = cr (frP B (iS set)) (iS set) w T P))
theorem m_level {n k t : Nat} {P : List Nat} {f : St} {L : List (List Nat)} {K : Int32 → Int32 → Int32 → St → Prop} {K213 : Int32 → St → Prop} (hB : bOk B T) (hm : mOk B T w g1) (hT6 : T ≤ 6) (hw7 : w ≤ 7) (hl : P.length = t) (htT : t < T) (hs : iS set t = true) (hPw : ∀ d ∈ P, d < w) (hK : ∀ (m : Nat) (y1 y3 y4 : Int32) (f' : St), m < n → nwI B T w set g1 L m y1 y3 y4 f' → K y1 y3 y4 f') (hf : ∀ r, r ≠ 52 → f r = g1 r) (h52 : ∀ i, i < T → i ≠ t → f 52 i = hO (iS set) P i) (hk : k ≤ w) (h52t : f 52 t = i_shl 1 (Int32.ofNat k))
    (hL : L = wdF (fun d => if frP B (iS set) (d :: P) = true then wy (frP B (iS set)) (iS set) w (T - (t + 1)) (d :: P) else []) k (w - k) ++ rs (frP B (iS set)) (iS set) w T P)
    (hn : cdF (fun d => if frP B (iS set) (d :: P) = true then 1 + cy (frP B (iS set)) (iS set) w (T - (t + 1)) (d :: P) else 0) k (w - k) + cr (frP B (iS set)) (iS set) w T P < n) : ∃ N : Nat, wlX7_nextWay_118 (fun (x1 : Int32) (x3 : Int32) (f : St) => wbX7_nextWay_154 K K213 Q x1 x3 f) Q N set (Int32.ofNat t) f := by
  have hin : vp_in (Int32.ofNat t) 6 := n_in (by omega) (by decide)
  have h2p : ∀ x : Nat, x < 9 → 2 ^ x < 257 := fun x hx => Nat.lt_of_le_of_lt (Nat.pow_le_pow_right (by decide) (by omega : x ≤ 8)) (by decide)
  refine ilX7_nextWay_118 (fun x1 x3 f => x1 = set ∧ x3 = Int32.ofNat t ∧ ∃ k, k ≤ w ∧ (∀ r, r ≠ 52 → f r = g1 r) ∧ (∀ i, i < T → i ≠ t → f 52 i = hO (iS set) P i) ∧ f 52 t = i_shl 1 (Int32.ofNat k) ∧ L = wdF (fun d => if frP B (iS set) (d :: P) = true then wy (frP B (iS set)) (iS set) w (T - (t + 1)) (d :: P) else []) k (w - k) ++ rs (frP B (iS set)) (iS set) w T P ∧ cdF (fun d => if frP B (iS set) (d :: P) = true then 1 + cy (frP B (iS set)) (iS set) w (T - (t + 1)) (d :: P) else 0) k (w - k) + cr (frP B (iS set)) (iS set) w T P < n) (fun _ x3 f => 1000 - (f 52 x3.toNatClampNeg).toNatClampNeg) ?_ _ _ _ ⟨rfl, rfl, k, hk, hf, h52, h52t, hL, hn⟩
  clear hf h52 hk h52t hL hn
  intro K2 x1 x3 f hP hK2
  obtain ⟨rfl, rfl, k, hk, hf, h52, h52t, hL, hn⟩ := hP
  have e6 : f 99 6 = Int32.ofNat w := by rw [hf 99 (by decide)]; exact hm.2.1
  have ec : (Int32.ofNat t).toNatClampNeg = t := n_clamp (by omega)
  unfold wbX7_nextWay_118
  rw [ec, h52t, e6, shl_le (by omega) (by omega)]
  -- goes back
  have hback : k = w → wbX7_nextWay_154 K K213 Q x1 (Int32.ofNat t) f := by
    intro hkw
    subst hkw
    unfold wbX7_nextWay_154 wbX7_nextWay_174 wbX7_nextWay_196 wbX7_nextWay_208
    rw [ec, h52t, e6]
    refine ⟨hin, fun _ => w0' ⟨hin, fun f5 e5 => w0' (fun x3 e3 => ?_)⟩, fun q => absurd (Int32.le_refl _) q⟩
    rw [Nat.sub_self] at hL hn
    refine hK _ _ _ _ _ (Nat.lt_of_le_of_lt (Nat.le_add_left _ _) hn) ⟨rfl, P, fun r hr => by rw [e5, upd2_o hr]; exact hf r hr, fun i hi => ?_, by omega, hPw, Or.inr ⟨rfl, ?_, hL, rfl⟩⟩
    · rw [e5, upd2_at]
      by_cases c : i = t
      · rw [if_pos c, hO_up (by omega)]
      · rw [if_neg c]; exact h52 i hi c
    · rw [e3, hl, Int32.sub_eq_add_neg]
  refine ⟨hin, fun q => hback (by omega), fun q => ?_⟩
  have hkw : k < w := by omega
  have hlen : (k :: P).length = t + 1 := by rw [List.length_cons, hl]
  have h52' : ∀ i, i < T → f 52 i = hO (iS x1) (k :: P) i := by
    intro i hi
    by_cases c : i = t
    · subst c
      rw [h52t]
      have := hO_top (s := iS x1) (d := k) (P := P) (by rw [hl]; exact hs)
      rw [hl] at this
      exact this.symm
    · rw [hO_low (by omega)]; exact h52 i hi c
  refine m_free hB hm hT6 hlen htT hs hf h52' ?_
  rw [show w - k = (w - (k + 1)) + 1 by omega, wdF_s] at hL
  rw [show w - k = (w - (k + 1)) + 1 by omega, cdF_s] at hn
  by_cases hfr : frP B (iS x1) (k :: P) = true
  · rw [hfr]
    refine w1 ?_
    rw [if_pos hfr] at hL hn
    unfold wbX7_nextWay_154 wbX7_nextWay_174 wbX7_nextWay_196 wbX7_nextWay_208
    rw [ec, h52t, e6, shl_le (by omega) (by omega)]
    refine ⟨hin, fun z => by omega, fun z => w1' ⟨hin, hin, fun f5 e5 => w1' (fun x3 e3 => ?_)⟩⟩
    refine hK _ _ _ _ _ ?_ ⟨rfl, k :: P, fun r hr => by rw [e5, upd2_o hr]; exact hf r hr, fun i hi => ?_, by rw [hlen]; omega, fun d hd => ?_, Or.inl ⟨rfl, ?_, ?_, rfl⟩⟩
    · rw [cr_cons, hl, hlen, if_pos hs]
      omega
    · rw [e5, upd2_at]
      by_cases c : i = t
      · rw [if_pos c, c, ← h52t]; exact h52' t htT
      · rw [if_neg c]; exact h52' i hi
    · rcases List.mem_cons.mp hd with e | e
      · rw [e]; exact hkw
      · exact hPw d e
    · rw [e3, hlen, n_suc]
    · rw [hL, rs_cons, hl, hlen, if_pos hs, List.append_assoc]
  · have hfr' : frP B (iS x1) (k :: P) = false := Bool.eq_false_iff.mpr hfr
    rw [hfr']
    refine w0 ⟨hin, hin, fun f4 e4 => ?_⟩
    rw [if_neg hfr] at hL hn
    rw [h52t, shl_suc (by omega)] at e4
    refine hK2 _ _ _ ⟨rfl, rfl, k + 1, by omega, fun r hr => by rw [e4, upd2_o hr]; exact hf r hr, fun i hi hne => by rw [e4, upd2_at, if_neg hne]; exact h52 i hi hne, by rw [e4, upd2_at, if_pos rfl], hL, by omega⟩ ?_
    have e4t : f4 52 t = i_shl 1 (Int32.ofNat (k + 1)) := by rw [e4, upd2_at, if_pos rfl]
    show 1000 - (f4 52 (Int32.ofNat t).toNatClampNeg).toNatClampNeg < 1000 - (f 52 (Int32.ofNat t).toNatClampNeg).toNatClampNeg
    have h3 := h2p (k + 1) (by omega)
    have h4 := h2p k (by omega)
    have h5 : 2 ^ k < 2 ^ (k + 1) := Nat.pow_lt_pow_right (by decide) (by omega)
    rw [ec, e4t, h52t, shl_tab8 (k + 1) (by omega), shl_tab8 k (by omega), n_clamp (by omega), n_clamp (by omega)]
    omega
theorem m_48 {n : Nat} {x3 x4 : Int32} {f : St} {L : List (List Nat)} (hB : bOk B T) (hm : mOk B T w g1) (hT6 : T ≤ 6) (hw7 : w ≤ 7) (hw1 : 1 ≤ w) (hI : nwI B T w set g1 L n set x3 x4 f) (h0 : L = [] → ∀ f', (∀ r, r ≠ 52 → f' r = g1 r) → Q 0 f') (h1 : ∀ P1, L = P1 :: rs (frP B (iS set)) (iS set) w T P1 → P1.length = T → (∀ d ∈ P1, d < w) → ∀ f', (∀ r, r ≠ 52 → f' r = g1 r) → (∀ i, i < T → f' 52 i = hO (iS set) P1 i) → Q 1 f') : ∃ N : Nat, wlX7_nextWay_48 (fun (x3 : Int32) (f : St) => wbX7_nextWay_213 Q x3 f) Q N set x3 x4 f := by
  refine ikX7_nextWay_48 (nwI B T w set g1 L) ?_ hI
  clear hI
  intro K n x1 x3 x4 f hI hK
  have hI0 := hI
  obtain ⟨rfl, P, hf, h52, hlT, hPw, hd⟩ := hI
  have e0 : f 99 0 = Int32.ofNat T := by rw [hf 99 (by decide)]; exact hm.1
  unfold wbX7_nextWay_48
  rw [e0]
  rcases hd with ⟨rfl, rfl, hL, hn⟩ | ⟨rfl, rfl, hL, hn⟩
  · -- goes on
    refine ⟨fun q => absurd q (n_nn (by omega)), fun _ => w_upto (by omega) hlT (fun q => ?_) (fun hlt => ?_)⟩
    · show (¬ Int32.ofNat P.length = f 99 0 → Q 0 f) ∧ (Int32.ofNat P.length = f 99 0 → Q 1 f)
      rw [e0, q]
      rw [q, Nat.sub_self] at hL
      exact ⟨fun z => absurd rfl z, fun _ => h1 P hL q hPw f hf h52⟩
    · have hin : vp_in (Int32.ofNat P.length) 6 := n_in (by omega) (by decide)
      rw [n_clamp (n := P.length) (by omega)]
      have e52 : f 52 P.length = 0 := by rw [h52 _ hlt]; exact hO_up (Nat.le_refl _)
      rw [show T - P.length = (T - (P.length + 1)) + 1 by omega, wy_s] at hL
      rw [show T - P.length = (T - (P.length + 1)) + 1 by omega, cy_s] at hn
      refine ⟨fun z => ?_, fun z => ?_⟩
      · have hs : iS x1 P.length = true := decide_eq_true (and1_ne.mp z)
        rw [if_pos hs] at hL hn
        refine ⟨hin, fun y => absurd e52 y, fun _ => ?_⟩
        unfold wbX7_nextWay_117
        refine ⟨hin, fun f1 e1 => ?_⟩
        rw [n_clamp (n := P.length) (by omega)] at e1
        refine m_level (k := 0) (n := n) (t := P.length) hB hm hT6 hw7 rfl hlt hs hPw hK (fun r hr => by rw [e1, upd2_o hr]; exact hf r hr) (fun i hi hne => by rw [e1, upd2_at, if_neg hne]; exact h52 i hi) (by omega) (by rw [e1, upd2_at, if_pos rfl]; decide) hL (by rw [Nat.sub_zero]; omega)
      · have hs : ¬ iS x1 P.length = true := fun y => and1_ne.mpr (of_decide_eq_true y) z
        rw [if_neg hs] at hL hn
        refine ⟨hin, fun f7 e7 => w1' (fun x3 e3 => ?_)⟩
        refine hK _ _ _ _ _ ?_ ⟨rfl, 0 :: P, fun r hr => by rw [e7, upd2_o hr]; exact hf r hr, fun i hi => ?_, by rw [List.length_cons]; omega, fun d hd => ?_, Or.inl ⟨rfl, ?_, ?_, rfl⟩⟩
        · rw [cr_cons, if_neg hs, List.length_cons]
          omega
        · rw [e7, upd2_at]
          by_cases c : i = P.length
          · rw [if_pos c, c, hO_out hs]
          · rw [if_neg c, hO_low c]; exact h52 i hi
        · rcases List.mem_cons.mp hd with e | e
          · rw [e]; omega
          · exact hPw d e
        · rw [e3, List.length_cons, n_suc]
        · rw [hL, rs_cons, if_neg hs, List.length_cons]
          rfl
  · -- goes back
    rw [m1_lt (by omega)]
    refine ⟨fun q => ?_, fun q => ?_⟩
    · have hP : P = [] := List.length_eq_zero_iff.mp q
      subst hP
      show (¬ Int32.ofNat ([] : List Nat).length - 1 = f 99 0 → Q 0 f) ∧ (Int32.ofNat ([] : List Nat).length - 1 = f 99 0 → Q 1 f)
      rw [e0]
      refine ⟨fun _ => h0 hL f hf, fun z => ?_⟩
      have := congrArg Int32.toInt z
      rw [n_toInt (by omega)] at this
      have e : (Int32.ofNat ([] : List Nat).length - 1).toInt = -1 := by decide
      rw [e] at this
      omega
    · cases P with
      | nil => exact absurd rfl q
      | cons d P =>
        rw [List.length_cons] at hlT
        have hx : Int32.ofNat (d :: P).length - 1 = Int32.ofNat P.length := by
          rw [List.length_cons]
          exact n_pred (by omega)
        rw [hx]
        have hdw : d < w := hPw d (List.mem_cons_self ..)
        have hPw' : ∀ e ∈ P, e < w := fun e he => hPw e (List.mem_cons_of_mem _ he)
        have hin : vp_in (Int32.ofNat P.length) 6 := n_in (by omega) (by decide)
        refine w_upto (by omega) (by omega) (fun q => by omega) (fun hlt => ?_)
        rw [n_clamp (n := P.length) (by omega)]
        rw [rs_cons] at hL
        rw [cr_cons] at hn
        refine ⟨fun z => ?_, fun z => ?_⟩
        · have hs : iS x1 P.length = true := decide_eq_true (and1_ne.mp z)
          rw [if_pos hs] at hL hn
          have e52 : f 52 P.length = i_shl 1 (Int32.ofNat d) := by rw [h52 _ hlt]; exact hO_top hs
          rw [e52]
          refine ⟨hin, fun _ => ⟨hin, ?_⟩, fun y => absurd y (shl_ne0 (by omega))⟩
          rw [shl_suc (by omega)]
          unfold wbX7_nextWay_117
          refine ⟨hin, fun f1 e1 => ?_⟩
          rw [n_clamp (n := P.length) (by omega)] at e1
          refine m_level (k := d + 1) (n := n) (t := P.length) hB hm hT6 hw7 rfl hlt hs hPw' hK (fun r hr => by rw [e1, upd2_o hr]; exact hf r hr) (fun i hi hne => by rw [e1, upd2_at, if_neg hne, h52 i hi]; exact hO_low hne) (by omega) (by rw [e1, upd2_at, if_pos rfl]) hL (by omega)
        · have hs : ¬ iS x1 P.length = true := fun y => and1_ne.mpr (of_decide_eq_true y) z
          rw [if_neg hs] at hL hn
          refine ⟨hin, fun f7 e7 => w0' (fun x3 e3 => ?_)⟩
          refine hK _ _ _ _ _ ?_ ⟨rfl, P, fun r hr => by rw [e7, upd2_o hr]; exact hf r hr, fun i hi => ?_, by omega, hPw', Or.inr ⟨rfl, ?_, hL, rfl⟩⟩
          · omega
          · rw [e7, upd2_at]
            by_cases c : i = P.length
            · rw [if_pos c, c, hO_up (Nat.le_refl _)]
            · rw [if_neg c, h52 i hi]; exact hO_low c
          · rw [e3, Int32.sub_eq_add_neg]
/-- all ways of the set -/
def wA (B : (Nat → Int32) → Nat → Nat → Int32) (T w : Nat) (set : Int32) : List (List Nat) := wy (frP B (iS set)) (iS set) w T []
theorem m_first {f : St} (hB : bOk B T) (hm : mOk B T w g1) (hT6 : T ≤ 6) (hw7 : w ≤ 7) (hw1 : 1 ≤ w) (hf : ∀ r, r ≠ 52 → f r = g1 r) (h0 : wA B T w set = [] → ∀ f', (∀ r, r ≠ 52 → f' r = g1 r) → Q 0 f') (h1 : ∀ P1, wA B T w set = P1 :: rs (frP B (iS set)) (iS set) w T P1 → P1.length = T → (∀ d ∈ P1, d < w) → ∀ f', (∀ r, r ≠ 52 → f' r = g1 r) → (∀ i, i < T → f' 52 i = hO (iS set) P1 i) → Q 1 f') : wX7_nextWay f set 1 Q := by
  unfold wX7_nextWay
  refine w1' ?_
  unfold wbX7_nextWay_14
  refine w1' ?_
  refine ijX7_nextWay_25_5 T 0 (by omega) (by omega) (fun k x1 x3 x4 f => x1 = set ∧ x3 = 0 ∧ x4 = 1 ∧ (∀ r, r ≠ 52 → f r = g1 r) ∧ ∀ i, i < k → f 52 i = 0) ?_ _ _ _ _ ⟨rfl, rfl, rfl, hf, fun i hi => absurd hi (Nat.not_lt_zero _)⟩
  clear hf
  intro K k x1 x3 x4 f _ hk hP hK
  obtain ⟨rfl, rfl, rfl, hf, hz⟩ := hP
  have e0 : f 99 0 = Int32.ofNat T := by rw [hf 99 (by decide)]; exact hm.1
  unfold wbX7_nextWay_25
  rw [e0]
  refine w_upto (by omega) hk (fun q => ?_) (fun hlt => ?_)
  · subst q
    refine m_48 (n := cy (frP B (iS x1)) (iS x1) w k [] + cr (frP B (iS x1)) (iS x1) w k []) (L := wA B k w x1) hB hm hT6 hw7 hw1 ⟨rfl, [], hf, fun i hi => ?_, by simp, fun d hd => absurd hd (List.not_mem_nil), Or.inl ⟨rfl, rfl, ?_, rfl⟩⟩ h0 h1
    · rw [hz i hi, hO_up (by simp)]
    · unfold wA
      show _ = wy _ _ w (k - 0) [] ++ []
      rw [List.append_nil, Nat.sub_zero]
  · rw [n_clamp (n := k) (by omega)]
    refine ⟨n_in (by omega) (by decide), fun f9 e9 x5 e5 => ?_⟩
    rw [n_suc] at e5
    subst e5
    refine hK _ _ _ _ hlt ⟨rfl, rfl, rfl, fun r hr => by rw [e9, upd2_o hr]; exact hf r hr, fun i hi => ?_⟩
    rw [e9, upd2_at]
    by_cases c : i = k
    · rw [if_pos c]
    · rw [if_neg c]; exact hz i (by omega)
theorem m_next {f : St} {P : List Nat} (hB : bOk B T) (hm : mOk B T w g1) (hT6 : T ≤ 6) (hw7 : w ≤ 7) (hw1 : 1 ≤ w) (hf : ∀ r, r ≠ 52 → f r = g1 r) (h52 : ∀ i, i < T → f 52 i = hO (iS set) P i) (hl : P.length = T) (hPw : ∀ d ∈ P, d < w) (h0 : rs (frP B (iS set)) (iS set) w T P = [] → ∀ f', (∀ r, r ≠ 52 → f' r = g1 r) → Q 0 f') (h1 : ∀ P1, rs (frP B (iS set)) (iS set) w T P = P1 :: rs (frP B (iS set)) (iS set) w T P1 → P1.length = T → (∀ d ∈ P1, d < w) → ∀ f', (∀ r, r ≠ 52 → f' r = g1 r) → (∀ i, i < T → f' 52 i = hO (iS set) P1 i) → Q 1 f') : wX7_nextWay f set 0 Q := by
  unfold wX7_nextWay
  refine w0' ?_
  unfold wbX7_nextWay_14
  refine w0' ?_
  have e0 : f 99 0 = Int32.ofNat T := by rw [hf 99 (by decide)]; exact hm.1
  rw [e0]
  exact m_48 (n := cr (frP B (iS set)) (iS set) w T P) (L := rs (frP B (iS set)) (iS set) w T P) hB hm hT6 hw7 hw1 ⟨rfl, P, hf, h52, by omega, hPw, Or.inr ⟨rfl, by rw [hl], rfl, rfl⟩⟩ h0 h1
end
