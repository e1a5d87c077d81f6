/-! PLAIN LAYER: round -/
set_option maxRecDepth 100000
section
variable {far sz H : Nat → Int32} {st : Int32} {home T w pack : Nat} {R R' : Nat → Nat}
theorem rdT_congr : ∀ d, (∀ e, e < d → R e = R' e) → rdT home R d = rdT home R' d
  | 0, _ => rfl
  | d + 1, h => h d (by omega)
theorem rdL_congr : ∀ d, (∀ e, e < d → R e = R' e) → rdL sz H pack R d = rdL sz H pack R' d
  | 0, _ => rfl
  | d + 1, h => by
    unfold rdL
    rw [rdL_congr d (fun e he => h e (by omega)), h d (by omega)]
theorem okR_congr {d : Nat} (h : ∀ e, e ≤ d → R e = R' e) (hk : okR far sz H st home T w pack R d) : okR far sz H st home T w pack R' d := by
  unfold okR at hk ⊢
  rw [← rdT_congr d (fun e he => h e (by omega)), ← rdL_congr d (fun e he => h e (by omega)), ← h d (Nat.le_refl _)]
  exact hk
end
section
variable {b o : Nat} {cs ad : Nat → Nat} {vs : Nat → Option Nat} {S : XS} {g : St} {T w home pack st : Nat} {far sz H : Nat → Int32}
/-- the class's way along the table -/
theorem x_way {A : Nat → Int32} {S2 : XS} {Q : Int32 → XS → Prop} (hr : rxR far sz H T w S2) (h27 : S2.1 27 = A) (hT6 : T ≤ 6) (hw7 : w ≤ 7) (hz : ∀ q, q < T → 0 ≤ (sz q).toInt ∧ (sz q).toInt ≤ 99) (hp : pack ≤ 40) (hh : home < T) (hne0 : ¬ tb far sz H (Int32.ofNat st) home T w w home pack = -1) (hA : ∀ d t L, d ≤ w → t < T → L ≤ pack → A ((d * 6 + t) * 41 + L) = tb far sz H (Int32.ofNat st) home T w (w - d) t L) (h : ∀ (R : Nat → Nat) (B : Nat → Int32), (∀ e, e < w → okR far sz H (Int32.ofNat st) home T w pack R e ∧ B e = Int32.ofNat (R e)) → Q (Int32.ofNat pack - Int32.ofNat (rdL sz H pack R w)) (updR S2.1 29 B, S2.2)) : ∃ n : Nat, wlX0_round_60 b cs ad vs o Q n (Int32.ofNat st) (Int32.ofNat pack) (Int32.ofNat home) (Int32.ofNat pack) (0 : Int32) S2 := by
  have hrB : ∀ B, rxR far sz H T w (updR S2.1 29 B, S2.2) := fun B => hr
  have hS0 : S2 = (updR S2.1 29 (S2.1 29), S2.2) := by rw [updR_self]
  refine ijX0_round_60_8 w 0 (by omega) (by omega) (fun d x4 x5 x6 x7 f => x4 = Int32.ofNat st ∧ x5 = Int32.ofNat pack ∧ ∃ (R : Nat → Nat) (B : Nat → Int32), x6 = Int32.ofNat (rdT home R d) ∧ x7 = Int32.ofNat (rdL sz H pack R d) ∧ f = (updR S2.1 29 B, S2.2) ∧ ∀ e, e < d → okR far sz H (Int32.ofNat st) home T w pack R e ∧ B e = Int32.ofNat (R e)) ?_ _ _ _ _ _ ⟨rfl, rfl, fun _ => 0, S2.1 29, rfl, rfl, hS0, fun e he => absurd he (Nat.not_lt_zero _)⟩
  intro K d x4 x5 x6 x7 f _ hd hP hK
  obtain ⟨rfl, rfl, R, B, rfl, rfl, rfl, hR⟩ := hP
  unfold wbX0_round_60
  rw [(hrB B).2.1]
  refine w_upto (by omega) hd (fun q => ?_) (fun hlt => ?_)
  · subst q
    exact h R B hR
  · have ht : rdT home R d < T := by
      cases d with
      | zero => exact hh
      | succ d => exact (hR d (by omega)).1.1
    have hLp := rdL_le (sz := sz) (H := H) (pack := pack) (R := R) d
    have hne := rd_ne hp hne0 d hd (fun e he => (hR e he).1)
    generalize ht0 : rdT home R d = t at *
    generalize hL0 : rdL sz H pack R d = L at *
    have hex : ∃ q, q < T ∧ sbV far sz H (Int32.ofNat st) (tb far sz H (Int32.ofNat st) home T w (w - (d + 1))) d t L q = tb far sz H (Int32.ofNat st) home T w (w - d) t L := by
      have e := tb_d (far := far) (sz := sz) (H := H) (st := Int32.ofNat st) (home := home) (T := T) (t := t) (L := L) hlt
      rw [e] at hne
      obtain ⟨q, hq, eq⟩ := bsN_at (tb_ok _) (by omega) T hne
      exact ⟨q, hq, by rw [e]; exact eq⟩
    refine ijX0_round_72_9 T 0 (by omega) (by omega) (fun q x4 x5 x6 x7 x8 f => x4 = Int32.ofNat st ∧ x5 = Int32.ofNat pack ∧ x6 = Int32.ofNat t ∧ x7 = Int32.ofNat L ∧ x8 = Int32.ofNat d ∧ f = (updR S2.1 29 B, S2.2) ∧ ∀ q', q' < q → ¬ sbV far sz H (Int32.ofNat st) (tb far sz H (Int32.ofNat st) home T w (w - (d + 1))) d t L q' = tb far sz H (Int32.ofNat st) home T w (w - d) t L) ?_ _ _ _ _ _ _ ⟨rfl, rfl, rfl, rfl, rfl, rfl, fun q' hq => absurd hq (Nat.not_lt_zero _)⟩
    intro K2 q x4 x5 x6 x7 x8 f _ hq hP hK2
    obtain ⟨rfl, rfl, rfl, rfl, rfl, rfl, hno⟩ := hP
    have hqT : q < T := by
      obtain ⟨q2, h2, e2⟩ := hex
      by_cases c : q < T
      · exact c
      · exact absurd e2 (hno q2 (by omega))
    have hsl := slN_le (sz := sz) (H := H) (o := q) (d := d) (L := L)
    have i1 : (6 : Int32) * Int32.ofNat t + Int32.ofNat q = Int32.ofNat (6 * t + q) := n_ix
    have e1 : Int32.ofNat d + 1 = Int32.ofNat (d + 1) := n_suc
    have hgo : ¬ sbV far sz H (Int32.ofNat st) (tb far sz H (Int32.ofNat st) home T w (w - (d + 1))) d t L q = tb far sz H (Int32.ofNat st) home T w (w - d) t L → ∀ K3, wbX0_round_164 b cs ad vs o K2 K3 Q (Int32.ofNat st) (Int32.ofNat pack) (Int32.ofNat t) (Int32.ofNat L) (Int32.ofNat d) (Int32.ofNat q) (updR S2.1 29 B, S2.2) := by
      intro hn K3 x9 e9
      rw [n_suc] at e9
      subst e9
      refine hK2 _ _ _ _ _ _ hqT ⟨rfl, rfl, rfl, rfl, rfl, rfl, fun q' hq' => ?_⟩
      by_cases c : q' = q
      · subst c; exact hn
      · exact hno q' (by omega)
    have hmA : ∀ d' t' L', d' ≤ w → t' < T → L' ≤ pack → ((updR S2.1 29 B, S2.2) : XS).1 27 ((d' * 6 + t') * 41 + L') = tb far sz H (Int32.ofNat st) home T w (w - d') t' L' := by
      intro d' t' L' h1 h2 h3
      show S2.1 27 _ = _
      rw [h27]
      exact hA d' t' L' h1 h2 h3
    unfold wbX0_round_72
    rw [i1, n_clamp (by omega), (hrB B).2.2.2.2 t q ht hqT]
    refine ⟨n_in (by omega) (by decide), fun c => hgo ?_ _, fun c => x_sell (hrB B) hT6 hz hqT (by omega) ?_⟩
    · unfold sbV
      rw [if_neg (fun y => by have := i_le.mp y; have := i_lt.mp c; omega)]
      exact fun z => hne z.symm
    · have c' : far (6 * t + q) ≤ Int32.ofNat st := i_le.mpr (by
        have : ¬ (Int32.ofNat st).toInt < (far (6 * t + q)).toInt := fun y => c (i_lt.mpr y)
        omega)
      rw [e1, n_sub hsl]
      refine x_most (by omega) (by omega) (by omega) ?_
      rw [hmA (d + 1) q _ (by omega) hqT (by omega)]
      refine ⟨fun y => hgo ?_ _, fun y => ?_⟩
      · unfold sbV
        rw [if_pos c', if_pos y]
        exact fun z => hne z.symm
      · refine x_sell (hrB B) hT6 hz hqT (by omega) (x_sell (hrB B) hT6 hz hqT (by omega) ?_)
        rw [n_sub hsl]
        refine x_most (by omega) (by omega) (by omega) (x_most (by omega) (by omega) (by omega) ?_)
        rw [hmA (d + 1) q _ (by omega) hqT (by omega), hmA d t L (by omega) ht hLp]
        have es : sbV far sz H (Int32.ofNat st) (tb far sz H (Int32.ofNat st) home T w (w - (d + 1))) d t L q = Int32.ofNat (slN sz H q d L) + tb far sz H (Int32.ofNat st) home T w (w - (d + 1)) q (L - slN sz H q d L) := by
          unfold sbV
          rw [if_pos c', if_neg y]
        rw [← es]
        refine ⟨fun z => ?_, fun z => hgo z _⟩
        -- found
        refine x_sell (hrB B) hT6 hz hqT (by omega) (fun x7 e7 => ⟨n_in (by omega) (by decide), fun f33 e33 x8 e8 => ?_⟩)
        rw [n_suc] at e8
        subst e8
        rw [n_sub hsl] at e7
        rw [n_clamp (by omega)] at e33
        have e33' : f33 = (updR S2.1 29 (upd B d (Int32.ofNat q)), S2.2) := by
          rw [e33, updR_upd2']
        have hc : ∀ e, e < d → R e = (fun e => if e = d then q else R e) e := by
          intro e he
          show R e = if e = d then q else R e
          rw [if_neg (by omega)]
        have hqd : (fun e => if e = d then q else R e) d = q := by
          show (if d = d then q else R d) = q
          rw [if_pos rfl]
        refine hK _ _ _ _ _ hlt ⟨rfl, rfl, fun e => if e = d then q else R e, upd B d (Int32.ofNat q), ?_, ?_, e33', fun e he => ?_⟩
        · show _ = Int32.ofNat ((fun e => if e = d then q else R e) d)
          rw [hqd]
        · show _ = Int32.ofNat (rdL sz H pack (fun e => if e = d then q else R e) d - slN sz H ((fun e => if e = d then q else R e) d) d (rdL sz H pack (fun e => if e = d then q else R e) d))
          rw [hqd, ← rdL_congr d hc, hL0, e7]
        · by_cases c2 : e = d
          · subst c2
            refine ⟨?_, ?_⟩
            · unfold okR
              rw [hqd, ← rdT_congr e hc, ← rdL_congr e hc, ht0, hL0]
              exact ⟨hqT, z, hno⟩
            · rw [hqd]
              exact upd_s
          · obtain ⟨k1, k2⟩ := hR e (by omega)
            refine ⟨okR_congr (fun e2 he2 => hc e2 (by omega)) k1, ?_⟩
            rw [upd_n c2, k2, ← hc e (by omega)]
/-- the reference's way along its table -/
theorem m_way {A : Nat → Int32} {g3 : St} {Q : Int32 → St → Prop} {R : Nat → Nat} (hr : rmR far sz H T w g3) (h55 : g3 55 = A) (hT6 : T ≤ 6) (hw7 : w ≤ 7) (hw1 : 1 ≤ w) (hz : ∀ q, q < T → 0 ≤ (sz q).toInt ∧ (sz q).toInt ≤ 99) (hp : pack ≤ 40) (hh : home < T) (hA : ∀ d t L, d < w → t < T → L ≤ pack → A (246 * d + 41 * t + L) = tb far sz H (Int32.ofNat st) home T w (w - d) t L) (hR : ∀ e, e < w → okR far sz H (Int32.ofNat st) home T w pack R e) (h24 : rIn 7 (g3 24) 0 5) (h : ∀ B, (∀ e, e < w → B e = Int32.ofNat (R e)) → rIn 7 B 0 5 → Q (tb far sz H (Int32.ofNat st) home T w w home pack) (updR g3 24 B)) : ∃ n : Nat, wlX7_round_205 (fun (x3 : Int32) (x5 : Int32) (f : St) => (vp_in (((41 : Int32) * x3) + x5) 1968 ∧ Q (f 55 (Int32.toNatClampNeg (((41 : Int32) * x3) + x5))) f)) Q n (Int32.ofNat home) (Int32.ofNat st) (Int32.ofNat pack) (Int32.ofNat home) (Int32.ofNat pack) (0 : Int32) g3 := by
  have hrB : ∀ B, rmR far sz H T w (updR g3 24 B) := fun B => hr
  have hS0 : g3 = updR g3 24 (g3 24) := by rw [updR_self]
  refine ijX7_round_205_8 w 0 (by omega) (by omega) (fun d x3 x4 x5 x6 x7 f => x3 = Int32.ofNat home ∧ x4 = Int32.ofNat st ∧ x5 = Int32.ofNat pack ∧ x6 = Int32.ofNat (rdT home R d) ∧ x7 = Int32.ofNat (rdL sz H pack R d) ∧ ∃ B : Nat → Int32, f = updR g3 24 B ∧ rIn 7 B 0 5 ∧ ∀ e, e < d → B e = Int32.ofNat (R e)) ?_ _ _ _ _ _ _ ⟨rfl, rfl, rfl, rfl, rfl, g3 24, hS0, h24, fun e he => absurd he (Nat.not_lt_zero _)⟩
  intro K d x3 x4 x5 x6 x7 f _ hd hP hK
  obtain ⟨rfl, rfl, rfl, rfl, rfl, B, rfl, hB, hBR⟩ := hP
  have h55' : (updR g3 24 B) 55 = A := h55
  unfold wbX7_round_205
  rw [(hrB B).2.1]
  refine w_upto (by omega) hd (fun q => ?_) (fun hlt => ?_)
  · subst q
    have e : (41 : Int32) * Int32.ofNat home + Int32.ofNat pack = Int32.ofNat (41 * home + pack) := by
      have e2 : (41 : Int32) * Int32.ofNat home = Int32.ofNat (41 * home) := n_mul (a := 41)
      rw [e2, n_add]
    rw [e, n_clamp (by omega), h55']
    refine ⟨n_in (by omega) (by decide), ?_⟩
    have hA0 := hA 0 home pack (by omega) hh (Nat.le_refl _)
    rw [show 246 * 0 + 41 * home + pack = 41 * home + pack by omega, Nat.sub_zero] at hA0
    rw [hA0]
    exact h B hBR hB
  · obtain ⟨hRT, hReq, hRno⟩ := hR d hlt
    have ht : rdT home R d < T := by
      cases d with
      | zero => exact hh
      | succ d => exact (hR d (by omega)).1
    have hLp := rdL_le (sz := sz) (H := H) (pack := pack) (R := R) d
    refine ijX7_round_217_9 (R d) 0 (by omega) (by omega) (fun q x3 x4 x5 x6 x7 x8 f => x3 = Int32.ofNat home ∧ x4 = Int32.ofNat st ∧ x5 = Int32.ofNat pack ∧ x6 = Int32.ofNat (rdT home R d) ∧ x7 = Int32.ofNat (rdL sz H pack R d) ∧ x8 = Int32.ofNat d ∧ f = updR g3 24 B) ?_ _ _ _ _ _ _ _ ⟨rfl, rfl, rfl, rfl, rfl, rfl, rfl⟩
    intro K2 q x3 x4 x5 x6 x7 x8 f _ hq hP hK2
    obtain ⟨rfl, rfl, rfl, rfl, rfl, rfl, rfl⟩ := hP
    unfold wbX7_round_217
    refine pX7_soldBy (hrB B) hT6 hw7 hz hlt ht (by omega) (by omega) hh (fun hD l hl => ?_) ?_
    · rw [h55']
      exact hA (d + 1) q l hD (by omega) (by omega)
    · rw [m_ix, n_clamp (by omega), h55', hA d _ _ hlt ht hLp]
      refine ⟨n_in (by omega) (by decide), fun y => ?_, fun y => ?_⟩
      · have hqR : q = R d := by
          by_cases c : q < R d
          · exact absurd y (hRno q c)
          · omega
        subst hqR
        have hsl := slN_le (sz := sz) (H := H) (o := R d) (d := d) (L := rdL sz H pack R d)
        refine pX7_sold (by omega) (fun x7 e7 => ⟨n_in (by omega) (by decide), fun f28 e28 x8 e8 => ?_⟩)
        rw [n_suc] at e8
        subst e8
        rw [slV_congr ((hrB B).2.2.1 (R d) hRT) ((hrB B).2.2.2.1 (R d) hRT), slV_N (hz (R d) hRT).1 (hz (R d) hRT).2 (by omega), n_sub hsl] at e7
        rw [n_clamp (by omega), updR_upd2'] at e28
        refine hK _ _ _ _ _ _ hlt ⟨rfl, rfl, rfl, rfl, e7, _, e28, rIn_upd hB (by rw [n_toInt (by omega)]; omega) (by rw [n_toInt (by omega)]; omega), fun e he => ?_⟩
        by_cases c : e = d
        · subst c; exact upd_s
        · rw [upd_n c]; exact hBR e (by omega)
      · have hqR : q < R d := by
          by_cases c : q < R d
          · exact c
          · have : q = R d := by omega
            subst this
            exact absurd hReq y
        intro x9 e9
        rw [n_suc] at e9
        subst e9
        exact hK2 _ _ _ _ _ _ _ hqR ⟨rfl, rfl, rfl, rfl, rfl, rfl, rfl⟩
theorem far_home {road old : Nat → Int32} {st : Nat} (hT6 : T ≤ 6) (hh : home < T) (hr : rIn 36 road 0 50) : farF T road old (6 * home + home) ≤ Int32.ofNat st → True := fun _ => trivial
end
