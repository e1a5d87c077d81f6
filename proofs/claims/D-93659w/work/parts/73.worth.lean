/-! PLAIN LAYER: the reference's worth of a part -/
set_option maxRecDepth 100000
theorem len_drop1 {st : List Int32} : (st.drop 1).length = st.length - 1 := by simp
theorem len_drop2 {st : List Int32} : (st.drop 2).length = st.length - 2 := by simp
theorem getD_drop1 {st : List Int32} : (st.drop 1).getD 0 0 = st.getD 1 0 := by simp [List.getD]
theorem pX7_worth {g : St} {Q : Int32 → St → Prop} {r p s : Nat} {cs : List Nat} (hr : g 99 15 = Int32.ofNat r) (hr6 : r < 6) (hp : p < 3) (hs : g 13 (4 * r + p) = Int32.ofNat s) (he : g 13 (4 * r + p + 1) = Int32.ofNat (s + cs.length)) (hc : ∀ k, (hk : k < cs.length) → g 12 (200 * r + (s + k)) = Int32.ofNat cs[k]) (hlen : s + cs.length ≤ 200) (hok : okL cs 0 1) (h : ∀ F, Q ((ev (g 50) cs []).getD 0 0) (updR g 49 F)) : wX7_worth g (Int32.ofNat p) Q := by
  unfold wX7_worth
  have i1 : (4 : Int32) * Int32.ofNat r + Int32.ofNat p = Int32.ofNat (4 * r + p) := n_ix
  rw [hr, i1, n_clamp (by omega)]
  refine ⟨n_in (by omega) (by decide), fun x3 e3 => ?_⟩
  rw [hs] at e3
  subst e3
  refine ilX7_worth_16 (fun x1 x2 x3 f => ∃ (k : Nat) (st : List Int32) (F : Nat → Int32), k ≤ cs.length ∧ x1 = Int32.ofNat p ∧ x2 = Int32.ofNat st.length ∧ x3 = Int32.ofNat (s + k) ∧ f = updR g 49 F ∧ rS st F ∧ st.length ≤ 200 ∧ okL (cs.drop k) st.length 1 ∧ ev (g 50) (cs.drop k) st = ev (g 50) cs []) (fun _ _ x3 _ => 300 - x3.toNatClampNeg) ?_ _ _ _ _ ⟨0, [], g 49, by omega, rfl, rfl, rfl, updR_self.symm, trivial, by decide, hok, rfl⟩
  intro K x1 x2 x3 f hI hK
  obtain ⟨k, st, F, hk, rfl, rfl, rfl, rfl, hS, hst, hO, hE⟩ := hI
  -- how it goes on with a new stack
  have hgo : ∀ (st' : List Int32) (F' : Nat → Int32), k < cs.length → rS st' F' → st'.length ≤ 200 → okL (cs.drop (k + 1)) st'.length 1 → ev (g 50) (cs.drop (k + 1)) st' = ev (g 50) cs [] → wbX7_worth_191 K Q (Int32.ofNat p) (Int32.ofNat st'.length) (Int32.ofNat (s + k)) (updR g 49 F') := by
    intro st' F' hk' h1 h2 h3 h4
    unfold wbX7_worth_191
    intro x e
    rw [n_suc] at e
    subst e
    refine hK _ _ _ _ ⟨k + 1, st', F', by omega, rfl, rfl, rfl, rfl, h1, h2, h3, h4⟩ ?_
    show 300 - (Int32.ofNat (s + k + 1)).toNatClampNeg < 300 - (Int32.ofNat (s + k)).toNatClampNeg
    rw [n_clamp (by omega), n_clamp (by omega)]
    omega
  unfold wbX7_worth_16
  have e15 : (updR g 49 F) 99 15 = Int32.ofNat r := hr
  have e13 : (updR g 49 F) 13 = g 13 := rfl
  have e12 : (updR g 49 F) 12 = g 12 := rfl
  have i2 : (200 : Int32) * Int32.ofNat r + Int32.ofNat (s + k) = Int32.ofNat (200 * r + (s + k)) := n_ix
  rw [e15, i1, n_suc, n_clamp (by omega), e13, he, i2, n_clamp (n := 200 * r + (s + k)) (by omega), e12, updR_s]
  refine ⟨n_in (by omega) (by decide), ?_⟩
  have hle : (Int32.ofNat (s + cs.length) ≤ Int32.ofNat (s + k)) ↔ s + cs.length ≤ s + k := n_leI (by omega) (by omega)
  refine ⟨fun q => ?_, fun q => ?_⟩
  · have hkl : k = cs.length := by
      have := hle.mp q
      omega
    subst hkl
    rw [List.drop_length] at hO hE
    have hl1 : st.length = 1 := hO
    refine ⟨n_in (n := 0) (by omega) (by decide), ?_⟩
    have hv := (rS_cons hS (by omega)).1
    rw [hl1] at hv
    have hE' : st = ev (g 50) cs [] := hE
    rw [hE'] at hv
    have : F (Int32.toNatClampNeg 0) = (ev (g 50) cs []).getD 0 0 := hv
    rw [this]
    exact h F
  · have hkl : k < cs.length := by
      have : ¬ s + cs.length ≤ s + k := fun e => q (hle.mpr e)
      omega
    rw [List.drop_eq_getElem_cons hkl] at hO hE
    rw [hc k hkl]
    refine ⟨n_in (by omega) (by decide), fun x4 e4 => ?_⟩
    subst e4
    generalize cs[k] = c at hO hE
    obtain ⟨h199, hO⟩ := hO
    have hE2 : ev (g 50) (cs.drop (k + 1)) (stp (g 50) c st) = ev (g 50) cs [] := hE
    have hc2 : c < 200000 := by
      rcases hO with ⟨h1 | h1, -⟩ | ⟨h1, -⟩ | ⟨h1, -⟩
      · exact h1.2
      · omega
      · omega
      · unfold isBin at h1
        omega
    have c100 : ((100000 : Int32) ≤ Int32.ofNat c) ↔ 100000 ≤ c := n_leI (a := 100000) (by decide) (by omega)
    have c11 : ((11 : Int32) ≤ Int32.ofNat c) ↔ 11 ≤ c := n_leI (a := 11) (by decide) (by omega)
    have c13 : (Int32.ofNat c = 13) ↔ c = 13 := n_eqI (b := 13) (by omega) (by decide)
    have c19 : (Int32.ofNat c = 19) ↔ c = 19 := n_eqI (b := 19) (by omega) (by decide)
    have hpush : ∀ v, stp (g 50) c st = v :: st → okL (cs.drop (k + 1)) (st.length + 1) 1 → wbX7_worth_93 K Q (Int32.ofNat p) (Int32.ofNat st.length) (Int32.ofNat (s + k)) v (Int32.ofNat st.length) (updR g 49 F) := by
      intro v hv hok'
      unfold wbX7_worth_93
      refine ⟨n_in (by omega) (by decide), fun f3 e3 x2 e2 => ?_⟩
      rw [n_clamp (by omega), updR_upd2'] at e3
      rw [n_suc] at e2
      subst e3 e2
      exact hgo (v :: st) (upd F st.length v) hkl (rS_push hS) (by simp only [List.length_cons]; omega) hok' (by rw [← hv]; exact hE2)
    rcases hO with ⟨h1 | h1, hok'⟩ | ⟨h1, hge, hok'⟩ | ⟨h1, hge, hok'⟩
    · refine ⟨fun _ => ?_, fun q => absurd (c100.mpr h1.1) q⟩
      unfold wbX7_worth_66
      refine ⟨fun _ => ?_, fun q => absurd (c11.mpr (by omega)) q⟩
      have e1 : Int32.ofNat c - (100000 : Int32) = Int32.ofNat (c - 100000) := n_sub (b := 100000) h1.1
      rw [e1]
      exact hpush _ (by unfold stp; rw [if_pos h1.1]) hok'
    · refine ⟨fun q => absurd (c100.mp q) (by omega), fun _ => ⟨fun q => absurd (c11.mp q) (by omega), fun _ => ?_⟩⟩
      unfold wbX7_worth_66
      refine ⟨fun q => absurd (c11.mp q) (by omega), fun _ => ⟨n_in h1 (by decide), ?_⟩⟩
      rw [n_clamp (by omega)]
      exact hpush _ (by unfold stp; rw [if_neg (by omega), if_pos (by omega)]; rfl) hok'
    · obtain ⟨hv, hS1⟩ := rS_cons hS hge
      have e1 : Int32.ofNat st.length - 1 = Int32.ofNat (st.length - 1) := n_pred (by omega)
      have hin : vp_in (Int32.ofNat (st.length - 1)) 200 := n_in (by omega) (by decide)
      have hl : ∀ v : Int32, (v :: st.drop 1).length = st.length := fun v => by simp only [List.length_cons, len_drop1]; omega
      have hdo : ∀ v, stp (g 50) c st = v :: st.drop 1 → ∀ f', f' = upd2 (updR g 49 F) 49 (st.length - 1) v → wbX7_worth_191 K Q (Int32.ofNat p) (Int32.ofNat st.length) (Int32.ofNat (s + k)) f' := by
        intro v hv2 f' e
        rw [updR_upd2'] at e
        subst e
        have := hgo (v :: st.drop 1) (upd F (st.length - 1) v) hkl (by have := rS_push (v := v) hS1; rw [len_drop1] at this; exact this) (by rw [hl]; exact hst) (by rw [hl]; exact hok') (by rw [← hv2]; exact hE2)
        rw [hl] at this
        exact this
      refine ⟨fun q => absurd (c100.mp q) (by omega), fun _ => ⟨fun _ => ⟨fun h13 => ⟨fun h19 => ?_, fun h19 => ?_⟩, fun h13 => ?_⟩, fun q => absurd (c11.mpr (by omega)) q⟩⟩
      · have a1 : ¬ c = 13 := fun q => h13 (c13.mpr q)
        have a2 : ¬ c = 19 := fun q => h19 (c19.mpr q)
        omega
      · have h19' := c19.mp h19
        rw [e1, n_clamp (by omega)]
        refine ⟨hin, hin, fun f10 e10 => hdo _ ?_ _ e10⟩
        unfold stp
        rw [if_neg (by omega), if_neg (by omega), if_neg (by omega), if_pos h19', hv]
      · have h13' := c13.mp h13
        rw [e1, n_clamp (by omega)]
        refine ⟨hin, fun hne => ?_, fun heq => ?_⟩
        · unfold wbX7_worth_130
          rw [n_clamp (by omega)]
          refine ⟨hin, fun f11 e11 => hdo _ ?_ _ e11⟩
          unfold stp b3
          rw [if_neg (by omega), if_neg (by omega), if_pos h13', if_neg (by rw [← hv]; exact hne)]
        · unfold wbX7_worth_130
          rw [n_clamp (by omega)]
          refine ⟨hin, fun f11 e11 => hdo _ ?_ _ e11⟩
          unfold stp b3
          rw [if_neg (by omega), if_neg (by omega), if_pos h13', if_pos (by rw [← hv]; exact heq)]
    · obtain ⟨hv, hS1⟩ := rS_cons hS (by omega)
      obtain ⟨hv2, hS2⟩ := rS_cons hS1 (by rw [len_drop1]; omega)
      rw [len_drop1, getD_drop1] at hv2
      rw [List.drop_drop] at hS2
      have hb := h1
      unfold isBin at h1
      refine ⟨fun q => absurd (c100.mp q) (by omega), fun _ => ⟨fun _ => ⟨fun h13 => ⟨fun h19 x2 e2 => ?_, fun h19 => absurd (c19.mp h19) (by omega)⟩, fun h13 => absurd (c13.mp h13) (by omega)⟩, fun q => absurd (c11.mpr (by omega)) q⟩⟩
      have e1 : Int32.ofNat st.length + -1 = Int32.ofNat (st.length - 1) := by
        rw [← n_pred (by omega)]
        exact (Int32.sub_eq_add_neg ..).symm
      rw [e1] at e2
      subst e2
      have e3 : Int32.ofNat (st.length - 1) - 1 = Int32.ofNat (st.length - 2) := by
        rw [n_pred (by omega)]
        rfl
      rw [e3, n_clamp (by omega), n_clamp (by omega)]
      have hin1 : vp_in (Int32.ofNat (st.length - 1)) 200 := n_in (by omega) (by decide)
      have hin2 : vp_in (Int32.ofNat (st.length - 2)) 200 := n_in (by omega) (by decide)
      refine ⟨hin2, hin1, pX7_two hb ⟨hin2, fun f9 e9 => ?_⟩⟩
      rw [updR_upd2'] at e9
      have hl : ∀ v : Int32, (v :: st.drop 2).length = st.length - 1 := fun v => by simp only [List.length_cons, len_drop2]; omega
      subst e9
      have hp2 : ∀ v, rS (v :: st.drop 2) (upd F (st.length - 2) v) := fun v => by
        have hS2' : rS (st.drop 2) F := hS2
        have := rS_push (v := v) hS2'
        rw [len_drop2] at this
        exact this
      have key := hgo (twoF c (F (st.length - 2)) (F (st.length - 1)) :: st.drop 2) (upd F (st.length - 2) (twoF c (F (st.length - 2)) (F (st.length - 1)))) hkl (hp2 _) (by rw [hl]; omega) (by rw [hl]; exact hok') (by
        rw [← hE2]
        congr 1
        unfold stp
        rw [if_neg (by omega), if_neg (by omega), if_neg (by omega), if_neg (by omega), hv, show st.length - 2 = st.length - 1 - 1 by omega, hv2])
      rw [hl] at key
      exact key
