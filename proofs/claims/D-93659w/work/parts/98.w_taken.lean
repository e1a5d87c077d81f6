/-! PLAIN LAYER: taken -/
set_option maxRecDepth 100000
theorem gvAt_mono {o : Nat} {cs : Nat → Nat} {Z Z' : cP} {g : St} {i a k n : Nat} {D : Nat → Int32} (hZ : ∀ a e, Z a = some e → Z' a = some e) (h : gvAt o cs Z g i a k n D) : gvAt o cs Z' g i a k n D := by
  obtain ⟨h1, h2, h3, ⟨da, h4, h5, h6⟩, h7⟩ := h
  exact ⟨h1, h2, h3, ⟨da, h4, hZ _ _ h5, hZ _ _ h6⟩, h7⟩
theorem GLn_mono {o : Nat} {cs ad : Nat → Nat} {Z Z' : cP} {g : St} {G : Nat} (hZ : ∀ a e, Z a = some e → Z' a = some e) (h : GLn o cs ad Z g G) : GLn o cs ad Z' g G := by
  obtain ⟨mc, ⟨h1, h2⟩ | ⟨e, N, c, h1, h2, h3, h4, h5, h6, h7, h8⟩⟩ := h
  · exact ⟨mc, Or.inl ⟨h1, hZ _ _ h2⟩⟩
  · refine ⟨mc, Or.inr ⟨e, N, c, h1, h2, h3, h4, h5, hZ _ _ h6, hZ _ _ h7, fun i hi => ?_⟩⟩
    obtain ⟨a, k, n, D, q1, q2⟩ := h8 i hi
    exact ⟨a, k, n, D, q1, gvAt_mono hZ q2⟩
section
variable {b o : Nat} {cs ad : Nat → Nat} {vs : Nat → Option Nat} {S : XS} {g : St}
theorem pJ2_get' {G i : Nat} {Q : Nat → cW → Prop} (h : GLn o cs ad S.2.2.1 g G) (hG : G ≤ 12) (hi : i < G) (hq : ∀ (a k n : Nat) (D : Nat → Int32), gvAt o cs S.2.2.1 g i a k n D → Q a (wX o cs S)) : xF o (o + 9) ∧ ∃ (y : Int32) (v : Value) (y' : Int32), S.2.2.1 (o + 9) = some (.inr (16, vp_V [.int y, v, .int y'])) ∧ wJ2_get b cs ad vs (wX o cs S) (o + 9) (Int32.ofNat i) Q := by
  obtain ⟨mc, ⟨rfl, -⟩ | ⟨e, N, c, he, hN, -, hN15, -, hz, hc, hall⟩⟩ := h
  · omega
  obtain ⟨a, k, n, D, hci, hg⟩ := hall i hi
  have hz' : (wX o cs S).1 (o + 9) = _ := (wX_at xF9).trans hz
  refine ⟨xF9, _, _, _, hz, ?_⟩
  unfold wJ2_get wJ16_checkIndex wJ5_checkIndex wJ2_elementData
  refine ⟨_, _, _, hz', fun q => absurd q (n_nn (by omega)), fun _ => ⟨fun _ => ?_, fun q => absurd ((n_ltI (by omega) (by omega)).mpr hi) q⟩⟩
  refine ⟨_, _, _, hz', _, _, _, hz', e, rfl, N, c, (wX_at he).trans hc, n_in (by omega) (by omega), a, ?_, hq a k n D hg⟩
  rw [n_clamp (by omega)]
  exact hci
def slE (t : Nat) : cE := .inr (15, vp_V [.ref t])
/-- a Slot is made -/
def sSl (S : XS) (t : Nat) : XS := (S.1, S.2.1, updP S.2.2.1 S.2.2.2.1 (slE t), S.2.2.2.1 + 1, S.2.2.2.2 + 1)
theorem sSl_at {t : Nat} : (sSl S t).2.2.1 S.2.2.2.1 = some (.inr (15, vp_V [.ref t])) := updP_eq
theorem sSl_mono {t : Nat} (hz : RZ b o S) : ∀ a e, S.2.2.1 a = some e → (sSl S t).2.2.1 a = some e := by
  intro a e q
  have := hz.1 a e q
  show updP _ _ _ a = _
  rw [updP_ne (by omega)]
  exact q
theorem RZ_Sl {t : Nat} (hz : RZ b o S) (hr : S.2.2.2.1 + 6000 ≤ b + cB ∧ S.2.2.2.2 + 110000 ≤ sB) : RZ b o (sSl S t) := by
  refine ⟨fun a e q => ?_, ?_, ?_, ?_⟩
  · have q' : updP S.2.2.1 S.2.2.2.1 (slE t) a = some e := q
    show a < S.2.2.2.1 + 1
    by_cases c : a = S.2.2.2.1
    · omega
    · rw [updP_ne c] at q'
      have := hz.1 a e q'
      omega
  · show o + 33 ≤ S.2.2.2.1 + 1
    have := hz.2.1
    omega
  · show S.2.2.2.1 + 1 + 5000 ≤ b + cB
    omega
  · show S.2.2.2.2 + 1 + 100000 ≤ sB
    omega
theorem zX_Sl {t : Nat} (hz : RZ b o S) : zX S (sSl S t) := by
  refine ⟨fun a ha => ?_, fun a e q => ?_, ?_, ?_, ?_⟩
  · show updP _ _ _ a = _
    rw [updP_ne (by omega)]
  · have q' : updP S.2.2.1 S.2.2.2.1 (slE t) a = some e := q
    show a < S.2.2.2.1 + 1
    by_cases c : a = S.2.2.2.1
    · omega
    · rw [updP_ne c] at q'
      have := hz.1 a e q'
      omega
  · show _ ≤ _ + 1
    omega
  · show _ + 1 ≤ _
    omega
  · show _ + 1 ≤ _
    omega
theorem zX_SlOd {t : Nat} {code : Int32} (hz : RZ b o S) (hr : S.2.2.2.1 + 6000 ≤ b + cB ∧ S.2.2.2.2 + 110000 ≤ sB) : zX S (sOd (sSl S t) code) := by
  have h1 := zX_Sl (t := t) hz
  have h2 := sOd_zX (code := code) (RZ_Sl (t := t) hz hr)
  refine ⟨fun a ha => ?_, h2.2.1, ?_, ?_, ?_⟩
  · rw [h2.1 a (by show a < S.2.2.2.1 + 1; omega)]
    exact h1.1 a ha
  · show _ ≤ _ + 1 + 1
    omega
  · show _ + 1 + 1 ≤ _
    omega
  · show _ + 1 + 7 ≤ _
    omega
/-- a Slot is made; what becomes of it -/
theorem p_slot {t : Nat} {Q : cW → Prop} (hz : RZ b o S) (h : Q (wX o cs (sSl S t))) : wX15_init b cs ad vs (wX o cs (xNew S (.inr (15, vp_V [.null])) 1)) S.2.2.2.1 t Q := by
  have hF := RZ_F hz
  unfold wX15_init
  refine ⟨.null, (wX_at hF).trans xNew_s, fun f e => ?_⟩
  have e' : f = wX o cs (sSl S t) := by
    rw [e]
    have := wX_upd (cs := cs) (S := xNew S (.inr (15, vp_V [.null])) 1) (e := slE t) hF
    refine Eq.trans this ?_
    show wX o cs (S.1, S.2.1, updP (updP S.2.2.1 S.2.2.2.1 _) S.2.2.2.1 (slE t), S.2.2.2.1 + 1, S.2.2.2.2 + 1) = _
    rw [updP_updP]
    rfl
  rw [e']
  exact h
theorem isU_tab : ∀ k, k < 6 → ∀ x, x < 6 → 1 ≤ x → (isU (3 + x) (3 + k) = if k = x ∨ (x = 1 ∧ k = 5) ∨ (x = 3 ∧ k = 4) then 1 else 0) := by
  intro k hk x hx h1
  have hkk : k = 0 ∨ k = 1 ∨ k = 2 ∨ k = 3 ∨ k = 4 ∨ k = 5 := by omega
  have hxx : x = 1 ∨ x = 2 ∨ x = 3 ∨ x = 4 ∨ x = 5 := by omega
  rcases hkk with q | q | q | q | q | q <;> subst q <;> rcases hxx with z | z | z | z | z <;> subst z <;> decide
def unV (k x : Nat) : Int32 := if x = 0 ∨ k = x ∨ (x = 1 ∧ k = 5) ∨ (x = 3 ∧ k = 4) then 1 else 0
theorem unV_z {k x : Nat} : vz (unV k x) := by
  unfold unV
  by_cases c : x = 0 ∨ k = x ∨ (x = 1 ∧ k = 5) ∨ (x = 3 ∧ k = 4)
  · rw [if_pos c]; exact vz1
  · rw [if_neg c]; exact vz0
theorem p_isUnder {i a k n x : Nat} {D : Nat → Int32} {Q : Int32 → cW → Prop} (hg : gvAt o cs S.2.2.1 g i a k n D) (hx : x < 6) (h : Q (unV k x) (wX o cs S)) : wX0_isUnder b cs ad vs (wX o cs S) a (Int32.ofNat x) Q := by
  obtain ⟨ha, hk, hn, ⟨da, hda, hO, hdD⟩, h17, h18, hD⟩ := hg
  have hO' := (wX_at (cs := cs) (S := S) ha).trans hO
  have hgo : gOk (3 + k) = true := by
    have : k = 0 ∨ k = 1 ∨ k = 2 ∨ k = 3 ∨ k = 4 ∨ k = 5 := by omega
    rcases this with q | q | q | q | q | q <;> subst q <;> rfl
  have hU : 1 ≤ x → isU (3 + x) (3 + k) = unV k x := by
    intro h1
    rw [isU_tab k hk x hx h1]
    unfold unV
    by_cases c : k = x ∨ (x = 1 ∧ k = 5) ∨ (x = 3 ∧ k = 4)
    · rw [if_pos c, if_pos (Or.inr c)]
    · rw [if_neg c, if_neg (fun z => c (z.resolve_left (by omega)))]
  unfold wX0_isUnder
  have hxx : x = 0 ∨ x = 1 ∨ x = 2 ∨ x = 3 ∨ x = 4 ∨ x = 5 := by omega
  rcases hxx with z | z | z | z | z | z <;> subst z
  · exact ⟨fun _ => h, fun q => absurd rfl q⟩
  · have e := hU (by decide)
    refine ⟨fun q => absurd q (by decide), fun _ => ⟨fun _ => ⟨_, _, hO', hgo, ?_⟩, fun q => absurd rfl q⟩⟩
    rw [show isU 4 (3 + k) = unV k 1 from e]
    exact ⟨unV_z, h⟩
  · have e := hU (by decide)
    refine ⟨fun q => absurd q (by decide), fun _ => ⟨fun q => absurd q (by decide), fun _ => ⟨fun _ => ⟨_, _, hO', hgo, ?_⟩, fun q => absurd rfl q⟩⟩⟩
    rw [show isU 5 (3 + k) = unV k 2 from e]
    exact ⟨unV_z, h⟩
  · have e := hU (by decide)
    refine ⟨fun q => absurd q (by decide), fun _ => ⟨fun q => absurd q (by decide), fun _ => ⟨fun q => absurd q (by decide), fun _ => ⟨fun _ => ⟨_, _, hO', hgo, ?_⟩, fun q => absurd rfl q⟩⟩⟩⟩
    rw [show isU 6 (3 + k) = unV k 3 from e]
    exact ⟨unV_z, h⟩
  · have e := hU (by decide)
    refine ⟨fun q => absurd q (by decide), fun _ => ⟨fun q => absurd q (by decide), fun _ => ⟨fun q => absurd q (by decide), fun _ => ⟨fun q => absurd q (by decide), fun _ => ⟨fun _ => ⟨_, _, hO', hgo, ?_⟩, fun q => absurd rfl q⟩⟩⟩⟩⟩
    rw [show isU 7 (3 + k) = unV k 4 from e]
    exact ⟨unV_z, h⟩
  · have e := hU (by decide)
    refine ⟨fun q => absurd q (by decide), fun _ => ⟨fun q => absurd q (by decide), fun _ => ⟨fun q => absurd q (by decide), fun _ => ⟨fun q => absurd q (by decide), fun _ => ⟨fun q => absurd q (by decide), fun _ => ⟨_, _, hO', hgo, ?_⟩⟩⟩⟩⟩⟩
    rw [show isU 8 (3 + k) = unV k 5 from e]
    exact ⟨unV_z, h⟩
theorem m_isUnder {k x : Nat} {Q : Int32 → St → Prop} (hk : k < 6) (hx : x < 6) (h : Q (unV k x) g) : wX7_isUnder g (Int32.ofNat k) (Int32.ofNat x) Q := by
  have e0 : (Int32.ofNat x = 0) ↔ x = 0 := n_eqI (b := 0) (by omega) (by decide)
  have e1 : (Int32.ofNat x = 1) ↔ x = 1 := n_eqI (b := 1) (by omega) (by decide)
  have e3 : (Int32.ofNat x = 3) ↔ x = 3 := n_eqI (b := 3) (by omega) (by decide)
  have ek : (Int32.ofNat k = Int32.ofNat x) ↔ k = x := n_eqI (by omega) (by omega)
  have k4 : (Int32.ofNat k = 4) ↔ k = 4 := n_eqI (b := 4) (by omega) (by decide)
  have k5 : (Int32.ofNat k = 5) ↔ k = 5 := n_eqI (b := 5) (by omega) (by decide)
  unfold unV at h
  have hy : (x = 0 ∨ k = x ∨ (x = 1 ∧ k = 5) ∨ (x = 3 ∧ k = 4)) → wbX7_isUnder_29 Q g := by
    intro c
    rw [if_pos c] at h
    exact h
  have hn : ¬ (x = 0 ∨ k = x ∨ (x = 1 ∧ k = 5) ∨ (x = 3 ∧ k = 4)) → Q 0 g := by
    intro c
    rw [if_neg c] at h
    exact h
  unfold wX7_isUnder wbX7_isUnder_19
  rw [e0, e1, e3, ek, k4, k5]
  exact ⟨fun c => hy (by omega), fun c => ⟨fun c1 => hy (by omega), fun c1 => ⟨fun c2 => ⟨fun c3 => hn (by omega), fun c3 => ⟨fun c4 => hn (by omega), fun c4 => hy (by omega)⟩⟩, fun c2 => ⟨fun c3 => hy (by omega), fun c3 => ⟨fun c4 => hn (by omega), fun c4 => ⟨fun c5 => hn (by omega), fun c5 => hy (by omega)⟩⟩⟩⟩⟩⟩
end
