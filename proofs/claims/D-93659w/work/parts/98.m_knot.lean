/-! PLAIN LAYER: knot -/
set_option maxRecDepth 100000
def onN (x : Int32) : Nat → Int32
  | 0 => 0
  | k + 1 => onN x k + (i_shr x (Int32.ofNat k) &&& 1)
def pcN (k : Nat) : Nat := nn (onN (Int32.ofNat k) 6)
def bc1 (x : Int32) : Int32 := x - ((i_ushr x (1 : Int32)) &&& (1431655765 : Int32))
def bc2 (x : Int32) : Int32 := (x &&& (858993459 : Int32)) + ((i_ushr x (2 : Int32)) &&& (858993459 : Int32))
def bc3 (x : Int32) : Int32 := (x + (i_ushr x (4 : Int32))) &&& (252645135 : Int32)
def bc4 (x : Int32) : Int32 := x + (i_ushr x (8 : Int32))
def bc5 (x : Int32) : Int32 := x + (i_ushr x (16 : Int32))
theorem bc_tab : ∀ k, k < 64 → (bc5 (bc4 (bc3 (bc2 (bc1 (Int32.ofNat k)))))) &&& 63 = Int32.ofNat (pcN k) := by decide +kernel
theorem on_tab : ∀ k, k < 64 → onN (Int32.ofNat k) 6 = Int32.ofNat (pcN k) := by decide +kernel
theorem pc_lt : ∀ k, k < 64 → pcN k < 64 := by decide +kernel
theorem p_bitCount {k : Nat} {Q : Int32 → Prop} (hk : k < 64) (h : Q (Int32.ofNat (pcN k))) : wJ18_bitCount (Int32.ofNat k) Q := by
  unfold wJ18_bitCount
  intro x1 e1 x2 e2 x3 e3 x4 e4 x5 e5
  have e : x5 &&& 63 = Int32.ofNat (pcN k) := by
    rw [e5, e4, e3, e2, e1]
    exact bc_tab k hk
  rw [e]
  exact h
theorem pX7_ones {k : Nat} {f : St} {Q : Int32 → St → Prop} (hk : k < 64) (h : Q (Int32.ofNat (pcN k)) f) : wX7_ones f (Int32.ofNat k) Q := by
  unfold wX7_ones
  refine icX7_ones_4_2 6 0 (by decide) (by decide) (fun _ => True) (fun _ => Int32.ofNat k) (fun j => onN (Int32.ofNat k) j) (fun _ => f) trivial ?_
  intro K j _ hj _ hK
  unfold wbX7_ones_4
  refine w_upto (T := 6) (by decide) hj (fun q => ?_) (fun hlt x1 e1 x2 e2 => ?_)
  · subst q
    rw [on_tab k hk]
    exact h
  · rw [n_suc] at e2
    subst e2
    subst e1
    exact hK hlt trivial
def knN (em : Nat → Bool) : Nat → Nat
  | 0 => 0
  | k + 1 => if k = 0 then 0 else if (knN em k = 0 ∨ pcN k < pcN (knN em k)) ∧ em k = true then k else knN em k
theorem knN_s {em : Nat → Bool} {k : Nat} (h : 1 ≤ k) : knN em (k + 1) = if (knN em k = 0 ∨ pcN k < pcN (knN em k)) ∧ em k = true then k else knN em k := by
  show (if k = 0 then 0 else _) = _
  rw [if_neg (by omega)]
theorem knN_lt {em : Nat → Bool} : ∀ k, 1 ≤ k → knN em k < k
  | 0, h => by omega
  | 1, _ => Nat.zero_lt_one
  | k + 2, _ => by
    have ih := knN_lt (em := em) (k + 1) (by omega)
    rw [knN_s (by omega)]
    by_cases c : (knN em (k + 1) = 0 ∨ pcN (k + 1) < pcN (knN em (k + 1))) ∧ em (k + 1) = true
    · rw [if_pos c]; omega
    · rw [if_neg c]; omega
section
variable {b o : Nat} {cs ad : Nat → Nat} {vs : Nat → Option Nat} {S : XS} {g : St} {T w : Nat}
theorem op_knot (hI : RI S.1 g) (hM : MI g) (hR : RT o cs S g) : wX0_knot b cs ad vs o S (fun r S' => wX7_knot g (fun r' g' => r = r' ∧ OK2 S g S' g')) := by
  have hM0 := hM
  obtain ⟨r, l, hcx, hpl⟩ := cxr_of hI hM hR
  obtain ⟨⟨⟨T, hT6, hT⟩, ⟨w, hw2, hw7, hw⟩, -⟩, -⟩ := hM
  have hTX : S.1 99 6 = Int32.ofNat T := hI.1.1.trans hT
  have hfar : ∀ a c, a < T → c < T → S.1 5 (6 * a + c) = farF T (g 5) (g 39) (6 * a + c) := fun a c h1 h2 => far_eq hI hM0 hT hT6 h1 h2
  generalize hFF : farF T (g 5) (g 39) = FF at hfar
  generalize hem : (fun k => (wA (bA g l FF) T w (Int32.ofNat k)).isEmpty) = em
  have eem : ∀ k, em k = true ↔ wA (bA g l FF) T w (Int32.ofNat k) = [] := fun k => by rw [← hem]; exact List.isEmpty_iff
  have h2T : 2 ^ T ≤ 64 := Nat.pow_le_pow_right (by decide) hT6
  have h2T1 : 1 ≤ 2 ^ T := Nat.pow_pos (by decide)
  have eshl : i_shl 1 (Int32.ofNat T) = Int32.ofNat (2 ^ T) := shl_tab8 T (by omega)
  unfold wX0_knot
  refine ijX0_knot_4_2 (2 ^ T) 1 (by omega) h2T1 (fun k x1 f => x1 = Int32.ofNat (knN em k) ∧ xT S f) ?_ _ _ ⟨rfl, xT_rf hI.2.2.2.2.2.2.2.2.2.1 hI.2.2.2.2.2.2.2.2.2.2.1⟩
  intro K k x1 f hk1 hk hP hK
  obtain ⟨rfl, hx⟩ := hP
  have hIf := xT_RI hx hI
  have hlt := knN_lt (em := em) k hk1
  unfold wbX0_knot_4
  have e6 : f.1 99 6 = Int32.ofNat T := hIf.1.1.trans hT
  rw [e6, eshl]
  refine w_upto (by omega) hk (fun q => ?_) (fun hkT => ?_)
  · subst q
    unfold wX7_knot
    refine pX7_looks hT hT6 hpl (fun g1 hlk => ?_)
    have h39 : g1 39 = FF := hlk.2.1.trans hFF
    refine ijX7_knot_8_2 (2 ^ T) 1 (by omega) h2T1 (fun k x1 f2 => x1 = Int32.ofNat (knN em k) ∧ ∀ q, q ≠ 52 → f2 q = g1 q) ?_ _ _ ⟨rfl, fun _ _ => rfl⟩
    intro K2 k2 x1 f2 hk21 hk2 hP hK2
    obtain ⟨rfl, hf2⟩ := hP
    have hlt2 := knN_lt (em := em) k2 hk21
    have e02 : f2 99 0 = Int32.ofNat T := by rw [hf2 99 (by decide), hlk.1 99 (by decide) (by decide) (by decide) (by decide)]; exact hT
    unfold wbX7_knot_8 wX7_all
    rw [e02, eshl]
    have eall : Int32.ofNat (2 ^ T) - 1 = Int32.ofNat (2 ^ T - 1) := n_pred (by omega)
    rw [eall]
    have hltk := n_ltI (a := 2 ^ T - 1) (b := k2) (by omega) (by omega)
    have hz : (Int32.ofNat (knN em k2) = 0) ↔ knN em k2 = 0 := n_eqI (b := 0) (by omega) (by decide)
    refine ⟨fun q => ?_, fun q => ?_⟩
    · have hk2e : k2 = 2 ^ T := by
        have := hltk.mp q
        omega
      subst hk2e
      have hm : mS g f2 := (lkM_S hlk).tr (fun q hq => hf2 q (by omega))
      exact ⟨rfl, mS_RI hm hIf, mS_MI hm hM0, hx.2.2.2.1, mS_G hm⟩
    · have hk2T : k2 < 2 ^ T := by
        have : ¬ 2 ^ T - 1 < k2 := fun z => q (hltk.mpr z)
        omega
      have hgo : ∀ (v : Nat) (f3 : St), (∀ q, q ≠ 52 → f3 q = g1 q) → v = knN em (k2 + 1) → wbX7_knot_42 K2 (fun r' g' => Int32.ofNat (knN em (2 ^ T)) = r' ∧ OK2 S g f g') (Int32.ofNat v) (Int32.ofNat k2) f3 := by
        intro v f3 hf3 hv x2 e2
        rw [n_suc] at e2
        subst e2
        rw [hv]
        exact hK2 _ _ hk2T ⟨rfl, hf3⟩
      have h31 : (knN em k2 = 0 ∨ pcN k2 < pcN (knN em k2)) → wbX7_knot_31 K2 (fun r' g' => Int32.ofNat (knN em (2 ^ T)) = r' ∧ OK2 S g f g') (Int32.ofNat (knN em k2)) (Int32.ofNat k2) f2 := by
        intro hc
        unfold wbX7_knot_31
        refine m_any hlk hT hT6 hw hw2 hw7 hf2 (fun f3 hf3 v hv0 hv1 => ?_)
        rw [h39] at hv0 hv1
        refine ⟨fun y => hgo _ f3 hf3 ?_, fun y => hgo _ f3 hf3 ?_⟩
        · rw [knN_s hk21, if_neg (fun z => y (hv0 ((eem k2).mp z.2)))]
        · have he : wA (bA g l FF) T w (Int32.ofNat k2) = [] := by
            by_cases c : wA (bA g l FF) T w (Int32.ofNat k2) = []
            · exact c
            · rw [hv1 c] at y
              exact absurd y (by decide)
          rw [knN_s hk21, if_pos ⟨hc, (eem k2).mpr he⟩]
      refine ⟨fun z => h31 (Or.inl (hz.mp z)), fun z => pX7_ones (by omega) (pX7_ones (by omega) ?_)⟩
      have hpl2 := pc_lt k2 (by omega)
      have hpl3 := pc_lt (knN em k2) (by omega)
      have hle := n_leI (a := pcN (knN em k2)) (b := pcN k2) (by omega) (by omega)
      refine ⟨fun y => hgo _ f2 hf2 ?_, fun y => h31 (Or.inr ?_)⟩
      · have := hle.mp y
        rw [knN_s hk21, if_neg (fun c => c.1.elim (fun c1 => z (hz.mpr c1)) (fun c1 => by omega))]
      · have : ¬ pcN (knN em k2) ≤ pcN k2 := fun c => y (hle.mpr c)
        omega
  · have hz : (Int32.ofNat (knN em k) = 0) ↔ knN em k = 0 := n_eqI (b := 0) (by omega) (by decide)
    have hgo : ∀ (v : Nat) (f3 : XS), xT S f3 → v = knN em (k + 1) → wbX0_knot_47 b cs ad vs o K (fun r S' => wX7_knot g (fun r' g' => r = r' ∧ OK2 S g S' g')) (Int32.ofNat v) (Int32.ofNat k) f3 := by
      intro v f3 hx3 hv x2 e2
      rw [n_suc] at e2
      subst e2
      rw [hv]
      exact hK _ _ hkT ⟨rfl, hx3⟩
    have h32 : (knN em k = 0 ∨ pcN k < pcN (knN em k)) → wbX0_knot_32 b cs ad vs o K (fun r S' => wX7_knot g (fun r' g' => r = r' ∧ OK2 S g S' g')) (Int32.ofNat (knN em k)) (Int32.ofNat k) f := by
      intro hc
      unfold wbX0_knot_32
      have hcx2 : cxR o cs f g r l := by
        obtain ⟨c1, c2, c3, c4, c5, c6, c7, c8⟩ := hcx
        refine ⟨hIf.2.1.1, hIf.2.1.2.1, hIf.2.1.2.2.2.1, hIf.1.2.1, ?_, c6, txR_Z (by rw [hx.2.2.2.1]) c7, c8⟩
        rw [hIf.1.2.2.2.1, ← hI.1.2.2.2.1]
        exact c5
      have hfar2 : ∀ a c, a < T → c < T → f.1 5 (6 * a + c) = FF (6 * a + c) := fun a c ha hc => by rw [hx.1 5 (by decide) (by decide) (by decide) (by decide) (by decide)]; exact hfar a c ha hc
      refine x_first hIf hcx2 hT hT6 hw hw2 hw7 hfar2 (fun f5 hx5 h50 h51 => ?_)
      have hx6 := xT_tr hx hx5
      refine ⟨fun y => hgo _ f5 hx6 ?_, fun y => hgo _ f5 hx6 ?_⟩
      · rw [knN_s hk1, if_neg (fun z => y (h50 ((eem k).mp z.2)))]
      · have he : wA (bA g l FF) T w (Int32.ofNat k) = [] := by
          by_cases c : wA (bA g l FF) T w (Int32.ofNat k) = []
          · exact c
          · rw [h51 c] at y
            exact absurd y (by decide)
        rw [knN_s hk1, if_pos ⟨hc, (eem k).mpr he⟩]
    refine ⟨fun z => h32 (Or.inl (hz.mp z)), fun z => p_bitCount (by omega) (p_bitCount (by omega) ?_)⟩
    have hpl2 := pc_lt k (by omega)
    have hpl3 := pc_lt (knN em k) (by omega)
    have hltp := n_ltI (a := pcN k) (b := pcN (knN em k)) (by omega) (by omega)
    refine ⟨fun y => h32 (Or.inr (hltp.mp y)), fun y => hgo _ f hx ?_⟩
    rw [knN_s hk1, if_neg (fun c => c.1.elim (fun c1 => z (hz.mpr c1)) (fun c1 => y (hltp.mpr c1)))]
end
