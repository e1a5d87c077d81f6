/-! PLAIN LAYER: the days that are looked at, what bars, the first that bars; of both -/
set_option maxRecDepth 100000
/-- the reference's state but for its scratch rows -/
def mS (g g' : St) : Prop := ∀ r, r < 39 ∨ 55 < r → g' r = g r
theorem mS.rf {g : St} : mS g g := fun _ _ => rfl
theorem mS.tr {g g' g2 : St} (h1 : mS g g') (h2 : mS g' g2) : mS g g2 := fun r hr => (h2 r hr).trans (h1 r hr)
theorem mS_R {g : St} {r : Nat} {F : Nat → Int32} (h1 : 39 ≤ r) (h2 : r ≤ 55) : mS g (updR g r F) := fun q hq => updR_n (by omega)
theorem mS_RI {g g' F : St} (h : mS g g') (hI : RI F g) : RI F g' := by
  unfold RI at hI ⊢
  rw [h 99 (by decide), h 1 (by decide), h 2 (by decide), h 3 (by decide), h 4 (by decide), h 5 (by decide), h 8 (by decide), h 9 (by decide), h 10 (by decide), h 22 (by decide), h 24 (by decide), h 30 (by decide), h 31 (by decide), h 32 (by decide), h 33 (by decide), h 34 (by decide), h 35 (by decide), h 36 (by decide), h 37 (by decide), h 38 (by decide)]
  exact hI
theorem mS_MI {g g' : St} (h : mS g g') (hI : MI g) : MI g' := by
  unfold MI at hI ⊢
  rw [h 99 (by decide), h 1 (by decide), h 2 (by decide), h 3 (by decide), h 4 (by decide), h 5 (by decide), h 8 (by decide), h 9 (by decide), h 10 (by decide), h 22 (by decide), h 24 (by decide), h 30 (by decide), h 31 (by decide), h 32 (by decide), h 33 (by decide), h 34 (by decide), h 35 (by decide), h 36 (by decide), h 37 (by decide)]
  exact hI
theorem mS_G {g g' : St} (h : mS g g') : sameG g g' := ⟨h 12 (by decide), h 13 (by decide), h 17 (by decide), h 18 (by decide), h 19 (by decide), congrFun (h 99 (by decide)) 14, congrFun (h 99 (by decide)) 16⟩
theorem mS_part {g g' : St} {p : Nat} {l : List Nat} (h : mS g g') (hp : partL g p l) : partL g' p l := by
  unfold partL at hp ⊢
  rw [h 99 (by decide), h 12 (by decide), h 13 (by decide)]
  exact hp
/-- the class's state but for rows 12 and 14 -/
def xS (S S' : XS) : Prop := ∃ N H : Nat → Int32, S' = (updR (updR S.1 12 N) 14 H, S.2)
theorem xS.rf {S : XS} : xS S S := ⟨S.1 12, S.1 14, by
  have e1 : updR S.1 12 (S.1 12) = S.1 := updR_self
  rw [e1, updR_self]⟩
theorem xS_n {S S' : XS} (h : xS S S') {r : Nat} (h1 : r ≠ 12) (h2 : r ≠ 14) : S'.1 r = S.1 r := by
  obtain ⟨N, H, rfl⟩ := h
  show updR (updR S.1 12 N) 14 H r = S.1 r
  rw [updR_n h2, updR_n h1]
theorem xS_2 {S S' : XS} (h : xS S S') : S'.2 = S.2 := by
  obtain ⟨N, H, rfl⟩ := h
  rfl
theorem xS_of {S S' : XS} (h : ∀ r, r ≠ 12 → r ≠ 14 → S'.1 r = S.1 r) (h2 : S'.2 = S.2) : xS S S' := ⟨S'.1 12, S'.1 14, by
  have : S'.1 = updR (updR S.1 12 (S'.1 12)) 14 (S'.1 14) := by
    funext r
    by_cases h14 : r = 14
    · subst h14
      rw [updR_s]
    · rw [updR_n h14]
      by_cases h12 : r = 12
      · subst h12
        rw [updR_s]
      · rw [updR_n h12]
        exact h r h12 h14
  rw [← this, ← h2]⟩
theorem xS.tr {S S' S2 : XS} (h1 : xS S S') (h2 : xS S' S2) : xS S S2 := xS_of (fun r a c => (xS_n h2 a c).trans (xS_n h1 a c)) ((xS_2 h2).trans (xS_2 h1))
theorem xS_RI {S S' : XS} {g : St} (h : xS S S') (hI : RI S.1 g) : RI S'.1 g := by
  obtain ⟨N, H, rfl⟩ := h
  exact hI
/-- all that counts is kept -/
theorem OK1_S {S S' : XS} {g g' : St} (hI : RI S.1 g) (hM : MI g) (hx : xS S S') (hm : mS g g') : OK1 S g S' g' := ⟨mS_RI hm (xS_RI hx hI), mS_MI hm hM, xS_2 hx, mS_G hm⟩
theorem wX_Z {o : Nat} {cs : Nat → Nat} {S S' : XS} (h : S'.2 = S.2) {r p : Nat} {l : List Nat} (ht : txR o cs S r p l) : txR o cs S' r p l := by
  obtain ⟨c, a, d, x, dn, h1, h2, h3, h4, h5, h6, h7⟩ := ht
  refine ⟨c, a, d, x, dn, ?_, h2, h3, ?_, h5, h6, nRep_X (fun a e q => ?_) h7⟩
  · rw [h]; exact h1
  · rw [h]; exact h4
  · rw [h]; exact q
/-- near of two, by the rule l and hours far -/
def nA (g : St) (l : List Nat) (far : Nat → Int32) (a c : Nat) : Int32 := nearV g l far a c
/-- what two towns, the lesser first, do: one function of both -/
def bA (g : St) (l : List Nat) (far H : Nat → Int32) (a c : Nat) : Int32 := barA (g 2) (g 4) (g 99 6) (nn (g 99 6)) (nA g l far) H a c
/-- the first that bars -/
def fbB (B : Nat → Nat → Int32) (a : Nat) : Nat → Nat → Option Nat
  | _, 0 => none
  | c, n + 1 => if B a c = 0 then fbB B a (c + 1) n else some (10 * a + c)
def fbA (B : Nat → Nat → Int32) (T : Nat) : Nat → Nat → Option Nat
  | _, 0 => none
  | a, n + 1 => (fbB B a a (T - a)).or (fbA B T (a + 1) n)
theorem fbA_s {B : Nat → Nat → Int32} {T a n : Nat} : fbA B T a (n + 1) = (fbB B a a (T - a)).or (fbA B T (a + 1) n) := rfl
def fbV (r : Option Nat) : Int32 := match r with
  | some r => Int32.ofNat r
  | none => -1
theorem fbB_congr {B B' : Nat → Nat → Int32} {a T : Nat} : ∀ n c, c + n = T → (∀ d, c ≤ d → d < T → B a d = B' a d) → fbB B a c n = fbB B' a c n
  | 0, _, _, _ => rfl
  | n + 1, c, hc, h => by
    unfold fbB
    rw [h c (Nat.le_refl _) (by omega), fbB_congr n (c + 1) (by omega) (fun d h1 h2 => h d (by omega) h2)]
theorem fbA_congr {B B' : Nat → Nat → Int32} {T : Nat} (h : ∀ a c, a ≤ c → c < T → B a c = B' a c) : ∀ n a, a + n = T → fbA B T a n = fbA B' T a n
  | 0, _, _ => rfl
  | n + 1, a, ha => by
    rw [fbA_s, fbA_s, fbB_congr (T := T) (T - a) a (by omega) (fun d h1 h2 => h a d h1 h2), fbA_congr h n (a + 1) (by omega)]
section
variable {b o : Nat} {cs ad : Nat → Nat} {vs : Nat → Option Nat} {S : XS} {g : St} {T w : Nat}
/-- the reference's firstBar, whatever doBar gives -/
theorem pX7_firstBar {Q : Int32 → St → Prop} {B : Nat → Nat → Int32} (hT : g 99 0 = Int32.ofNat T) (hT6 : T ≤ 6) (hB : ∀ a c (Q' : Int32 → St → Prop), a ≤ c → c < T → Q' (B a c) g → wX7_doBar g (Int32.ofNat a) (Int32.ofNat c) Q') (h : Q (fbV (fbA B T 0 T)) g) : wX7_firstBar g Q := by
  unfold wX7_firstBar
  refine icX7_firstBar_2_1 T 0 (by omega) (by omega) (fun a => fbA B T 0 T = fbA B T a (T - a)) (fun _ => g) rfl ?_
  intro K a _ ha hP hK
  unfold wbX7_firstBar_2
  rw [hT]
  refine w_upto (by omega) ha (fun q => ?_) (fun hlt => ?_)
  · subst q
    rw [hP, Nat.sub_self] at h
    exact h
  · obtain ⟨m, hm⟩ : ∃ m, T - a = m + 1 := ⟨T - a - 1, by omega⟩
    have hP2 := hP
    rw [hm, fbA_s] at hP2
    refine icX7_firstBar_12_2 T a (by omega) (by omega) (fun c => fbB B a a (T - a) = fbB B a c (T - c)) (fun _ => Int32.ofNat a) (fun _ => g) rfl ?_
    intro K2 c hc0 hc hPc hK2
    unfold wbX7_firstBar_12
    rw [hT]
    refine w_upto (by omega) hc (fun q => ?_) (fun hlt2 => hB a c _ (by omega) hlt2 ⟨fun z => ?_, fun z => ?_⟩)
    · subst q
      intro x e
      rw [n_suc] at e
      subst e
      refine hK hlt ?_
      rw [Nat.sub_self] at hPc
      rw [hPc] at hP2
      rw [show c - (a + 1) = m by omega]
      exact hP2
    · intro x e
      rw [n_suc] at e
      subst e
      refine hK2 hlt2 ?_
      rw [hPc, show T - c = (T - (c + 1)) + 1 by omega]
      show (if B a c = 0 then _ else _) = _
      rw [if_pos z]
    · have e1 : fbB B a c (T - c) = some (10 * a + c) := by
        rw [show T - c = (T - (c + 1)) + 1 by omega]
        show (if B a c = 0 then _ else _) = _
        rw [if_neg z]
      rw [hPc, e1] at hP2
      have e2 : fbA B T 0 T = some (10 * a + c) := hP2
      rw [e2] at h
      have e3 : (10 : Int32) * Int32.ofNat a + Int32.ofNat c = Int32.ofNat (10 * a + c) := n_ix
      rw [e3]
      exact h
/-- the class's firstBar; I: what holds of the state all along -/
theorem pX0_firstBar {Q : Int32 → XS → Prop} {B : Nat → Nat → Int32} {I : XS → Prop} (hI : I S) (hIT : ∀ f, I f → f.1 99 6 = Int32.ofNat T) (hT6 : T ≤ 6) (hB : ∀ f a c (Q' : Int32 → XS → Prop), I f → a ≤ c → c < T → (∀ f', I f' → Q' (B a c) f') → wX0_bars b cs ad vs o f (Int32.ofNat a) (Int32.ofNat c) Q') (h : ∀ f, I f → Q (fbV (fbA B T 0 T)) f) : wX0_firstBar b cs ad vs o S Q := by
  unfold wX0_firstBar
  refine ijX0_firstBar_2_1 T 0 (by omega) (by omega) (fun a f => I f ∧ fbA B T 0 T = fbA B T a (T - a)) ?_ _ ⟨hI, rfl⟩
  intro K a f _ ha hP hK
  obtain ⟨hIf, hP⟩ := hP
  unfold wbX0_firstBar_2
  rw [hIT f hIf]
  refine w_upto (by omega) ha (fun q => ?_) (fun hlt => ?_)
  · subst q
    rw [hP, Nat.sub_self] at h
    exact h f hIf
  · obtain ⟨m, hm⟩ : ∃ m, T - a = m + 1 := ⟨T - a - 1, by omega⟩
    have hP2 := hP
    rw [hm, fbA_s] at hP2
    refine ijX0_firstBar_12_2 T a (by omega) (by omega) (fun c x f => x = Int32.ofNat a ∧ I f ∧ fbB B a a (T - a) = fbB B a c (T - c)) ?_ _ _ ⟨rfl, hIf, rfl⟩
    intro K2 c x f hc0 hc hPc hK2
    obtain ⟨rfl, hIf, hPc⟩ := hPc
    unfold wbX0_firstBar_12
    rw [hIT f hIf]
    refine w_upto (by omega) hc (fun q => ?_) (fun hlt2 => hB f a c _ hIf (by omega) hlt2 (fun f' hIf' => ⟨fun z => ?_, fun z => ?_⟩))
    · subst q
      intro x e
      rw [n_suc] at e
      subst e
      refine hK _ hlt ⟨hIf, ?_⟩
      rw [Nat.sub_self] at hPc
      rw [hPc] at hP2
      rw [show c - (a + 1) = m by omega]
      exact hP2
    · intro x e
      rw [n_suc] at e
      subst e
      refine hK2 _ _ hlt2 ⟨rfl, hIf', ?_⟩
      rw [hPc, show T - c = (T - (c + 1)) + 1 by omega]
      show (if B a c = 0 then _ else _) = _
      rw [if_pos z]
    · have e1 : fbB B a c (T - c) = some (10 * a + c) := by
        rw [show T - c = (T - (c + 1)) + 1 by omega]
        show (if B a c = 0 then _ else _) = _
        rw [if_neg z]
      rw [hPc, e1] at hP2
      have e2 : fbA B T 0 T = some (10 * a + c) := hP2
      rw [e2] at h
      have e3 : (10 : Int32) * Int32.ofNat a + Int32.ofNat c = Int32.ofNat (10 * a + c) := n_ix
      rw [e3]
      exact h f' hIf'
end
