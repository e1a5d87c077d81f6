/-! PLAIN LAYER: names; near and worth by the reference -/
set_option maxRecDepth 100000
def nm6 (old : Nat → Int32) (h a c d w e : Int32) : Nat → Int32 := upd (upd (upd (upd (upd (upd old 0 h) 1 a) 2 c) 3 d) 4 w) 5 e
theorem nm6_eq {old old' : Nat → Int32} {h a c d w e : Int32} : rEq 6 (nm6 old h a c d w e) (nm6 old' h a c d w e) := by
  intro i hi
  have : i = 0 ∨ i = 1 ∨ i = 2 ∨ i = 3 ∨ i = 4 ∨ i = 5 := by omega
  rcases this with q | q | q | q | q | q <;> subst q <;> rfl
theorem pX7_names {g : St} {Q : St → Prop} {h a c d w : Int32} (hq : Q (updR g 50 (nm6 (g 50) h a c d w (g 99 6)))) : wX7_names g h a c d w Q := by
  unfold wX7_names
  have hin : ∀ k : Nat, k < 6 → vp_in (Int32.ofNat k) 6 := fun k hk => n_in hk (by decide)
  refine ⟨hin 0 (by decide), fun f1 e1 => ⟨hin 1 (by decide), fun f2 e2 => ⟨hin 2 (by decide), fun f3 e3 => ⟨hin 3 (by decide), fun f4 e4 => ⟨hin 4 (by decide), fun f5 e5 => ⟨hin 5 (by decide), fun f6 e6 => ?_⟩⟩⟩⟩⟩⟩
  have e : f6 = updR g 50 (nm6 (g 50) h a c d w (g 99 6)) := by
    have w5 : f5 99 6 = g 99 6 := by rw [e5, e4, e3, e2, e1]; rfl
    rw [e6, w5, e5, e4, e3, e2, e1]
    show upd2 (upd2 (upd2 (upd2 (upd2 (upd2 g 50 0 h) 50 1 a) 50 2 c) 50 3 d) 50 4 w) 50 5 (g 99 6) = _
    rw [upd2_updR (f := g), updR_upd2', updR_upd2', updR_upd2', updR_upd2', updR_upd2']
    rfl
  rw [e]
  exact hq
theorem ev_congr {nm nm' : Nat → Int32} (h : rEq 6 nm nm') : ∀ {l : List Nat} {st : List Int32}, (∀ c ∈ l, c < 11 → c < 6) → ev nm l st = ev nm' l st
  | [], _, _ => rfl
  | c :: l, st, hl => by
    have e : stp nm c st = stp nm' c st := by
      unfold stp
      by_cases h1 : 100000 ≤ c
      · rw [if_pos h1, if_pos h1]
      · rw [if_neg h1, if_neg h1]
        by_cases h2 : c < 11
        · rw [if_pos h2, if_pos h2, h c (hl c (List.mem_cons_self ..) h2)]
        · rw [if_neg h2, if_neg h2]
    show ev nm l (stp nm c st) = ev nm' l (stp nm' c st)
    rw [e]
    exact ev_congr h (fun x hx => hl x (List.mem_cons_of_mem _ hx))
theorem okL_nm : ∀ {l : List Nat} {h e : Nat}, okL l h e → ∀ c ∈ l, c < 11 → c < 6
  | [], _, _, _, c, hc, _ => absurd hc (List.not_mem_nil)
  | x :: l, h, e, hO, c, hc, h11 => by
    obtain ⟨-, hO⟩ := hO
    rcases List.mem_cons.mp hc with q | q
    · subst q
      rcases hO with ⟨h1 | h1, -⟩ | ⟨h1, -⟩ | ⟨h1, -⟩
      · omega
      · exact h1
      · omega
      · unfold isBin at h1
        omega
    · rcases hO with ⟨-, h2⟩ | ⟨-, -, h2⟩ | ⟨-, -, h2⟩
      · exact okL_nm h2 c q h11
      · exact okL_nm h2 c q h11
      · exact okL_nm h2 c q h11
theorem nV_congr {nm nm' : Nat → Int32} {l : List Nat} {e : Nat} (h : rEq 6 nm nm') (hO : okL l 0 e) : nV nm l = nV nm' l := by
  unfold nV
  rw [ev_congr h (okL_nm hO)]
/-- part p of the text in force, as codes -/
def partL (g : St) (p : Nat) (l : List Nat) : Prop := ∃ r s : Nat, g 99 15 = Int32.ofNat r ∧ r < 6 ∧ g 13 (4 * r + p) = Int32.ofNat s ∧ g 13 (4 * r + p + 1) = Int32.ofNat (s + l.length) ∧ (∀ k, (hk : k < l.length) → g 12 (200 * r + (s + k)) = Int32.ofNat l[k]) ∧ s + l.length ≤ 200 ∧ okL l 0 1
theorem pX7_part {g : St} {Q : Int32 → St → Prop} {p : Nat} {l : List Nat} (hp : p < 3) (hl : partL g p l) (h : ∀ F, Q (nV (g 50) l) (updR g 49 F)) : wX7_worth g (Int32.ofNat p) Q := by
  obtain ⟨r, s, h1, h2, h3, h4, h5, h6, h7⟩ := hl
  exact pX7_worth h1 h2 hp h3 h4 h5 h6 h7 h
/-- what the rule says of near -/
def nearV (g : St) (l : List Nat) (far : Nat → Int32) (a c : Nat) : Int32 := nV (nm6 (fun _ => 0) (far (6 * a + c)) (g 1 a) (g 1 c) 0 0 (g 99 6)) l
theorem pX7_nearOf {g : St} {Q : Int32 → St → Prop} {a c : Nat} {l : List Nat} (ha : a < 6) (hc : c < 6) (hl : partL g 0 l) (h : ∀ F G, Q (nearV g l (g 39) a c) (updR (updR g 50 G) 49 F)) : wX7_nearOf g (Int32.ofNat a) (Int32.ofNat c) Q := by
  unfold wX7_nearOf
  have e1 : (6 : Int32) * Int32.ofNat a + Int32.ofNat c = Int32.ofNat (6 * a + c) := n_ix
  rw [e1, n_clamp (n := 6 * a + c) (by omega), n_clamp (n := a) (by omega), n_clamp (n := c) (by omega)]
  refine ⟨n_in (by omega) (by decide), n_in ha (by decide), n_in hc (by decide), pX7_names (pX7_part (p := 0) (by decide) hl (fun F => ?_))⟩
  have e : nV (nm6 (g 50) (g 39 (6 * a + c)) (g 1 a) (g 1 c) 0 0 (g 99 6)) l = nearV g l (g 39) a c := by
    obtain ⟨_, _, _, _, _, _, _, _, h7⟩ := hl
    exact nV_congr nm6_eq h7
  show Q (nV (nm6 (g 50) (g 39 (6 * a + c)) (g 1 a) (g 1 c) 0 0 (g 99 6)) l) _
  rw [e]
  exact h F _
