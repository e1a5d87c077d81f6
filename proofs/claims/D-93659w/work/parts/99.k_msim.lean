/-! PLAIN LAYER: the reference reads what the grammar says -/
set_option maxRecDepth 100000
def rki (lv : Nat) : Nat := if lv = 5 then 1 else if lv = 4 then 2 else if lv = 3 then 4 else if lv = 2 then 5 else if lv = 1 then 6 else 8
def rko (lv : Nat) : Nat := if lv = 5 then 1 else if lv = 4 then 2 else if lv = 3 then 3 else if lv = 2 then 5 else if lv = 1 then 6 else 8
def hdR (H : List Nat) (m : Nat) : Prop := ∀ s, H.head? = some s → rkN s < m
def cm4 (Hl : List Nat) : Prop := ∃ (A : List Nat) (c : Nat) (R : List Nat), Hl = A ++ c :: R ∧ (∀ s ∈ A, 5 ≤ rkN s) ∧ rkN c = 4
def pst (lv : Nat) (Hl : List Nat) (k : Nat) : Prop := (∀ s ∈ Hl, rko lv ≤ rkN s) ∧ (3 ≤ lv → cmC k ≠ none → cm4 Hl) ∧ (1 ≤ lv → k ≠ 42) ∧ (2 ≤ lv → k ≠ 43 ∧ k ≠ 45) ∧ (4 ≤ lv → k ≠ 5) ∧ (5 ≤ lv → k ≠ 4)
def pl (b : Nat) (Hl : List Nat) (k : Nat) : Prop := (∀ s ∈ Hl, rko b ≤ rkN s) ∧ (3 ≤ b → cmC k ≠ none → cm4 Hl) ∧ (2 ≤ b → k ≠ 42) ∧ (4 ≤ b → k ≠ 43 ∧ k ≠ 45) ∧ (5 ≤ b → k ≠ 5)
theorem hdR_le {H : List Nat} {m m' : Nat} (h : hdR H m) (hm : m ≤ m') : hdR H m' := fun s hs => Nat.lt_of_lt_of_le (h s hs) hm
theorem hdR_c {c m : Nat} {H : List Nat} (h : rkN c < m) : hdR (c :: H) m := by
  intro s hs
  have := Option.some.inj hs
  subst this
  exact h
theorem h19 {H : List Nat} {m : Nat} (h : hdR H m) (hm : m ≤ 7) : t19 H = [] ∧ d19 H = H := by
  cases H with
  | nil => exact ⟨rfl, rfl⟩
  | cons s r =>
    have h1 := h s rfl
    have hne : s ≠ 19 := by
      intro z
      rw [z] at h1
      have : rkN 19 = 7 := rfl
      omega
    have hb : (s == 19) = false := by simp [hne]
    constructor
    · unfold t19
      simp [List.takeWhile, hb]
    · unfold d19
      simp [List.dropWhile, hb]
theorem t19_19 {H : List Nat} : t19 (19 :: H) = 19 :: t19 H ∧ d19 (19 :: H) = d19 H := ⟨rfl, rfl⟩
theorem cm4_app {Hl R : List Nat} (h : cm4 Hl) : cm4 (Hl ++ R) := by
  obtain ⟨A, c, R', e, h1, h2⟩ := h
  exact ⟨A, c, R' ++ R, by rw [e]; simp, h1, h2⟩
theorem cm_c {k c : Nat} (h : cmC k = some c) : (c = 14 ∨ c = 15) ∧ sgC2 k = some c := by
  unfold cmC at h
  by_cases c1 : k = 60
  · rw [if_pos c1] at h
    have := Option.some.inj h
    subst c1
    subst this
    exact ⟨Or.inl rfl, rfl⟩
  · rw [if_neg c1] at h
    by_cases c2 : k = 61
    · rw [if_pos c2] at h
      have := Option.some.inj h
      subst c2
      subst this
      exact ⟨Or.inr rfl, rfl⟩
    · rw [if_neg c2] at h
      cases h
theorem op_c {b k c : Nat} (h : opC b k = some c) : (b = 1 ∧ k = 42 ∧ c = 18) ∨ (b = 2 ∧ k = 43 ∧ c = 16) ∨ (b = 2 ∧ k = 45 ∧ c = 17) ∨ (b = 4 ∧ k = 5 ∧ c = 12) ∨ (b = 5 ∧ k = 4 ∧ c = 11) := by
  unfold opC at h
  by_cases b1 : b = 1
  · rw [if_pos b1] at h
    by_cases c1 : k = 42
    · rw [if_pos c1] at h
      have := Option.some.inj h
      omega
    · rw [if_neg c1] at h
      cases h
  rw [if_neg b1] at h
  by_cases b2 : b = 2
  · rw [if_pos b2] at h
    by_cases c1 : k = 43
    · rw [if_pos c1] at h
      have := Option.some.inj h
      omega
    · rw [if_neg c1] at h
      by_cases c2 : k = 45
      · rw [if_pos c2] at h
        have := Option.some.inj h
        omega
      · rw [if_neg c2] at h
        cases h
  rw [if_neg b2] at h
  by_cases b4 : b = 4
  · rw [if_pos b4] at h
    by_cases c1 : k = 5
    · rw [if_pos c1] at h
      have := Option.some.inj h
      omega
    · rw [if_neg c1] at h
      cases h
  rw [if_neg b4] at h
  by_cases b5 : b = 5
  · rw [if_pos b5] at h
    by_cases c1 : k = 4
    · rw [if_pos c1] at h
      have := Option.some.inj h
      omega
    · rw [if_neg c1] at h
      cases h
  rw [if_neg b5] at h
  cases h
/-- a level's sign: all that the loop needs -/
theorem op_f {b k c : Nat} (h : opC b k = some c) : sgC2 k = some c ∧ rkN c ≠ 4 ∧ lstN c = rki b ∧ rko b = rki b ∧ rkN c = rko b ∧ rkN c < rki (sbL b) ∧ (3 ≤ sbL b → (if 12 < c then (0 : Int32) else 1) = 1) ∧ (sbL b ≤ 2 → (if 12 < c then (0 : Int32) else 1) = 0) ∧ isO c = false ∧ rko b ≤ rko (sbL b) ∧ rki b ≤ 7 := by
  rcases op_c h with ⟨rfl, rfl, rfl⟩ | ⟨rfl, rfl, rfl⟩ | ⟨rfl, rfl, rfl⟩ | ⟨rfl, rfl, rfl⟩ | ⟨rfl, rfl, rfl⟩ <;> decide
theorem op_n {b k : Nat} (hb : isB b) (h : opC b k = none) : (b = 1 → k ≠ 42) ∧ (b = 2 → k ≠ 43 ∧ k ≠ 45) ∧ (b = 4 → k ≠ 5) ∧ (b = 5 → k ≠ 4) := by
  refine ⟨fun e z => ?_, fun e => ⟨fun z => ?_, fun z => ?_⟩, fun e z => ?_, fun e z => ?_⟩ <;> subst e <;> subst z <;> exact absurd h (by decide)
section
variable (B : Nat → Nat) (n : Nat) (g0 : St) (X : Nat) (Q : Int32 → St → Prop)
def SW (lv k i : Nat) (r : Option (List Nat)) (j : Nat) : Prop := ∀ (g : St) (O H : List Nat) (mn : Int32), WS B n g0 X g i O H → cO H = k → hdR H (rki lv) → (3 ≤ lv → mn = 1) → (lv ≤ 2 → kd B n i = 6 → mn = 0) →
  (r = none → FC B n g0 X Q j → ER B n Q i 1 mn g) ∧ (∀ l, r = some l → (∀ (g' : St) (lo Hl : List Nat) (mn' : Int32), WS B n g0 X g' j (O ++ lo) (Hl ++ d19 H) → lo ++ Hl = l ++ t19 H → pst lv Hl (kd B n j) → ER B n Q j 0 mn' g') → ER B n Q i 1 mn g)
def SL (b k i : Nat) (acc : List Nat) (r : Option (List Nat)) (j : Nat) : Prop := ∀ (g : St) (O lo Hl H : List Nat) (mn : Int32), WS B n g0 X g i (O ++ lo) (Hl ++ H) → lo ++ Hl = acc → pl b Hl (kd B n i) → cO H = k → hdR H (rki b) →
  (r = none → FC B n g0 X Q j → ER B n Q i 0 mn g) ∧ (∀ l, r = some l → (∀ (g' : St) (lo' Hl' : List Nat) (mn' : Int32), WS B n g0 X g' j (O ++ lo') (Hl' ++ H) → lo' ++ Hl' = l → pst b Hl' (kd B n j) → ER B n Q j 0 mn' g') → ER B n Q i 0 mn g)
def CMm : CT := fun lv k i acc r j => (lv < 10 → SW B n g0 X Q lv k i r j) ∧ (10 ≤ lv → SL B n g0 X Q (lv - 10) k i acc r j)
end
section
variable {B : Nat → Nat} {n : Nat} {g0 g : St} {X : Nat} {Q : Int32 → St → Prop}
/-- behind an E, no ) and no ; -/
theorem n_end {j : Nat} {O Hl H : List Nat} {mn : Int32} (ht : tpR g0 B n) (h : WS B n g0 X g j O (Hl ++ H)) (hp : pst 5 Hl (kd B n j)) (h41 : kd B n j ≠ 41) (h59 : kd B n j ≠ 59) (hF : FC B n g0 X Q j) : ER B n Q j 0 mn g := by
  obtain ⟨p1, p2, p3, p4, p5, p6⟩ := hp
  cases hc : cmC (kd B n j) with
  | some c =>
    obtain ⟨c1, c2⟩ := cm_c hc
    obtain ⟨A, c', R, e, h1, h2⟩ := p2 (by decide) (by rw [hc]; exact fun z => by cases z)
    rw [e, List.append_assoc] at h
    have hr4 : rkN c = 4 := by rcases c1 with z | z <;> subst z <;> rfl
    have hl5 : lstN c = 5 := by unfold lstN; rw [if_pos hr4]
    refine n_op (H := c' :: R ++ H) ht h c2 (by rw [hl5]; exact h1) (by rw [hl5]; exact hdR_c (by omega)) (fun _ _ => hF) (fun z => absurd ⟨hr4, c', rfl, h2⟩ z)
  | none =>
    refine n_bad ht h ?_ h59 h41 hF
    have h60 : kd B n j ≠ 60 := by intro z; rw [z] at hc; cases hc
    have h61 : kd B n j ≠ 61 := by intro z; rw [z] at hc; cases hc
    unfold sgC2
    rw [if_neg (p6 (by decide)), if_neg (p5 (by decide)), if_neg h60, if_neg h61, if_neg (p4 (by decide)).1, if_neg (p4 (by decide)).2, if_neg (p3 (by decide))]
theorem sg8 {k : Nat} (h : k = 8) : sgC2 k = none ∧ k ≠ 59 ∧ k ≠ 41 := by subst h; decide
theorem pst0 {k : Nat} : pst 0 [] k := ⟨fun s hs => (by cases hs), fun h => absurd h (by decide), fun h => absurd h (by decide), fun h => absurd h (by decide), fun h => absurd h (by decide), fun h => absurd h (by decide)⟩
theorem m_rules (ht : tpR g0 B n) : Rl (kd B n) (vl B n) (CMm B n g0 X Q) := by
  refine ⟨?_, ?_, ?_, ?_, ?_, ?_, ?_, ?_, ?_, ?_, ?_, ?_, ?_, ?_, ?_, ?_, ?_, ?_, ?_, ?_, ?_, ?_⟩
  · -- full
    intro k i hk h5
    refine ⟨fun _ g O H mn hW hc hd m1 m2 => ⟨fun _ hF => ?_, fun l e => by cases e⟩, fun h => absurd h (by decide)⟩
    rcases hk with z | z
    · exact w_open (s := 19) (mn2 := 0) ht hW (Or.inl ⟨z, rfl, rfl⟩) (fun _ => hF) (fun q => absurd (hc.trans h5) q)
    · exact w_open (s := 0) (mn2 := 1) ht hW (Or.inr (Or.inl ⟨z, rfl, rfl⟩)) (fun _ => hF) (fun q => absurd (hc.trans h5) q)
  · -- neg0
    intro k i j hk h5 hC
    refine ⟨fun _ g O H mn hW hc hd m1 m2 => ⟨fun _ hF => ?_, fun l e => by cases e⟩, fun h => absurd h (by decide)⟩
    refine w_open (s := 19) (mn2 := 0) ht hW (Or.inl ⟨hk, rfl, rfl⟩) (fun z => absurd z (by omega)) (fun _ g' hg' => ?_)
    exact (hC.1 (by decide) g' O (19 :: H) 0 hg' (by rw [cO_c, hc]; rfl) (hdR_c (by decide)) (fun z => absurd z (by decide)) (fun _ _ => rfl)).1 rfl hF
  · -- neg
    intro k i j l hk h5 hC
    refine ⟨fun _ g O H mn hW hc hd m1 m2 => ⟨fun e => (by cases e), fun l' e hn => ?_⟩, fun h => absurd h (by decide)⟩
    have e' := Option.some.inj e
    subst e'
    refine w_open (s := 19) (mn2 := 0) ht hW (Or.inl ⟨hk, rfl, rfl⟩) (fun z => absurd z (by omega)) (fun _ g' hg' => ?_)
    refine (hC.1 (by decide) g' O (19 :: H) 0 hg' (by rw [cO_c, hc]; rfl) (hdR_c (by decide)) (fun z => absurd z (by decide)) (fun _ _ => rfl)).2 l rfl (fun g2 lo Hl mn' hW2 he hp => hn g2 lo Hl mn' ?_ ?_ hp)
    · rw [t19_19.2] at hW2; exact hW2
    · rw [t19_19.1] at he
      rw [he]
      simp
  · -- par0
    intro k i j hk h5 hC
    refine ⟨fun _ g O H mn hW hc hd m1 m2 => ⟨fun _ hF => ?_, fun l e => by cases e⟩, fun h => absurd h (by decide)⟩
    refine w_open (s := 0) (mn2 := 1) ht hW (Or.inr (Or.inl ⟨hk, rfl, rfl⟩)) (fun z => absurd z (by omega)) (fun _ g' hg' => ?_)
    exact (hC.1 (by decide) g' O (0 :: H) 1 hg' (by rw [cO_c, hc]; rfl) (hdR_c (by decide)) (fun _ => rfl) (fun z => absurd z (by decide))).1 rfl hF
  · -- par1
    intro k i j l hk h5 hC h41
    refine ⟨fun _ g O H mn hW hc hd m1 m2 => ⟨fun _ hF => ?_, fun l e => by cases e⟩, fun h => absurd h (by decide)⟩
    refine w_open (s := 0) (mn2 := 1) ht hW (Or.inr (Or.inl ⟨hk, rfl, rfl⟩)) (fun z => absurd z (by omega)) (fun _ g' hg' => ?_)
    refine (hC.1 (by decide) g' O (0 :: H) 1 hg' (by rw [cO_c, hc]; rfl) (hdR_c (by decide)) (fun _ => rfl) (fun z => absurd z (by decide))).2 l rfl (fun g2 lo Hl mn' hW2 he hp => ?_)
    have hW3 : WS B n g0 X g2 j (O ++ lo) (Hl ++ 0 :: H) := hW2
    by_cases c59 : kd B n j = 59
    · exact n_semi ht hW3 c59 hp.1 (hdR_c (by decide)) (fun _ => hF) (fun z => by cases z)
    · exact n_end ht hW3 hp h41 c59 hF
  · -- par2
    intro k i j l hk h5 hC h41 h8
    refine ⟨fun _ g O H mn hW hc hd m1 m2 => ⟨fun _ hF => ?_, fun l e => by cases e⟩, fun h => absurd h (by decide)⟩
    refine w_open (s := 0) (mn2 := 1) ht hW (Or.inr (Or.inl ⟨hk, rfl, rfl⟩)) (fun z => absurd z (by omega)) (fun _ g' hg' => ?_)
    refine (hC.1 (by decide) g' O (0 :: H) 1 hg' (by rw [cO_c, hc]; rfl) (hdR_c (by decide)) (fun _ => rfl) (fun z => absurd z (by decide))).2 l rfl (fun g2 lo Hl mn' hW2 he hp => ?_)
    have hW3 : WS B n g0 X g2 j (O ++ lo) (Hl ++ 0 :: H) := hW2
    refine n_close ht hW3 h41 hp.1 (Or.inr ⟨H, rfl⟩) (fun z => by cases z) (fun H' _ g3 hW4 => ?_)
    obtain ⟨a1, a2, a3⟩ := sg8 h8
    exact n_bad ht hW4 a1 a2 a3 hF
  · -- par
    intro k i j l hk h5 hC h41 h8
    refine ⟨fun _ g O H mn hW hc hd m1 m2 => ⟨fun e => (by cases e), fun l' e hn => ?_⟩, fun h => absurd h (by decide)⟩
    have e' := Option.some.inj e
    subst e'
    refine w_open (s := 0) (mn2 := 1) ht hW (Or.inr (Or.inl ⟨hk, rfl, rfl⟩)) (fun z => absurd z (by omega)) (fun _ g' hg' => ?_)
    refine (hC.1 (by decide) g' O (0 :: H) 1 hg' (by rw [cO_c, hc]; rfl) (hdR_c (by decide)) (fun _ => rfl) (fun z => absurd z (by decide))).2 l rfl (fun g2 lo Hl mn' hW2 he hp => ?_)
    have hW3 : WS B n g0 X g2 j (O ++ lo) (Hl ++ 0 :: H) := hW2
    have he' : lo ++ Hl = l := by
      have : t19 (0 :: H) = [] := rfl
      rw [this, List.append_nil] at he
      exact he
    refine n_close ht hW3 h41 hp.1 (Or.inr ⟨H, rfl⟩) (fun z => by cases z) (fun H' eH g3 hW4 => ?_)
    have eH' : H = H' := by injection eH
    subst eH'
    refine hn g3 (lo ++ (Hl ++ t19 H)) [] mn' ?_ ?_ pst0
    · rw [List.nil_append]
      simp only [List.append_assoc] at hW4 ⊢
      exact hW4
    · rw [List.append_nil, ← List.append_assoc, he']
  · -- leaf, then a fault
    intro k i c h1 h8
    refine ⟨fun _ g O H mn hW hc hd m1 m2 => ⟨fun _ hF => ?_, fun l e => by cases e⟩, fun h => absurd h (by decide)⟩
    refine w_leaf ht hW h1 (fun g' hW' => ?_)
    obtain ⟨a1, a2, a3⟩ := sg8 h8
    exact n_bad ht hW' a1 a2 a3 hF
  · -- leaf
    intro k i c h1 h8
    refine ⟨fun _ g O H mn hW hc hd m1 m2 => ⟨fun e => (by cases e), fun l' e hn => ?_⟩, fun h => absurd h (by decide)⟩
    have e' := Option.some.inj e
    subst e'
    refine w_leaf ht hW h1 (fun g' hW' => hn g' (c :: t19 H) [] mn hW' ?_ pst0)
    simp
  · -- nothing that can stand
    intro k i h45 h40 h1
    refine ⟨fun _ g O H mn hW hc hd m1 m2 => ⟨fun _ hF => ?_, fun l e => by cases e⟩, fun h => absurd h (by decide)⟩
    refine w_bad ht hW (fun z => ?_) (fun z => ?_) (m2 (by decide)) h45 h40 hF
    · rw [z] at h1; cases h1
    · rw [z] at h1; cases h1
  · -- not, too deep
    intro k i hk h5
    refine ⟨fun _ g O H mn hW hc hd m1 m2 => ⟨fun _ hF => ?_, fun l e => by cases e⟩, fun h => absurd h (by decide)⟩
    have hm := m1 (by decide)
    subst hm
    exact w_open (s := 13) (mn2 := 1) ht hW (Or.inr (Or.inr ⟨hk, rfl, rfl, by decide⟩)) (fun _ => hF) (fun q => absurd (hc.trans h5) q)
  · -- not0
    intro k i j hk h5 hC
    refine ⟨fun _ g O H mn hW hc hd m1 m2 => ⟨fun _ hF => ?_, fun l e => by cases e⟩, fun h => absurd h (by decide)⟩
    have hm := m1 (by decide)
    subst hm
    refine w_open (s := 13) (mn2 := 1) ht hW (Or.inr (Or.inr ⟨hk, rfl, rfl, by decide⟩)) (fun z => absurd z (by omega)) (fun _ g' hg' => ?_)
    exact (hC.1 (by decide) g' O (13 :: H) 1 hg' (by rw [cO_c, hc]; rfl) (hdR_c (by decide)) (fun _ => rfl) (fun z => absurd z (by decide))).1 rfl hF
  · -- not
    intro k i j l hk h5 hC
    refine ⟨fun _ g O H mn hW hc hd m1 m2 => ⟨fun e => (by cases e), fun l' e hn => ?_⟩, fun h => absurd h (by decide)⟩
    have e' := Option.some.inj e
    subst e'
    have hm := m1 (by decide)
    subst hm
    obtain ⟨ht1, hd1⟩ := h19 hd (by decide)
    refine w_open (s := 13) (mn2 := 1) ht hW (Or.inr (Or.inr ⟨hk, rfl, rfl, by decide⟩)) (fun z => absurd z (by omega)) (fun _ g' hg' => ?_)
    refine (hC.1 (by decide) g' O (13 :: H) 1 hg' (by rw [cO_c, hc]; rfl) (hdR_c (by decide)) (fun _ => rfl) (fun z => absurd z (by decide))).2 l rfl (fun g2 lo Hl mn' hW2 he hp => hn g2 lo (Hl ++ [13]) mn' ?_ ?_ ?_)
    · rw [hd1, List.append_assoc]
      exact hW2
    · have : t19 (13 :: H) = [] := rfl
      rw [this, List.append_nil] at he
      rw [ht1, List.append_nil, ← List.append_assoc, he]
    · obtain ⟨p1, p2, p3, p4, p5, p6⟩ := hp
      refine ⟨fun s hs => ?_, fun a b => cm4_app (p2 a b), p3, p4, p5, p6⟩
      rcases List.mem_append.mp hs with z | z
      · exact p1 s z
      · rw [List.mem_singleton.mp z]; decide
  · -- cm0
    intro k i j hk hC
    refine ⟨fun _ g O H mn hW hc hd m1 m2 => ⟨fun _ hF => ?_, fun l e => by cases e⟩, fun h => absurd h (by decide)⟩
    exact (hC.1 (by decide) g O H mn hW hc (hdR_le hd (by decide)) (fun z => absurd z (by decide)) (fun _ z => absurd z hk)).1 rfl hF
  · -- cm1
    intro k i j l hk hC hcm
    refine ⟨fun _ g O H mn hW hc hd m1 m2 => ⟨fun e => (by cases e), fun l' e hn => ?_⟩, fun h => absurd h (by decide)⟩
    have e' := Option.some.inj e
    subst e'
    refine (hC.1 (by decide) g O H mn hW hc (hdR_le hd (by decide)) (fun z => absurd z (by decide)) (fun _ z => absurd z hk)).2 l rfl (fun g2 lo Hl mn' hW2 he hp => hn g2 lo Hl mn' hW2 he ?_)
    obtain ⟨p1, p2, p3, p4, p5, p6⟩ := hp
    exact ⟨fun s hs => Nat.le_trans (by decide) (p1 s hs), fun _ z => absurd hcm z, fun _ => p3 (by decide), fun _ => p4 (by decide), fun z => absurd z (by decide), fun z => absurd z (by decide)⟩
  · -- cm2
    intro k i j l c j2 hk hC hcm hC2
    refine ⟨fun _ g O H mn hW hc hd m1 m2 => ⟨fun _ hF => ?_, fun l e => by cases e⟩, fun h => absurd h (by decide)⟩
    obtain ⟨ht1, hd1⟩ := h19 hd (by decide)
    refine (hC.1 (by decide) g O H mn hW hc (hdR_le hd (by decide)) (fun z => absurd z (by decide)) (fun _ z => absurd z hk)).2 l rfl (fun g2 lo Hl mn' hW2 he hp => ?_)
    rw [hd1] at hW2
    obtain ⟨c1, c2⟩ := cm_c hcm
    have hr4 : rkN c = 4 := by rcases c1 with z | z <;> subst z <;> rfl
    have hl5 : lstN c = 5 := by unfold lstN; rw [if_pos hr4]
    have hi : isO c = false := by rcases c1 with z | z <;> subst z <;> rfl
    have hmn : (if 12 < c then (0 : Int32) else 1) = 0 := by rcases c1 with z | z <;> subst z <;> rfl
    refine n_op ht hW2 c2 (by rw [hl5]; exact hp.1) (by rw [hl5]; exact hdR_le hd (by decide)) (fun _ z => ?_) (fun _ g3 hW3 => ?_)
    · obtain ⟨s, z1, z2⟩ := z
      have := hd s z1
      rw [show rki 3 = 4 from rfl] at this
      omega
    · rw [hmn]
      exact (hC2.1 (by decide) g3 (O ++ lo ++ Hl) (c :: H) 0 hW3 (by rw [cO_c, hi, hc]; rfl) (hdR_c (by rw [hr4]; decide)) (fun z => absurd z (by decide)) (fun _ _ => rfl)).1 rfl hF
  · -- cm
    intro k i j l c j2 l2 hk hC hcm hC2
    refine ⟨fun _ g O H mn hW hc hd m1 m2 => ⟨fun e => (by cases e), fun l' e hn => ?_⟩, fun h => absurd h (by decide)⟩
    have e' := Option.some.inj e
    subst e'
    obtain ⟨ht1, hd1⟩ := h19 hd (by decide)
    refine (hC.1 (by decide) g O H mn hW hc (hdR_le hd (by decide)) (fun z => absurd z (by decide)) (fun _ z => absurd z hk)).2 l rfl (fun g2 lo Hl mn' hW2 he hp => ?_)
    rw [hd1] at hW2
    rw [ht1, List.append_nil] at he
    obtain ⟨c1, c2⟩ := cm_c hcm
    have hr4 : rkN c = 4 := by rcases c1 with z | z <;> subst z <;> rfl
    have hl5 : lstN c = 5 := by unfold lstN; rw [if_pos hr4]
    have hi : isO c = false := by rcases c1 with z | z <;> subst z <;> rfl
    have hmn : (if 12 < c then (0 : Int32) else 1) = 0 := by rcases c1 with z | z <;> subst z <;> rfl
    refine n_op ht hW2 c2 (by rw [hl5]; exact hp.1) (by rw [hl5]; exact hdR_le hd (by decide)) (fun _ z => ?_) (fun _ g3 hW3 => ?_)
    · obtain ⟨s, z1, z2⟩ := z
      have := hd s z1
      rw [show rki 3 = 4 from rfl] at this
      omega
    · rw [hmn]
      obtain ⟨ht2, hd2⟩ := h19 (H := c :: H) (m := 5) (hdR_c (by omega)) (by decide)
      refine (hC2.1 (by decide) g3 (O ++ lo ++ Hl) (c :: H) 0 hW3 (by rw [cO_c, hi, hc]; rfl) (hdR_c (by rw [hr4]; decide)) (fun z => absurd z (by decide)) (fun _ _ => rfl)).2 l2 rfl (fun g4 lo2 Hl2 mn2 hW4 he2 hp2 => hn g4 (lo ++ (Hl ++ lo2)) (Hl2 ++ [c]) mn2 ?_ ?_ ?_)
      · rw [hd2] at hW4
        rw [hd1]
        simp only [List.append_assoc, List.singleton_append] at hW4 ⊢
        exact hW4
      · rw [ht2, List.append_nil] at he2
        rw [ht1, List.append_nil, ← he, ← he2]
        simp
      · obtain ⟨p1, p2, p3, p4, p5, p6⟩ := hp2
        refine ⟨fun s hs => ?_, fun _ _ => ⟨Hl2, c, [], rfl, p1, hr4⟩, fun _ => p3 (by decide), fun _ => p4 (by decide), fun z => absurd z (by decide), fun z => absurd z (by decide)⟩
        rcases List.mem_append.mp hs with z | z
        · exact Nat.le_trans (by decide) (p1 s z)
        · rw [List.mem_singleton.mp z, hr4]; decide
  · -- b0
    intro b k i j hb hC
    refine ⟨fun _ g O H mn hW hc hd m1 m2 => ⟨fun _ hF => ?_, fun l e => by cases e⟩, fun h => absurd h (by unfold isB at hb; omega)⟩
    rcases hb with z | z | z | z <;> subst z
    · exact (hC.1 (by decide) g O H mn hW hc (hdR_le hd (by decide)) (fun z => absurd z (by decide)) (fun _ => m2 (by decide))).1 rfl hF
    · exact (hC.1 (by decide) g O H mn hW hc (hdR_le hd (by decide)) (fun z => absurd z (by decide)) (fun _ => m2 (by decide))).1 rfl hF
    · exact (hC.1 (by decide) g O H mn hW hc (hdR_le hd (by decide)) (fun _ => m1 (by decide)) (fun z => absurd z (by decide))).1 rfl hF
    · exact (hC.1 (by decide) g O H mn hW hc (hdR_le hd (by decide)) (fun _ => m1 (by decide)) (fun z => absurd z (by decide))).1 rfl hF
  · -- b
    intro b k i j l i2 r hb hC hL
    refine ⟨fun _ g O H mn hW hc hd m1 m2 => ?_, fun h => absurd h (by unfold isB at hb; omega)⟩
    have hL' : SL B n g0 X Q b k i2 l r j := by
      have := hL.2 (by omega)
      rw [Nat.add_sub_cancel_left] at this
      exact this
    have h7 : rki b ≤ 7 := by rcases hb with z | z | z | z <;> subst z <;> decide
    obtain ⟨ht1, hd1⟩ := h19 hd h7
    have hsub : (∀ (g' : St) (lo Hl : List Nat) (mn' : Int32), WS B n g0 X g' i2 (O ++ lo) (Hl ++ d19 H) → lo ++ Hl = l ++ t19 H → pst (sbL b) Hl (kd B n i2) → ER B n Q i2 0 mn' g') → ER B n Q i 1 mn g := by
      rcases hb with z | z | z | z <;> subst z
      · exact (hC.1 (by decide) g O H mn hW hc (hdR_le hd (by decide)) (fun z => absurd z (by decide)) (fun _ => m2 (by decide))).2 l rfl
      · exact (hC.1 (by decide) g O H mn hW hc (hdR_le hd (by decide)) (fun z => absurd z (by decide)) (fun _ => m2 (by decide))).2 l rfl
      · exact (hC.1 (by decide) g O H mn hW hc (hdR_le hd (by decide)) (fun _ => m1 (by decide)) (fun z => absurd z (by decide))).2 l rfl
      · exact (hC.1 (by decide) g O H mn hW hc (hdR_le hd (by decide)) (fun _ => m1 (by decide)) (fun z => absurd z (by decide))).2 l rfl
    have hpl : ∀ Hl kk, pst (sbL b) Hl kk → pl b Hl kk := by
      intro Hl kk hp
      obtain ⟨p1, p2, p3, p4, p5, p6⟩ := hp
      rcases hb with z | z | z | z <;> subst z
      · exact ⟨fun s hs => Nat.le_trans (by decide) (p1 s hs), fun z => absurd z (by decide), fun z => absurd z (by decide), fun z => absurd z (by decide), fun z => absurd z (by decide)⟩
      · exact ⟨fun s hs => Nat.le_trans (by decide) (p1 s hs), fun z => absurd z (by decide), fun _ => p3 (by decide), fun z => absurd z (by decide), fun z => absurd z (by decide)⟩
      · exact ⟨fun s hs => Nat.le_trans (by decide) (p1 s hs), fun _ => p2 (by decide), fun _ => p3 (by decide), fun _ => p4 (by decide), fun z => absurd z (by decide)⟩
      · exact ⟨fun s hs => Nat.le_trans (by decide) (p1 s hs), fun _ => p2 (by decide), fun _ => p3 (by decide), fun _ => p4 (by decide), fun _ => p5 (by decide)⟩
    refine ⟨fun er hF => hsub (fun g2 lo Hl mn' hW2 he hp => ?_), fun l' er hn => hsub (fun g2 lo Hl mn' hW2 he hp => ?_)⟩
    · rw [hd1] at hW2
      rw [ht1, List.append_nil] at he
      exact (hL' g2 O lo Hl H mn' hW2 he (hpl _ _ hp) hc hd).1 er hF
    · rw [hd1] at hW2
      rw [ht1, List.append_nil] at he
      refine (hL' g2 O lo Hl H mn' hW2 he (hpl _ _ hp) hc hd).2 l' er (fun g3 lo' Hl' mn2 hW3 he3 hp3 => hn g3 lo' Hl' mn2 ?_ ?_ hp3)
      · rw [hd1]; exact hW3
      · rw [ht1, List.append_nil]; exact he3
  · -- l0
    intro b k i acc hb hop
    refine ⟨fun h => absurd h (by omega), fun _ => ?_⟩
    rw [Nat.add_sub_cancel_left]
    intro g O lo Hl H mn hW he hp hc hd
    refine ⟨fun e => (by cases e), fun l e hn => hn g lo Hl mn hW (he.trans (Option.some.inj e)) ?_⟩
    obtain ⟨p1, p2, p3, p4, p5⟩ := hp
    obtain ⟨o1, o2, o4, o5⟩ := op_n hb hop
    rcases hb with z | z | z | z <;> subst z
    · exact ⟨p1, p2, fun _ => o1 rfl, fun z => absurd z (by decide), fun z => absurd z (by decide), fun z => absurd z (by decide)⟩
    · exact ⟨p1, p2, fun _ => p3 (by decide), fun _ => o2 rfl, fun z => absurd z (by decide), fun z => absurd z (by decide)⟩
    · exact ⟨p1, p2, fun _ => p3 (by decide), fun _ => p4 (by decide), fun _ => o4 rfl, fun z => absurd z (by decide)⟩
    · exact ⟨p1, p2, fun _ => p3 (by decide), fun _ => p4 (by decide), fun _ => p5 (by decide), fun _ => o5 rfl⟩
  · -- l1
    intro b k i acc c j hb hop hC
    refine ⟨fun h => absurd h (by omega), fun _ => ?_⟩
    rw [Nat.add_sub_cancel_left]
    intro g O lo Hl H mn hW he hp hc hd
    refine ⟨fun _ hF => ?_, fun l e => by cases e⟩
    obtain ⟨f1, f2, f3, f4, f5, f6, f7, f8, f9, f10, f11⟩ := op_f hop
    have hs10 : sbL b < 10 := by rcases hb with z | z | z | z <;> subst z <;> decide
    refine n_op ht hW f1 (by rw [f3, ← f4]; exact hp.1) (by rw [f3]; exact hd) (fun z => absurd z f2) (fun _ g3 hW3 => ?_)
    exact (hC.1 hs10 g3 (O ++ lo ++ Hl) (c :: H) _ hW3 (by rw [cO_c, f9, hc]; rfl) (hdR_c f6) f7 (fun z _ => f8 z)).1 rfl hF
  · -- l
    intro b k i acc c l2 i2 r j hb hop hC hL
    refine ⟨fun h => absurd h (by omega), fun _ => ?_⟩
    have hL' : SL B n g0 X Q b k i2 (acc ++ (l2 ++ [c])) r j := by
      have := hL.2 (by omega)
      rw [Nat.add_sub_cancel_left] at this
      exact this
    rw [Nat.add_sub_cancel_left]
    intro g O lo Hl H mn hW he hp hc hd
    obtain ⟨f1, f2, f3, f4, f5, f6, f7, f8, f9, f10, f11⟩ := op_f hop
    have hs10 : sbL b < 10 := by rcases hb with z | z | z | z <;> subst z <;> decide
    have hr7 : rkN c < 7 := by rcases op_c hop with ⟨-, -, rfl⟩ | ⟨-, -, rfl⟩ | ⟨-, -, rfl⟩ | ⟨-, -, rfl⟩ | ⟨-, -, rfl⟩ <;> decide
    obtain ⟨ht2, hd2⟩ := h19 (H := c :: H) (m := 7) (hdR_c hr7) (by decide)
    have hsub : (∀ (g' : St) (lo2 Hl2 : List Nat) (mn' : Int32), WS B n g0 X g' i2 (O ++ (lo ++ (Hl ++ lo2))) ((Hl2 ++ [c]) ++ H) → (lo ++ (Hl ++ lo2)) ++ (Hl2 ++ [c]) = acc ++ (l2 ++ [c]) → pl b (Hl2 ++ [c]) (kd B n i2) → ER B n Q i2 0 mn' g') → ER B n Q i 0 mn g := by
      intro hk
      refine n_op ht hW f1 (by rw [f3, ← f4]; exact hp.1) (by rw [f3]; exact hd) (fun z => absurd z f2) (fun _ g3 hW3 => ?_)
      refine (hC.1 hs10 g3 (O ++ lo ++ Hl) (c :: H) _ hW3 (by rw [cO_c, f9, hc]; rfl) (hdR_c f6) f7 (fun z _ => f8 z)).2 l2 rfl (fun g4 lo2 Hl2 mn2 hW4 he2 hp2 => hk g4 lo2 Hl2 mn2 ?_ ?_ ?_)
      · rw [hd2] at hW4
        simp only [List.append_assoc, List.singleton_append] at hW4 ⊢
        exact hW4
      · rw [ht2, List.append_nil] at he2
        rw [← he, ← he2]
        simp
      · obtain ⟨p1, p2, p3, p4, p5, p6⟩ := hp2
        have hrk : ∀ s ∈ Hl2 ++ [c], rko b ≤ rkN s := by
          intro s hs
          rcases List.mem_append.mp hs with z | z
          · exact Nat.le_trans f10 (p1 s z)
          · rw [List.mem_singleton.mp z, f5]
            exact Nat.le_refl _
        rcases hb with z | z | z | z <;> subst z
        · exact ⟨hrk, fun z => absurd z (by decide), fun z => absurd z (by decide), fun z => absurd z (by decide), fun z => absurd z (by decide)⟩
        · exact ⟨hrk, fun z => absurd z (by decide), fun _ => p3 (by decide), fun z => absurd z (by decide), fun z => absurd z (by decide)⟩
        · exact ⟨hrk, fun _ z => cm4_app (p2 (by decide) z), fun _ => p3 (by decide), fun _ => p4 (by decide), fun z => absurd z (by decide)⟩
        · exact ⟨hrk, fun _ z => cm4_app (p2 (by decide) z), fun _ => p3 (by decide), fun _ => p4 (by decide), fun _ => p5 (by decide)⟩
    refine ⟨fun er hF => hsub (fun g2 lo2 Hl2 mn' hW2 he2 hp2 => (hL' g2 O _ _ H mn' hW2 he2 hp2 hc hd).1 er hF), fun l' er hn => hsub (fun g2 lo2 Hl2 mn' hW2 he2 hp2 => (hL' g2 O _ _ H mn' hW2 he2 hp2 hc hd).2 l' er hn)⟩
end
