/-! PLAIN LAYER: the reference reads a token -/
set_option maxRecDepth 100000
theorem lg_eq {x y : Int64} : lg_cmp x y = 0 ↔ x = y := by
  constructor
  · intro h
    have h1 : ¬ x.toInt < y.toInt := fun q => by
      have := lg_lt.mpr q
      rw [h] at this
      exact absurd this (by decide)
    have h2 : ¬ y.toInt < x.toInt := fun q => by
      have := lg_gt.mpr q
      rw [h] at this
      exact absurd this (by decide)
    exact Int64.toInt_inj.mp (by omega)
  · intro h
    subst h
    unfold lg_cmp
    simp
/-- letters packed, the last one first -/
def pkR : List Nat → Nat
  | [] => 0
  | c :: r => 256 * pkR r + c
theorem pkR_inj : ∀ {L L' : List Nat}, (∀ c ∈ L, 1 ≤ c ∧ c < 256) → (∀ c ∈ L', 1 ≤ c ∧ c < 256) → pkR L = pkR L' → L = L'
  | [], [], _, _, _ => rfl
  | [], c :: r, _, h, e => by
    have := h c (by simp)
    have e' : 0 = 256 * pkR r + c := e
    omega
  | c :: r, [], h, _, e => by
    have := h c (by simp)
    have e' : 256 * pkR r + c = 0 := e
    omega
  | c :: r, c' :: r', h, h', e => by
    have h1 := h c (by simp)
    have h2 := h' c' (by simp)
    have e' : 256 * pkR r + c = 256 * pkR r' + c' := e
    have e1 : c = c' := by omega
    have e2 : pkR r = pkR r' := by omega
    rw [e1, pkR_inj (fun x hx => h x (by simp [hx])) (fun x hx => h' x (by simp [hx])) e2]
def pkN (B : Nat → Nat) (a : Nat) : Nat → Nat
  | 0 => 0
  | m + 1 => 256 * pkN B a m + B (a + m)
theorem lts_s {B : Nat → Nat} {a m : Nat} : lts B a (m + 1) = lts B a m ++ [B (a + m)] := by
  unfold lts
  rw [List.range_succ, List.map_append]
  rfl
theorem pkN_R {B : Nat → Nat} {a : Nat} : ∀ {m : Nat}, pkN B a m = pkR (lts B a m).reverse
  | 0 => rfl
  | m + 1 => by
    rw [lts_s, List.reverse_append]
    show 256 * pkN B a m + B (a + m) = 256 * pkR (lts B a m).reverse + B (a + m)
    rw [pkN_R (m := m)]
theorem pkN_lt {B : Nat → Nat} {a : Nat} (hB : ∀ t, B t < 256) : ∀ m, pkN B a m < 256 ^ m
  | 0 => (show 0 < 1 by decide)
  | m + 1 => by
    have h1 := pkN_lt (a := a) hB m
    have h2 := hB (a + m)
    show 256 * pkN B a m + B (a + m) < 256 ^ (m + 1)
    rw [Nat.pow_succ]
    omega
theorem shl_or {x c : Nat} (hx : x < 1099511627776) (hc : c < 256) : l_shl (Int64.ofNat x) 8 ||| (Int32.ofNat c).toInt64 = Int64.ofNat (256 * x + c) := by
  have e8 : (8 : Int32).toInt64 &&& 63 = 8 := by decide
  unfold l_shl
  rw [e8]
  apply Int64.toBitVec_inj.mp
  apply BitVec.eq_of_toNat_eq
  have ec : (Int32.ofNat c).toInt64 = Int64.ofNat c := by
    apply Int64.toInt_inj.mp
    rw [l_of, n_toInt (by omega), Int64.toInt_ofNat_of_lt (by omega)]
  rw [ec, Int64.toBitVec_or, BitVec.toNat_or, Int64.toBitVec_shiftLeft]
  have e3 : (Int64.toBitVec 8).smod 64 = 8#64 := by decide
  rw [e3]
  have h1 : (Int64.ofNat x).toBitVec = BitVec.ofNat 64 x := rfl
  have h2 : (Int64.ofNat c).toBitVec = BitVec.ofNat 64 c := rfl
  have h3 : (Int64.ofNat (256 * x + c)).toBitVec = BitVec.ofNat 64 (256 * x + c) := rfl
  rw [h1, h2, h3]
  have h4 : (BitVec.ofNat 64 x <<< 8#64).toNat = x <<< 8 := by
    rw [BitVec.shiftLeft_eq', BitVec.toNat_shiftLeft]
    simp only [BitVec.toNat_ofNat]
    rw [Nat.mod_eq_of_lt (a := x) (by omega), Nat.mod_eq_of_lt (a := 8) (by decide), Nat.mod_eq_of_lt]
    rw [Nat.shiftLeft_eq]
    omega
  rw [h4, BitVec.toNat_ofNat, BitVec.toNat_ofNat, Nat.mod_eq_of_lt (a := c) (by omega), Nat.mod_eq_of_lt (a := 256 * x + c) (by omega), ← Nat.shiftLeft_add_eq_or_of_lt (by omega : c < 2 ^ 8), Nat.shiftLeft_eq]
  omega
theorem wT_pk : ∀ k, k < 11 → mWords k = Int64.ofNat (pkR (wT.getD k []).reverse) ∧ mWords k ≠ 0 ∧ (wT.getD k []).length ≤ 5 ∧ (∀ c ∈ wT.getD k [], 1 ≤ c ∧ c < 256) := by decide +kernel
/-- the reference's word search finds the word -/
theorem mw_at {B : Nat → Nat} {a m k : Nat} (hB : ∀ t, B t < 256) (hL : ∀ t, t < m → 97 ≤ B (a + t)) (hk : k < 11) : mWords k = (if m ≤ 5 then Int64.ofNat (pkN B a m) else 0) ↔ wx (lts B a (min m 9)) = k := by
  obtain ⟨w1, w2, w3, w4⟩ := wT_pk k hk
  rw [wx_k hk]
  by_cases c : m ≤ 5
  · rw [if_pos c, w1, show min m 9 = m by omega]
    have hlt : pkN B a m < 18446744073709551616 / 2 := by
      have h1 := pkN_lt (a := a) hB m
      have h2 : (256 : Nat) ^ m ≤ 256 ^ 5 := Nat.pow_le_pow_right (by decide) c
      have : (256 : Nat) ^ 5 = 1099511627776 := by decide
      omega
    have hlt2 : ∀ k, k < 11 → pkR (wT.getD k []).reverse < 1099511627776 := by decide +kernel
    have h5 := hlt2 k hk
    constructor
    · intro e
      have e1 : pkR (wT.getD k []).reverse = pkN B a m := by
        have := congrArg Int64.toInt e
        rw [Int64.toInt_ofNat_of_lt (by omega), Int64.toInt_ofNat_of_lt (by omega)] at this
        omega
      rw [pkN_R] at e1
      have := pkR_inj (fun x hx => w4 x (by simpa using hx)) (fun x hx => ?_) e1
      · exact (List.reverse_inj.mp this).symm
      · have hx' : x ∈ lts B a m := by simpa using hx
        unfold lts at hx'
        rw [List.mem_map] at hx'
        obtain ⟨t, ht, rfl⟩ := hx'
        have := hL t (List.mem_range.mp ht)
        have := hB (a + t)
        omega
    · intro e
      rw [pkN_R, e]
  · rw [if_neg c]
    constructor
    · intro e
      exact absurd e w2
    · intro e
      exfalso
      have : (lts B a (min m 9)).length = (wT.getD k []).length := by rw [e]
      rw [lts_len] at this
      omega

def tkC (k : Nat) : Int32 := if k = 7 ∨ k = 8 then -1 else Int32.ofNat k
/-- a token read -/
def nxP (B : Nat → Nat) (n p : Nat) (g g' : St) : Prop := (∀ r, r ≠ 99 → g' r = g r) ∧ (∀ q, q ≠ 40 → q ≠ 41 → q ≠ 42 → q ≠ 43 → g' 99 q = g 99 q) ∧ g' 99 40 = Int32.ofNat (enA B n (bgA B n p)) ∧ g' 99 41 = Int32.ofNat (bgA B n p) ∧ g' 99 42 = tkC (kdA B n (bgA B n p)) ∧ (kdA B n (bgA B n p) = 1 ∨ kdA B n (bgA B n p) = 2 ∨ kdA B n (bgA B n p) = 3 → g' 99 43 = Int32.ofNat (vlA B n (bgA B n p)))
/-- only the reader's numbers differ -/
def mF (g f : St) : Prop := (∀ r, r ≠ 99 → f r = g r) ∧ (∀ q, q ≠ 40 → q ≠ 41 → q ≠ 42 → q ≠ 43 → f 99 q = g 99 q)
theorem mF_u {g f : St} {q : Nat} {v : Int32} (h : mF g f) (hq : q = 40 ∨ q = 41 ∨ q = 42 ∨ q = 43) : mF g (upd2 f 99 q v) := by
  refine ⟨fun r hr => ?_, fun x h0 h1 h2 h3 => ?_⟩
  · rw [upd2_o hr]
    exact h.1 r hr
  · rw [upd2_at, if_neg (by omega)]
    exact h.2 x h0 h1 h2 h3
theorem u99 {f : St} {q x : Nat} {v : Int32} (h : x ≠ q) : upd2 f 99 q v 99 x = f 99 x := by rw [upd2_at, if_neg h]
theorem u99s {f : St} {q : Nat} {v : Int32} : upd2 f 99 q v 99 q = v := by rw [upd2_at, if_pos rfl]
def tpR (g : St) (B : Nat → Nat) (n : Nat) : Prop := n ≤ 160 ∧ (∀ t, B t < 256) ∧ g 99 11 = Int32.ofNat n ∧ ∀ t, t < n → g 10 t = Int32.ofNat (B t)
theorem mF_tp {g f : St} {B : Nat → Nat} {n : Nat} (h : mF g f) (ht : tpR g B n) : tpR f B n := by
  refine ⟨ht.1, ht.2.1, ?_, fun t hlt => ?_⟩
  · rw [h.2 11 (by decide) (by decide) (by decide) (by decide)]
    exact ht.2.2.1
  · rw [h.1 10 (by decide)]
    exact ht.2.2.2 t hlt
section
variable {g : St} {B : Nat → Nat} {n : Nat}
/-- letters -/
theorem m_letters {a : Nat} {f : St} {Q : Int64 → St → Prop} (ht : tpR f B n) (ha : a ≤ n) (h40 : f 99 40 = Int32.ofNat a) (hq : ∀ f', mF f f' → (∀ q, q ≠ 40 → f' 99 q = f 99 q) → f' 99 40 = Int32.ofNat (a + wlen B n a) → Q (if wlen B n a ≤ 5 then Int64.ofNat (pkN B a (wlen B n a)) else 0) f') : wX7_letters f Q := by
  obtain ⟨hn, hB, h11, h10⟩ := ht
  unfold wX7_letters
  refine ilX7_letters_4 (fun x1 x3 f' => ∃ m, x3 = Int32.ofNat m ∧ a + m ≤ n ∧ f' = upd2 f 99 40 (Int32.ofNat (a + m)) ∧ rn (fun t => isLt (B t)) n a = rn (fun t => isLt (B t)) n (a + m) ∧ (m ≤ 5 → x1 = Int64.ofNat (pkN B a m))) (fun _ x3 _ => n - x3.toNatClampNeg) ?_ _ _ _ ⟨0, rfl, by omega, ?_, rfl, fun _ => rfl⟩
  · rintro K x1 x3 f' ⟨m, rfl, hm, rfl, hr, hx⟩ hK
    have e40 : upd2 f 99 40 (Int32.ofNat (a + m)) 99 40 = Int32.ofNat (a + m) := u99s
    have e11 : upd2 f 99 40 (Int32.ofNat (a + m)) 99 11 = Int32.ofNat n := by rw [u99 (by decide)]; exact h11
    have hle := n_leI (a := n) (b := a + m) (by omega) (by omega)
    have hfin : ¬ (a + m < n ∧ isLt (B (a + m)) = true) → wbX7_letters_76 Q x1 (Int32.ofNat m) (upd2 f 99 40 (Int32.ofNat (a + m))) := by
      intro hno
      have em : wlen B n a = m := by
        unfold wlen
        rw [hr, rn_n hno]
        omega
      have hh := hq (upd2 f 99 40 (Int32.ofNat (a + m))) (mF_u ⟨fun _ _ => rfl, fun _ _ _ _ _ => rfl⟩ (Or.inl rfl)) (fun q hq0 => u99 hq0) (by rw [em]; exact u99s)
      rw [em] at hh
      unfold wbX7_letters_76
      have h5 := n_leI (a := m) (b := 5) (by omega) (by decide)
      refine ⟨fun q => ?_, fun q => ?_⟩
      · have h5' := h5.mp q
        rw [if_pos h5', ← hx h5'] at hh
        exact hh
      · rw [if_neg (fun z => q (h5.mpr z))] at hh
        exact hh
    unfold wbX7_letters_4
    rw [e40, e11, n_clamp (by omega)]
    refine ⟨fun q => hfin (fun z => by have := hle.mp q; omega), fun q => ⟨n_in ?_ (by decide), ?_⟩⟩
    · have : ¬ n ≤ a + m := fun z => q (hle.mpr z)
      omega
    have hlt : a + m < n := by
      have : ¬ n ≤ a + m := fun z => q (hle.mpr z)
      omega
    have eb : upd2 f 99 40 (Int32.ofNat (a + m)) 10 (a + m) = Int32.ofNat (B (a + m)) := h10 _ hlt
    have hb := hB (a + m)
    refine pX7_in ?_
    rw [eb, n_toInt (by omega), show (97 : Int32).toInt = 97 by decide, show (122 : Int32).toInt = 122 by decide]
    by_cases c : isLt (B (a + m)) = true
    · have c' := isLt_i.mp c
      rw [if_pos (by omega)]
      refine w1' ?_
      have hnext : ∀ t0 : Int64, (m + 1 ≤ 5 → t0 = Int64.ofNat (pkN B a (m + 1))) → wbX7_letters_59 K (fun x1 x3 f => wbX7_letters_76 Q x1 x3 f) Q (Int32.ofNat m) t0 (upd2 f 99 40 (Int32.ofNat (a + m))) := by
        intro t0 ht0
        unfold wbX7_letters_59
        intro x3 e3 f4 e4
        rw [n_suc] at e3
        subst e3
        have e4' : f4 = upd2 f 99 40 (Int32.ofNat (a + (m + 1))) := by
          rw [e4, e40, n_suc, upd2_upd2]
          rfl
        refine hK _ _ _ ⟨m + 1, rfl, by omega, e4', ?_, ht0⟩ ?_
        · rw [hr]
          exact rn_y (q := fun t => isLt (B t)) hlt c
        · rw [n_clamp (by omega), n_clamp (by omega)]
          omega
      have h8 := n_leI (a := 8) (b := m) (by decide) (by omega)
      refine ⟨fun q8 => hnext x1 (fun z => by have := h8.mp q8; omega), fun q8 => ?_⟩
      rw [e40, n_clamp (by omega), eb]
      refine ⟨n_in (by omega) (by decide), hnext _ (fun z => ?_)⟩
      rw [hx (by omega), shl_or ?_ hb]
      · rfl
      · have h1 := pkN_lt (a := a) hB m
        have h2 : (256 : Nat) ^ m ≤ 256 ^ 4 := Nat.pow_le_pow_right (by decide) (by omega)
        have : (256 : Nat) ^ 4 = 4294967296 := by decide
        omega
    · have c' : ¬ (97 ≤ B (a + m) ∧ B (a + m) ≤ 122) := fun z => c (isLt_i.mpr z)
      rw [if_neg (by omega)]
      exact w0' (hfin (fun z => c z.2))
  · rw [Nat.add_zero, ← h40]
    funext r x
    by_cases c : r = 99
    · subst c
      rw [upd2_at]
      by_cases c2 : x = 40
      · rw [if_pos c2, c2]
      · rw [if_neg c2]
    · rw [upd2_o c]
/-- digits -/
theorem m_digits {a : Nat} {f : St} {K : Int32 → St → Prop} {Q : St → Prop} (ht : tpR f B n) (ha : a ≤ n) (h40 : f 99 40 = Int32.ofNat a) (h43 : f 99 43 = 0) (hq : ∀ f', mF f f' → f' 99 41 = f 99 41 → f' 99 40 = Int32.ofNat (a + dlen B n a) → (dlen B n a ≤ 4 → f' 99 43 = Int32.ofNat (nvF B a (dlen B n a))) → K (Int32.ofNat (dlen B n a)) f') : ∃ N, wlX7_next_214 K Q N 0 f := by
  obtain ⟨hn, hB, h11, h10⟩ := ht
  refine ilX7_next_214 (fun x2 f' => ∃ m, x2 = Int32.ofNat m ∧ a + m ≤ n ∧ mF f f' ∧ f' 99 41 = f 99 41 ∧ f' 99 40 = Int32.ofNat (a + m) ∧ rn (fun t => isDg (B t)) n a = rn (fun t => isDg (B t)) n (a + m) ∧ (m ≤ 4 → f' 99 43 = Int32.ofNat (nvF B a m))) (fun x2 _ => n - x2.toNatClampNeg) ?_ _ _ ⟨0, rfl, by omega, ⟨fun _ _ => rfl, fun _ _ _ _ _ => rfl⟩, rfl, h40, rfl, fun _ => h43⟩
  rintro K' x2 f' ⟨m, rfl, hm, hF, h41', h40', hr, hx⟩ hK
  have e11 : f' 99 11 = Int32.ofNat n := by rw [hF.2 11 (by decide) (by decide) (by decide) (by decide)]; exact h11
  have hle := n_leI (a := n) (b := a + m) (by omega) (by omega)
  have hfin : ¬ (a + m < n ∧ isDg (B (a + m)) = true) → K (Int32.ofNat m) f' := by
    intro hno
    have em : dlen B n a = m := by
      unfold dlen
      rw [hr, rn_n hno]
      omega
    have hh := hq f' hF h41' (by rw [em]; exact h40') (by rw [em]; exact hx)
    rw [em] at hh
    exact hh
  unfold wbX7_next_214
  rw [h40', e11, n_clamp (by omega)]
  refine ⟨fun q => hfin (fun z => by have := hle.mp q; omega), fun q => ⟨n_in ?_ (by decide), ?_⟩⟩
  · have : ¬ n ≤ a + m := fun z => q (hle.mpr z)
    omega
  have hlt : a + m < n := by
    have : ¬ n ≤ a + m := fun z => q (hle.mpr z)
    omega
  have eb : f' 10 (a + m) = Int32.ofNat (B (a + m)) := by rw [hF.1 10 (by decide)]; exact h10 _ hlt
  have hb := hB (a + m)
  refine pX7_in ?_
  rw [eb, n_toInt (by omega), show (48 : Int32).toInt = 48 by decide, show (57 : Int32).toInt = 57 by decide]
  by_cases c : isDg (B (a + m)) = true
  · have c' := isDg_i.mp c
    rw [if_pos (by omega)]
    refine w1' ?_
    have hnext : ∀ t0 : Int32, (m + 1 ≤ 4 → t0 = Int32.ofNat (nvF B a (m + 1))) → wbX7_next_274 K' K Q (Int32.ofNat m) t0 f' := by
      intro t0 ht0
      unfold wbX7_next_274
      intro f14 e14 x2 e2 f16 e16
      rw [n_suc] at e2
      subst e2
      subst e14
      refine hK _ _ ⟨m + 1, rfl, by omega, ?_, ?_, ?_, ?_, fun z => ?_⟩ ?_
      · rw [e16]
        exact mF_u (mF_u hF (by omega)) (by omega)
      · rw [e16, u99 (by decide), u99 (by decide)]
        exact h41'
      · rw [e16, u99s, u99 (by decide), h40', n_suc]
        rfl
      · rw [hr]
        exact rn_y (q := fun t => isDg (B t)) hlt c
      · rw [e16, u99 (by decide), u99s]
        exact ht0 z
      · rw [n_clamp (by omega), n_clamp (by omega)]
        omega
    have h4 := n_leI (a := 4) (b := m) (by decide) (by omega)
    refine ⟨fun q4 => hnext 0 (fun z => by have := h4.mp q4; omega), fun q4 => ?_⟩
    rw [h40', n_clamp (by omega), eb]
    refine ⟨n_in (by omega) (by decide), hnext _ (fun z => ?_)⟩
    have : ¬ 4 ≤ m := fun y => q4 (h4.mpr y)
    rw [hx (by omega), show (10 : Int32) = Int32.ofNat 10 from rfl, show (48 : Int32) = Int32.ofNat 48 from rfl, n_mul, n_add, n_sub (by omega)]
    show _ = Int32.ofNat (10 * nvF B a m + (B (a + m) - 48))
    congr 1
    omega
  · have c' : ¬ (48 ≤ B (a + m) ∧ B (a + m) ≤ 57) := fun z => c (isDg_i.mpr z)
    rw [if_neg (by omega)]
    exact w0' (hfin (fun z => c z.2))
/-- behind the letters: the word sought -/
theorem m_word {a : Nat} {f : St} {Q : St → Prop} (hB : ∀ t, B t < 256) (h97 : ∀ t, t < wlen B n a → 97 ≤ B (a + t)) (hq : ∀ f', f' = upd2 (upd2 f 99 42 (tkC (wKd (wix B n a)))) 99 43 (Int32.ofNat (wVl (wix B n a))) → Q f') : ∃ N, wlX7_next_111 (fun (x4 : Int32) (f : St) => wbX7_next_136 Q x4 f) Q N (if wlen B n a ≤ 5 then Int64.ofNat (pkN B a (wlen B n a)) else 0) (0 : Int32) f := by
  have hfin : ∀ k, k ≤ 11 → wix B n a = k → wbX7_next_136 Q (Int32.ofNat k) f := by
    intro k hk e
    rw [e] at hq
    have : k = 0 ∨ k = 1 ∨ k = 2 ∨ k = 3 ∨ k = 4 ∨ k = 5 ∨ k = 6 ∨ k = 7 ∨ k = 8 ∨ k = 9 ∨ k = 10 ∨ k = 11 := by omega
    unfold wbX7_next_136 wbX7_next_176 wbX7_next_195
    rcases this with q | q | q | q | q | q | q | q | q | q | q | q <;> subst q
    · exact ⟨fun q => absurd q (by decide), fun _ f21 e21 => ⟨fun q => absurd q (by decide), fun _ f22 e22 => hq f22 (by rw [e22, e21]; rfl)⟩⟩
    · exact ⟨fun q => absurd q (by decide), fun _ f21 e21 => ⟨fun q => absurd q (by decide), fun _ f22 e22 => hq f22 (by rw [e22, e21]; rfl)⟩⟩
    · exact ⟨fun _ => ⟨fun q => absurd q (by decide), fun _ f21 e21 => ⟨fun _ f22 e22 => hq f22 (by rw [e22, e21]; rfl), fun q => absurd (by decide) q⟩⟩, fun q => absurd (by decide) q⟩
    · exact ⟨fun _ => ⟨fun q => absurd q (by decide), fun _ f21 e21 => ⟨fun _ f22 e22 => hq f22 (by rw [e22, e21]; rfl), fun q => absurd (by decide) q⟩⟩, fun q => absurd (by decide) q⟩
    · exact ⟨fun _ => ⟨fun q => absurd q (by decide), fun _ f21 e21 => ⟨fun _ f22 e22 => hq f22 (by rw [e22, e21]; rfl), fun q => absurd (by decide) q⟩⟩, fun q => absurd (by decide) q⟩
    · exact ⟨fun _ => ⟨fun q => absurd q (by decide), fun _ f21 e21 => ⟨fun _ f22 e22 => hq f22 (by rw [e22, e21]; rfl), fun q => absurd (by decide) q⟩⟩, fun q => absurd (by decide) q⟩
    · exact ⟨fun _ => ⟨fun q => absurd q (by decide), fun _ f21 e21 => ⟨fun _ f22 e22 => hq f22 (by rw [e22, e21]; rfl), fun q => absurd (by decide) q⟩⟩, fun q => absurd (by decide) q⟩
    · exact ⟨fun _ => ⟨fun q => absurd q (by decide), fun _ f21 e21 => ⟨fun _ f22 e22 => hq f22 (by rw [e22, e21]; rfl), fun q => absurd (by decide) q⟩⟩, fun q => absurd (by decide) q⟩
    · exact ⟨fun _ => ⟨fun _ => ⟨fun _ f21 e21 => ⟨fun _ f22 e22 => hq f22 (by rw [e22, e21]; rfl), fun q => absurd (by decide) q⟩, fun q => absurd q (by decide)⟩, fun q => absurd (by decide) q⟩, fun q => absurd (by decide) q⟩
    · exact ⟨fun _ => ⟨fun _ => ⟨fun _ f21 e21 => ⟨fun _ f22 e22 => hq f22 (by rw [e22, e21]; rfl), fun q => absurd (by decide) q⟩, fun q => absurd q (by decide)⟩, fun q => absurd (by decide) q⟩, fun q => absurd (by decide) q⟩
    · exact ⟨fun _ => ⟨fun _ => ⟨fun _ f21 e21 => ⟨fun _ f22 e22 => hq f22 (by rw [e22, e21]; rfl), fun q => absurd (by decide) q⟩, fun q => absurd q (by decide)⟩, fun q => absurd (by decide) q⟩, fun q => absurd (by decide) q⟩
    · exact ⟨fun _ => ⟨fun _ => ⟨fun q => absurd rfl q, fun _ f21 e21 => ⟨fun _ f22 e22 => hq f22 (by rw [e22, e21]; rfl), fun q => absurd (by decide) q⟩⟩, fun q => absurd (by decide) q⟩, fun q => absurd (by decide) q⟩
  refine icX7_next_111_4 11 0 (by decide) (by decide) (fun k => ∀ t, t < k → wix B n a ≠ t) (fun _ => if wlen B n a ≤ 5 then Int64.ofNat (pkN B a (wlen B n a)) else 0) (fun _ => f) (fun t ht => absurd ht (by omega)) ?_
  intro K k _ hk hP hK
  unfold wbX7_next_111
  refine w_upto (T := 11) (by decide) hk (fun q => ?_) (fun hlt => ?_)
  · subst q
    refine hfin 11 (by decide) ?_
    have := wx_le (L := lts B a (min (wlen B n a) 9))
    have h2 : wix B n a ≤ 11 := this
    by_cases c : wix B n a = 11
    · exact c
    · exact absurd rfl (hP (wix B n a) (by omega))
  · rw [n_clamp (by omega)]
    have hm := mw_at (m := wlen B n a) hB h97 hlt
    refine ⟨n_in hlt (by decide), fun q => ?_, fun q x4 e4 => ?_⟩
    · exact hfin k (by omega) (hm.mp (lg_eq.mp q))
    · rw [n_suc] at e4
      subst e4
      refine hK hlt (fun t ht => ?_)
      by_cases c : t = k
      · subst c
        exact fun z => q (lg_eq.mpr (hm.mpr z))
      · exact hP t (by omega)
theorem wlen_lt {a t : Nat} (h : t < wlen B n a) : 97 ≤ B (a + t) := by
  unfold wlen at h
  exact (isLt_i.mp (rn_all (q := fun t => isLt (B t)) (n := n) (i := a) (t := a + t) (by omega) (by omega))).1
/-- THE REFERENCE READS A TOKEN -/
theorem m_tok {p : Nat} {Q : St → Prop} (ht : tpR g B n) (hp : p ≤ n) (h40 : g 99 40 = Int32.ofNat p) (hq : ∀ g', nxP B n p g g' → Q g') : wX7_next g Q := by
  have ht0 := ht
  obtain ⟨hn, hB, h11, h10⟩ := ht
  have hbn : bgA B n p ≤ n := rn_le hp
  have hgo : ∀ f, mF g f → f 99 40 = Int32.ofNat (bgA B n p) → wbX7_next_52 Q f := by
    intro f hF h40f
    unfold wbX7_next_52
    intro f2 e2 f3 e3 f4 e4
    generalize ha : bgA B n p = a at *
    have e440 : f4 99 40 = Int32.ofNat a := by rw [e4, e3, e2, u99 (by decide), u99 (by decide), u99 (by decide)]; exact h40f
    have e441 : f4 99 41 = Int32.ofNat a := by rw [e4, e3, e2, u99 (by decide), u99 (by decide), u99s]; exact h40f
    have e442 : f4 99 42 = 0 := by rw [e4, e3, u99 (by decide), u99s]
    have e443 : f4 99 43 = 0 := by rw [e4, u99s]
    have hF4 : mF g f4 := by rw [e4, e3, e2]; exact mF_u (mF_u (mF_u hF (by omega)) (by omega)) (by omega)
    have ht4 := mF_tp hF4 ht0
    obtain ⟨-, -, e411, e410⟩ := ht4
    rw [e440, e411]
    have heq := n_eqI (a := a) (b := n) (by omega) (by omega)
    refine ⟨fun q => ?_, fun q => ?_⟩
    · have hlt : a < n := by
        have : ¬ a = n := fun z => q (heq.mpr z)
        omega
      rw [n_clamp (by omega), e410 a hlt]
      refine ⟨n_in (by omega) (by decide), fun x1 ex1 => ?_⟩
      subst ex1
      have hb := hB a
      refine pX7_in ?_
      rw [n_toInt (by omega), show (97 : Int32).toInt = 97 by decide, show (122 : Int32).toInt = 122 by decide]
      by_cases c1 : isLt (B a) = true
      · have c1' := isLt_i.mp c1
        rw [if_pos (by omega)]
        refine w1' ?_
        refine m_letters (mF_tp hF4 ht0) hbn e440 (fun f' hF' hall h40' => ?_)
        refine m_word hB (fun t h => wlen_lt h) (fun f'' e'' => ?_)
        have hen : enA B n a = a + wlen B n a := by
          unfold enA wlen
          rw [if_neg (by omega), if_pos c1]
          have := rn_ge (q := fun t => isLt (B t)) (n := n) (i := a)
          omega
        have hkd : kdA B n a = wKd (wix B n a) := by
          unfold kdA
          rw [if_neg (by omega), if_pos c1]
        have hvl : vlA B n a = wVl (wix B n a) := by
          unfold vlA
          rw [if_neg (by omega), if_pos c1]
        have hF'' : mF g f'' := by
          rw [e'']
          refine mF_u (mF_u ⟨fun r hr => ?_, fun q h0 h1 h2 h3 => ?_⟩ (by omega)) (by omega)
          · rw [hF'.1 r hr]; exact hF4.1 r hr
          · rw [hF'.2 q h0 h1 h2 h3]; exact hF4.2 q h0 h1 h2 h3
        refine hq f'' ⟨hF''.1, hF''.2, ?_, ?_, ?_, fun _ => ?_⟩
        · rw [ha, hen, e'', u99 (by decide), u99 (by decide)]; exact h40'
        · rw [ha, e'', u99 (by decide), u99 (by decide), hall 41 (by decide)]; exact e441
        · rw [ha, hkd, e'', u99 (by decide), u99s]
        · rw [ha, hvl, e'', u99s]
      · have c1' : ¬ (97 ≤ B a ∧ B a ≤ 122) := fun z => c1 (isLt_i.mpr z)
        rw [if_neg (by omega)]
        refine w0' (pX7_in ?_)
        rw [n_toInt (by omega), show (48 : Int32).toInt = 48 by decide, show (57 : Int32).toInt = 57 by decide]
        by_cases c2 : isDg (B a) = true
        · have c2' := isDg_i.mp c2
          rw [if_pos (by omega)]
          refine w1' ?_
          refine m_digits (mF_tp hF4 ht0) hbn e440 e443 (fun f' hF' h41' h40' hv => ?_)
          have hen : enA B n a = a + dlen B n a := by
            unfold enA dlen
            rw [if_neg (by omega), if_neg c1, if_pos c2]
            have := rn_ge (q := fun t => isDg (B t)) (n := n) (i := a)
            omega
          have hkd : kdA B n a = if dlen B n a ≤ 4 then 1 else 8 := by
            unfold kdA
            rw [if_neg (by omega), if_neg c1, if_pos c2]
          have hvl : vlA B n a = nvF B a (dlen B n a) := by
            unfold vlA
            rw [if_neg (by omega), if_neg c1, if_pos c2]
          have hdn : dlen B n a ≤ n := by
            unfold dlen
            have := rn_le (q := fun t => isDg (B t)) hbn
            omega
          have hfin : ∀ f'' t0, f'' = upd2 f' 99 42 t0 → t0 = tkC (kdA B n a) → Q f'' := by
            intro f'' t0 e'' et
            have hF'' : mF g f'' := by
              rw [e'']
              refine mF_u ⟨fun r hr => ?_, fun q h0 h1 h2 h3 => ?_⟩ (by omega)
              · rw [hF'.1 r hr]; exact hF4.1 r hr
              · rw [hF'.2 q h0 h1 h2 h3]; exact hF4.2 q h0 h1 h2 h3
            refine hq f'' ⟨hF''.1, hF''.2, ?_, ?_, ?_, fun hk => ?_⟩
            · rw [ha, hen, e'', u99 (by decide)]; exact h40'
            · rw [ha, e'', u99 (by decide), h41']; exact e441
            · rw [ha, e'', u99s]; exact et
            · rw [ha, hkd] at hk
              have h4 : dlen B n a ≤ 4 := by
                by_cases z : dlen B n a ≤ 4
                · exact z
                · rw [if_neg z] at hk
                  omega
              rw [ha, hvl, e'', u99 (by decide)]
              exact hv h4
          unfold wbX7_next_293 wbX7_next_304
          have h4 := n_leI (a := dlen B n a) (b := 4) (by omega) (by decide)
          refine ⟨fun q f17 e17 => hfin f17 _ e17 ?_, fun q f17 e17 => hfin f17 _ e17 ?_⟩
          · rw [hkd, if_pos (h4.mp q)]; rfl
          · rw [hkd, if_neg (fun z => q (h4.mpr z))]; rfl
        · have c2' : ¬ (48 ≤ B a ∧ B a ≤ 57) := fun z => c2 (isDg_i.mpr z)
          rw [if_neg (by omega)]
          refine w0' ?_
          have hen : enA B n a = a + 1 := by
            unfold enA
            rw [if_neg (by omega), if_neg c1, if_neg c2]
          have hkd : kdA B n a = if isSg (B a) = true then B a else 8 := by
            unfold kdA
            rw [if_neg (by omega), if_neg c1, if_neg c2]
          have hfin : ∀ t0, t0 = tkC (kdA B n a) → wbX7_next_374 Q t0 f4 := by
            intro t0 et
            unfold wbX7_next_374
            intro f10 e10 f11 e11
            have hF'' : mF g f11 := by
              rw [e11, e10]
              exact mF_u (mF_u hF4 (by omega)) (by omega)
            refine hq f11 ⟨hF''.1, hF''.2, ?_, ?_, ?_, fun hk => ?_⟩
            · rw [ha, hen, e11, u99s, e10, u99 (by decide), e440, n_suc]
            · rw [ha, e11, u99 (by decide), e10, u99 (by decide)]; exact e441
            · rw [ha, e11, u99 (by decide), e10, u99s]; exact et
            · exfalso
              rw [ha, hkd] at hk
              by_cases z : isSg (B a) = true
              · rw [if_pos z] at hk
                have := isSg_i.mp z
                omega
              · rw [if_neg z] at hk
                omega
          have hyes : isSg (B a) = true → wbX7_next_358 Q (Int32.ofNat (B a)) f4 := by
            intro z
            unfold wbX7_next_358 wbX7_next_363
            refine w1' (hfin _ ?_)
            rw [hkd, if_pos z]
            unfold tkC
            have := isSg_i.mp z
            rw [if_neg (by omega)]
          have hs : ∀ x : Nat, x < 256 → ((Int32.ofNat (B a) = Int32.ofNat x) ↔ B a = x) := fun x hx => n_eqI (by omega) (by omega)
          have s40 := hs 40 (by decide)
          have s41 := hs 41 (by decide)
          have s59 := hs 59 (by decide)
          have s43 := hs 43 (by decide)
          have s45 := hs 45 (by decide)
          have s42 := hs 42 (by decide)
          have s60 := hs 60 (by decide)
          have s61 := hs 61 (by decide)
          refine ⟨fun z => hyes (isSg_i.mpr (by have := s40.mp z; omega)), fun z0 => ⟨fun z => hyes (isSg_i.mpr (by have := s41.mp z; omega)), fun z1 => ⟨fun z => hyes (isSg_i.mpr (by have := s59.mp z; omega)), fun z2 => ⟨fun z => hyes (isSg_i.mpr (by have := s43.mp z; omega)), fun z3 => ⟨fun z => hyes (isSg_i.mpr (by have := s45.mp z; omega)), fun z4 => ⟨fun z => hyes (isSg_i.mpr (by have := s42.mp z; omega)), fun z5 => ⟨fun z => hyes (isSg_i.mpr (by have := s60.mp z; omega)), fun z6 => ⟨fun z7 => ?_, fun z => hyes (isSg_i.mpr (by have := s61.mp z; omega))⟩⟩⟩⟩⟩⟩⟩⟩
          unfold wbX7_next_363
          refine w0' (hfin _ ?_)
          have hno : ¬ isSg (B a) = true := by
            intro z
            rcases isSg_i.mp z with y | y | y | y | y | y | y | y
            · exact z0 (s40.mpr y)
            · exact z1 (s41.mpr y)
            · exact z2 (s59.mpr y)
            · exact z3 (s43.mpr y)
            · exact z4 (s45.mpr y)
            · exact z5 (s42.mpr y)
            · exact z6 (s60.mpr y)
            · exact z7 (s61.mpr y)
          rw [hkd, if_neg hno]
          rfl
    · have hen := heq.mp q
      have e1 : enA B n a = a := by unfold enA; rw [if_pos (by omega)]
      have e2' : kdA B n a = 0 := by unfold kdA; rw [if_pos (by omega)]
      refine hq f4 ⟨hF4.1, hF4.2, ?_, ?_, ?_, fun hk => ?_⟩
      · rw [ha, e1]; exact e440
      · rw [ha]; exact e441
      · rw [ha, e2']; exact e442
      · rw [ha, e2'] at hk; omega
  unfold wX7_next
  refine ilX7_next_0 (fun f => ∃ i, p ≤ i ∧ i ≤ n ∧ mF g f ∧ f 99 40 = Int32.ofNat i ∧ bgA B n p = rn (fun t => isSp (B t)) n i) (fun f => n - (f 99 40).toNatClampNeg) ?_ _ ⟨p, Nat.le_refl _, hp, ⟨fun _ _ => rfl, fun _ _ _ _ _ => rfl⟩, h40, rfl⟩
  rintro K f ⟨i, hi, hin, hF, hfi, hr⟩ hK
  obtain ⟨-, -, e11, e10⟩ := mF_tp hF ht0
  have hle := n_leI (a := n) (b := i) (by omega) (by omega)
  unfold wbX7_next_0
  rw [hfi, e11, n_clamp (by omega)]
  have hstop : ¬ (i < n ∧ isSp (B i) = true) → wbX7_next_52 Q f := by
    intro hno
    refine hgo f hF ?_
    rw [hr, rn_n hno]
    exact hfi
  refine ⟨fun q => hstop (fun z => by have := hle.mp q; omega), fun q => ?_⟩
  have hlt : i < n := by
    have : ¬ n ≤ i := fun z => q (hle.mpr z)
    omega
  rw [e10 i hlt]
  have hb := hB i
  have s32 : (Int32.ofNat (B i) = 32) ↔ B i = 32 := n_eqI (a := B i) (b := 32) (by omega) (by decide)
  have s10 : (Int32.ofNat (B i) = 10) ↔ B i = 10 := n_eqI (a := B i) (b := 10) (by omega) (by decide)
  have hnext : isSp (B i) = true → wbX7_next_39 K (fun f => wbX7_next_52 Q f) Q f := by
    intro hs
    unfold wbX7_next_39
    intro f1 e1
    have e40' : f1 99 40 = Int32.ofNat (i + 1) := by rw [e1, u99s, hfi, n_suc]
    refine hK f1 ⟨i + 1, by omega, by omega, ?_, e40', ?_⟩ ?_
    · rw [e1]; exact mF_u hF (by omega)
    · rw [hr]; exact rn_y (q := fun t => isSp (B t)) hlt hs
    · rw [e40', hfi, n_clamp (by omega), n_clamp (by omega)]
      omega
  refine ⟨n_in (by omega) (by decide), fun z => hnext (isSp_i.mpr (Or.inl (s32.mp z))), fun z => ⟨n_in (by omega) (by decide), fun z2 => hstop (fun y => ?_), fun z2 => hnext (isSp_i.mpr (Or.inr (s10.mp z2)))⟩⟩
  rcases isSp_i.mp y.2 with y | y
  · exact z (s32.mpr y)
  · exact z2 (s10.mpr y)
end
