/-! PLAIN LAYER: what a part of a text comes to (codes, a stack) -/
set_option maxRecDepth 100000
def b3 (p : Prop) [Decidable p] : Int32 := if p then 1 else 0
def twoF (n : Nat) (a b : Int32) : Int32 := if n = 11 then b3 (¬ a = 0 ∨ ¬ b = 0) else if n = 12 then b3 (¬ a = 0 ∧ ¬ b = 0) else if n = 14 then b3 (a < b) else if n = 15 then b3 (a = b) else if n = 16 then a + b else if n = 17 then a - b else a * b
/-- one code on a stack (its top first) -/
def stp (nm : Nat → Int32) (n : Nat) (st : List Int32) : List Int32 :=
  if 100000 ≤ n then Int32.ofNat (n - 100000) :: st else if n < 11 then nm n :: st
  else if n = 13 then b3 (st.getD 0 0 = 0) :: st.drop 1 else if n = 19 then (-(st.getD 0 0)) :: st.drop 1
  else twoF n (st.getD 1 0) (st.getD 0 0) :: st.drop 2
def ev (nm : Nat → Int32) : List Nat → List Int32 → List Int32
  | [], st => st
  | c :: cs, st => ev nm cs (stp nm c st)
def isBin (n : Nat) : Prop := n = 11 ∨ n = 12 ∨ n = 14 ∨ n = 15 ∨ n = 16 ∨ n = 17 ∨ n = 18
/-- a list of codes takes a stack of h to one of e -/
def okL : List Nat → Nat → Nat → Prop
  | [], h, e => h = e
  | c :: cs, h, e => h ≤ 199 ∧ (((100000 ≤ c ∧ c < 200000) ∨ c < 6) ∧ okL cs (h + 1) e ∨ ((c = 13 ∨ c = 19) ∧ 1 ≤ h ∧ okL cs h e) ∨ (isBin c ∧ 2 ≤ h ∧ okL cs (h - 1) e))
theorem pX7_two {f : St} {n : Nat} {a c : Int32} {Q : Int32 → St → Prop} (hn : isBin n) (h : Q (twoF n a c) f) : wX7_two f (Int32.ofNat n) a c Q := by
  unfold wX7_two wbX7_two_52
  have hd : ∀ k m : Nat, k < 100 → m < 100 → ((Int32.ofNat k = Int32.ofNat m) ↔ k = m) := fun k m h1 h2 => n_eqI (by omega) (by omega)
  rcases hn with e | e | e | e | e | e | e <;> subst e
  · refine ⟨fun _ => ?_, fun q => absurd rfl q⟩
    refine ⟨fun ha => ?_, fun ha => ⟨fun hb => ?_, fun hb => ?_⟩⟩
    · simpa [twoF, b3, ha] using h
    · simpa [twoF, b3, ha, hb] using h
    · simpa [twoF, b3, ha, hb] using h
  · refine ⟨fun q => absurd q (by decide), fun _ => ⟨fun _ => ?_, fun q => absurd rfl q⟩⟩
    refine ⟨fun ha => ?_, fun ha => ⟨fun hb => ?_, fun hb => ?_⟩⟩
    · simpa [twoF, b3, ha] using h
    · simpa [twoF, b3, ha, hb] using h
    · simpa [twoF, b3, ha, hb] using h
  · refine ⟨fun q => absurd q (by decide), fun _ => ⟨fun q => absurd q (by decide), fun _ => ⟨fun q => absurd q (by decide), fun _ => ⟨fun _ => ?_, fun q => absurd rfl q⟩⟩⟩⟩
    refine ⟨fun ha => ?_, fun ha => ?_⟩
    · have : ¬ a < c := fun q => by rw [i_le] at ha; rw [i_lt] at q; omega
      simpa [twoF, b3, this] using h
    · have : a < c := by
        rw [i_lt]
        have : ¬ c.toInt ≤ a.toInt := fun q => ha (i_le.mpr q)
        omega
      simpa [twoF, b3, this] using h
  · refine ⟨fun q => absurd q (by decide), fun _ => ⟨fun q => absurd q (by decide), fun _ => ⟨fun q => absurd q (by decide), fun _ => ⟨fun q => absurd q (by decide), fun _ => ⟨fun _ => ?_, fun q => absurd rfl q⟩⟩⟩⟩⟩
    refine ⟨fun ha => ?_, fun ha => ?_⟩
    · simpa [twoF, b3, ha] using h
    · simpa [twoF, b3, ha] using h
  · exact ⟨fun q => absurd q (by decide), fun _ => ⟨fun q => absurd q (by decide), fun _ => ⟨fun q => absurd q (by decide), fun _ => ⟨fun q => absurd q (by decide), fun _ => ⟨fun q => absurd q (by decide), fun _ => ⟨fun _ => h, fun q => absurd rfl q⟩⟩⟩⟩⟩⟩
  · exact ⟨fun q => absurd q (by decide), fun _ => ⟨fun q => absurd q (by decide), fun _ => ⟨fun q => absurd q (by decide), fun _ => ⟨fun q => absurd q (by decide), fun _ => ⟨fun q => absurd q (by decide), fun _ => ⟨fun q => absurd q (by decide), fun _ => ⟨fun _ => h, fun q => absurd rfl q⟩⟩⟩⟩⟩⟩⟩
  · exact ⟨fun q => absurd q (by decide), fun _ => ⟨fun q => absurd q (by decide), fun _ => ⟨fun q => absurd q (by decide), fun _ => ⟨fun q => absurd q (by decide), fun _ => ⟨fun q => absurd q (by decide), fun _ => ⟨fun q => absurd q (by decide), fun _ => ⟨fun q => absurd q (by decide), fun _ => h⟩⟩⟩⟩⟩⟩⟩
/-- a row holds a stack, its bottom at 0 -/
def rS : List Int32 → (Nat → Int32) → Prop
  | [], _ => True
  | v :: r, F => F r.length = v ∧ rS r F
theorem rS_upd {F : Nat → Int32} {v : Int32} {k : Nat} : ∀ {r : List Int32}, rS r F → r.length ≤ k → rS r (upd F k v)
  | [], _, _ => trivial
  | x :: r, h, hk => ⟨by
      have : r.length ≠ k := by
        simp only [List.length_cons] at hk
        omega
      rw [upd_n this]
      exact h.1, rS_upd h.2 (by simp only [List.length_cons] at hk; omega)⟩
theorem rS_push {F : Nat → Int32} {v : Int32} {r : List Int32} (h : rS r F) : rS (v :: r) (upd F r.length v) := ⟨upd_s, rS_upd h (Nat.le_refl _)⟩
theorem rS_cons {F : Nat → Int32} : ∀ {st : List Int32}, rS st F → 1 ≤ st.length → F (st.length - 1) = st.getD 0 0 ∧ rS (st.drop 1) F
  | [], _, h => absurd h (by simp)
  | x :: r, h, _ => ⟨by simpa using h.1, by simpa using h.2⟩
