/-! PLAIN LAYER: nodes of the class stand for lists of codes; their worth -/
set_option maxRecDepth 100000
def sgC (c : Nat) : Int32 := if c = 12 then 38 else if c = 18 then 42 else if c = 16 then 43 else if c = 17 then 45 else if c = 14 then 60 else if c = 15 then 61 else 124
/-- the node at a, of depth n at most, stands for the codes l -/
def nRep (Z : cP) : Nat → Nat → List Nat → Prop
  | 0, _, _ => False
  | n + 1, a, l => (∃ v, v < 100000 ∧ l = [100000 + v] ∧ Z a = some (.inr (10, vp_V [.int (Int32.ofNat v), .int (-1)]))) ∨ (∃ k, k < 6 ∧ l = [k] ∧ Z a = some (.inr (10, vp_V [.int 0, .int (Int32.ofNat k)]))) ∨
      (∃ (x : Nat) (l1 : List Nat), l = l1 ++ [19] ∧ Z a = some (.inr (9, vp_V [.int 0, .ref x])) ∧ nRep Z n x l1) ∨ (∃ (x : Nat) (l1 : List Nat), l = l1 ++ [13] ∧ Z a = some (.inr (9, vp_V [.int 1, .ref x])) ∧ nRep Z n x l1) ∨
      (∃ (c x y : Nat) (l1 l2 : List Nat), isBin c ∧ l = l1 ++ (l2 ++ [c]) ∧ Z a = some (.inr (11, vp_V [.int (sgC c), .ref x, .ref y])) ∧ nRep Z n x l1 ∧ nRep Z n y l2)
def nV (nm : Nat → Int32) (l : List Nat) : Int32 := (ev nm l []).getD 0 0
theorem ev_app {nm : Nat → Int32} : ∀ {l1 l2 : List Nat} {st : List Int32}, ev nm (l1 ++ l2) st = ev nm l2 (ev nm l1 st)
  | [], _, _ => rfl
  | _ :: l1, _, _ => ev_app (l1 := l1)
theorem stp_19 {nm : Nat → Int32} {v : Int32} {st : List Int32} : stp nm 19 (v :: st) = (-v) :: st := by simp [stp]
theorem stp_13 {nm : Nat → Int32} {v : Int32} {st : List Int32} : stp nm 13 (v :: st) = b3 (v = 0) :: st := by simp [stp]
theorem stp_bin {nm : Nat → Int32} {c : Nat} {v w : Int32} {st : List Int32} (h : isBin c) : stp nm c (w :: v :: st) = twoF c v w :: st := by
  unfold isBin at h
  unfold stp
  rw [if_neg (by omega), if_neg (by omega), if_neg (by omega), if_neg (by omega)]
  simp
theorem nRep_ex {Z : cP} {nm : Nat → Int32} : ∀ {n a : Nat} {l : List Nat}, nRep Z n a l → ∃ v, ∀ st, ev nm l st = v :: st
  | 0, _, _, h => h.elim
  | n + 1, a, l, h => by
    rcases h with ⟨v, hv, rfl, -⟩ | ⟨k, hk, rfl, -⟩ | ⟨x, l1, rfl, -, h1⟩ | ⟨x, l1, rfl, -, h1⟩ | ⟨c, x, y, l1, l2, hc, rfl, -, h1, h2⟩
    · exact ⟨Int32.ofNat v, fun st => by
        show stp nm (100000 + v) st = _
        unfold stp
        rw [if_pos (by omega), show 100000 + v - 100000 = v by omega]⟩
    · exact ⟨nm k, fun st => by
        show stp nm k st = _
        unfold stp
        rw [if_neg (by omega), if_pos (by omega)]⟩
    · obtain ⟨v, hv⟩ := nRep_ex h1
      exact ⟨-v, fun st => by rw [ev_app, hv st]; exact stp_19 (nm := nm)⟩
    · obtain ⟨v, hv⟩ := nRep_ex h1
      exact ⟨b3 (v = 0), fun st => by rw [ev_app, hv st]; exact stp_13 (nm := nm)⟩
    · obtain ⟨v, hv⟩ := nRep_ex h1
      obtain ⟨w, hw⟩ := nRep_ex h2
      exact ⟨twoF c v w, fun st => by rw [ev_app, hv st, ev_app, hw]; exact stp_bin (nm := nm) hc⟩
theorem nRep_ev {Z : cP} {nm : Nat → Int32} {n a : Nat} {l : List Nat} (h : nRep Z n a l) (st : List Int32) : ev nm l st = nV nm l :: st := by
  obtain ⟨v, hv⟩ := nRep_ex (nm := nm) h
  have : nV nm l = v := by
    unfold nV
    rw [hv []]
    rfl
  rw [this]
  exact hv st
section
variable {b : Nat} {cs ad : Nat → Nat} {vs : Nat → Option Nat} {f : cW} {x1 : Nat} {nm : Nat → Int32}
theorem nodeW_of (hnm : f.1 x1 = some (.inl (cs 0, 6, .inl nm))) : ∀ {n a : Nat} {l : List Nat} {Q : Int32 → cW → Prop}, nRep f.1 n a l → Q (nV nm l) f → nodeW b cs ad vs n f a x1 Q
  | 0, _, _, _, h, _ => h.elim
  | n + 1, a, l, Q, h, hQ => by
    rcases h with ⟨v, hv, rfl, hZ⟩ | ⟨k, hk, rfl, hZ⟩ | ⟨x, l1, rfl, hZ, h1⟩ | ⟨x, l1, rfl, hZ, h1⟩ | ⟨c, x, y, l1, l2, hc, rfl, hZ, h1, h2⟩
    · refine Or.inl ⟨_, hZ, ?_⟩
      unfold wX5_worth
      refine ⟨_, _, hZ, fun q => absurd rfl q, fun _ => ?_⟩
      have : nV nm [100000 + v] = Int32.ofNat v := by
        unfold nV
        show (stp nm (100000 + v) []).getD 0 0 = _
        unfold stp
        rw [if_pos (by omega), show 100000 + v - 100000 = v by omega]
        rfl
      rw [← this]
      exact hQ
    · refine Or.inl ⟨_, hZ, ?_⟩
      unfold wX5_worth
      refine ⟨_, _, hZ, fun _ => ⟨6, nm, hnm, n_in hk (by decide), ?_⟩, fun q => ?_⟩
      · rw [n_clamp (by omega)]
        have : nV nm [k] = nm k := by
          unfold nV
          show (stp nm k []).getD 0 0 = _
          unfold stp
          rw [if_neg (by omega), if_pos (by omega)]
          rfl
        rw [← this]
        exact hQ
      · have := congrArg Int32.toInt q
        rw [n_toInt (by omega), im1] at this
        omega
    · refine Or.inr (Or.inl ⟨_, hZ, ?_⟩)
      unfold wX4_worth
      refine ⟨_, _, hZ, x, rfl, nodeW_of hnm h1 ⟨_, _, hZ, w0 ?_⟩⟩
      have : nV nm (l1 ++ [19]) = -(nV nm l1) := by
        show (ev nm (l1 ++ [19]) []).getD 0 0 = _
        rw [ev_app, nRep_ev h1]
        show (stp nm 19 [nV nm l1]).getD 0 0 = _
        rw [stp_19]
        rfl
      rw [← this]
      exact hQ
    · refine Or.inr (Or.inl ⟨_, hZ, ?_⟩)
      unfold wX4_worth
      have : nV nm (l1 ++ [13]) = b3 (nV nm l1 = 0) := by
        show (ev nm (l1 ++ [13]) []).getD 0 0 = _
        rw [ev_app, nRep_ev h1]
        show (stp nm 13 [nV nm l1]).getD 0 0 = _
        rw [stp_13]
        rfl
      rw [this] at hQ
      refine ⟨_, _, hZ, x, rfl, nodeW_of hnm h1 ⟨_, _, hZ, w1 ⟨fun q => ?_, fun q => ?_⟩⟩⟩
      · unfold b3 at hQ
        rw [if_neg q] at hQ
        exact hQ
      · unfold b3 at hQ
        rw [if_pos q] at hQ
        exact hQ
    · refine Or.inr (Or.inr ⟨_, hZ, ?_⟩)
      unfold wX6_worth wbX6_worth_140
      have e : nV nm (l1 ++ (l2 ++ [c])) = twoF c (nV nm l1) (nV nm l2) := by
        show (ev nm (l1 ++ (l2 ++ [c])) []).getD 0 0 = _
        rw [ev_app, nRep_ev h1, ev_app, nRep_ev h2]
        show (stp nm c [nV nm l2, nV nm l1]).getD 0 0 = _
        rw [stp_bin hc]
        rfl
      rw [e] at hQ
      refine ⟨_, _, _, hZ, x, rfl, nodeW_of hnm h1 ⟨_, _, _, hZ, y, rfl, nodeW_of hnm h2 ⟨_, _, _, hZ, ?_⟩⟩⟩
      generalize nV nm l1 = v at hQ
      generalize nV nm l2 = w at hQ
      rcases hc with e | e | e | e | e | e | e <;> subst e
      · refine ⟨fun q => absurd q (by decide), fun _ => ⟨fun q => absurd q (by decide), fun _ => ⟨fun q => absurd q (by decide), fun _ => ⟨fun q => absurd q (by decide), fun _ => ⟨fun q => absurd q (by decide), fun _ => ⟨fun q => absurd q (by decide), fun _ => ⟨fun hv => ?_, fun hv => ⟨fun hw => ?_, fun hw => ?_⟩⟩⟩⟩⟩⟩⟩⟩
        · simpa [twoF, b3, hv] using hQ
        · simpa [twoF, b3, hv, hw] using hQ
        · simpa [twoF, b3, hv, hw] using hQ
      · refine ⟨fun _ => ⟨fun hv => ?_, fun hv => ⟨fun hw => ?_, fun hw => ?_⟩⟩, fun q => absurd rfl q⟩
        · simpa [twoF, b3, hv] using hQ
        · simpa [twoF, b3, hv, hw] using hQ
        · simpa [twoF, b3, hv, hw] using hQ
      · refine ⟨fun q => absurd q (by decide), fun _ => ⟨fun q => absurd q (by decide), fun _ => ⟨fun q => absurd q (by decide), fun _ => ⟨fun q => absurd q (by decide), fun _ => ⟨fun _ => ⟨fun ha => ?_, fun ha => ?_⟩, fun q => absurd rfl q⟩⟩⟩⟩⟩
        · have : ¬ v < w := fun q => by rw [i_le] at ha; rw [i_lt] at q; omega
          simpa [twoF, b3, this] using hQ
        · have : v < w := by
            rw [i_lt]
            have : ¬ w.toInt ≤ v.toInt := fun q => ha (i_le.mpr q)
            omega
          simpa [twoF, b3, this] using hQ
      · refine ⟨fun q => absurd q (by decide), fun _ => ⟨fun q => absurd q (by decide), fun _ => ⟨fun q => absurd q (by decide), fun _ => ⟨fun q => absurd q (by decide), fun _ => ⟨fun q => absurd q (by decide), fun _ => ⟨fun _ => ⟨fun ha => ?_, fun ha => ?_⟩, fun q => absurd rfl q⟩⟩⟩⟩⟩⟩
        · simpa [twoF, b3, ha] using hQ
        · simpa [twoF, b3, ha] using hQ
      · exact ⟨fun q => absurd q (by decide), fun _ => ⟨fun q => absurd q (by decide), fun _ => ⟨fun _ => hQ, fun q => absurd rfl q⟩⟩⟩
      · exact ⟨fun q => absurd q (by decide), fun _ => ⟨fun q => absurd q (by decide), fun _ => ⟨fun q => absurd q (by decide), fun _ => ⟨fun _ => hQ, fun q => absurd rfl q⟩⟩⟩⟩
      · exact ⟨fun q => absurd q (by decide), fun _ => ⟨fun _ => hQ, fun q => absurd rfl q⟩⟩
end
