/-! WHAT IS KNOWN of tables, constants and the old heap (XKd); rows of methods over the whole world (by program) -/
set_option maxRecDepth 100000
def nwOk : Cond → Bool
  | .castable _ _ => true
  | .fieldLinkNest _ _ _ _ _ _ => true
  | .methodLinkNest _ _ _ _ => true
  | .declares _ => true
  | .arrayOver _ => true
  | _ => false
theorem nw_warm {w : Cond} (hw : nwOk w = true) {s U : State} (hW : s.WarmedH U.vm) (h : va_Nw w s) : va_Nw w U := by
  cases w
  all_goals first
    | exact va_Nw.warmC hW h
    | exact va_Nw.warmF hW h
    | exact va_Nw.warmM hW h
    | exact va_Nw.warmD hW h
    | exact (show (Cond.arrayOver _).before #[] (s.setVm U.vm) = true by rw [Cond.arrayOver_setVmC hW.alike]; exact h)
    | exact absurd hw (by intro q; cases q)
theorem nw_good {w : Cond} (hw : goodWord w = true) {s U : State} (hW : s.WarmedH U.vm) (h : va_Nw w s) : va_Nw w U :=
  pay_in (big := [w]) (ws := [w]) (args := #[]) (s := s) (fun x hx => by rw [List.mem_singleton.mp hx]; exact h) (fun x hx => ⟨hx, by rw [List.mem_singleton.mp hx]; exact good_of_word hw⟩) w List.mem_cons_self #[] U hW
theorem nw_self {C T : String} {s : State} (h : va_Nw (.castable C T) s) : va_Nw (.castable C C) s := by
  obtain ⟨c, t, g1, g2, g3⟩ := Cond.castable_spec (args := #[]) (first := s) (o := none) (s := s) (idx := []) h
  show (Cond.castable C C).before #[] s = true
  simp [Cond.before, Cond.holds, Cond.value, g1, Vm.assignable_self]
def sLen : List Nat := [4, 5, 5, 4, 5, 3, 4, 4, 50, 8, 3, 3, 2]
def sByt : List (List Int32) := [[110, 101, 97, 114], [119, 111, 114, 116, 104], [104, 111, 117, 114, 115], [115, 105, 122, 101], [111, 116, 104, 101, 114], [100, 97, 121], [119, 97, 110, 116], [119, 101, 101, 107], [110, 101, 97, 114, 32, 104, 111, 117, 114, 115, 32, 60, 32, 52, 32, 59, 32, 119, 111, 114, 116, 104, 32, 49, 48, 32, 45, 32, 111, 116, 104, 101, 114, 32, 42, 32, 50, 32, 43, 32, 119, 97, 110, 116, 32, 42, 32, 53, 32, 59], [40, 41, 59, 43, 45, 42, 60, 61], [110, 111, 116], [97, 110, 100], [111, 114]]
def sRef : List (String × Nat × String) := [("MarketDays", 459, "near"), ("MarketDays", 460, "worth"), ("MarketDays", 465, "hours"), ("MarketDays", 467, "size"), ("MarketDays", 468, "other"), ("MarketDays", 470, "day"), ("MarketDays", 471, "want"), ("MarketDays", 473, "week"), ("MarketDays", 121, "near hours < 4 ; worth 10 - other * 2 + want * 5 ;"), ("MarketDays$Reader", 77, "();+-*<="), ("MarketDays$Reader", 132, "not"), ("MarketDays$Reader", 139, "and"), ("MarketDays$Reader", 144, "or")]
def xkT (U : State) : Prop := ∀ w ∈ lw_tbl, nwOk w = true → va_Nw w U
def xkF (U : State) : Prop := va_Fw "MarketDays$Leaf" ⟨"MarketDays$Node", "worth", "([I)I"⟩ yX5_worth U ∧ va_Fw "MarketDays$One" ⟨"MarketDays$Node", "worth", "([I)I"⟩ yX4_worth U ∧ va_Fw "MarketDays$Two" ⟨"MarketDays$Node", "worth", "([I)I"⟩ yX6_worth U
def ncOk (C T : String) : Bool := clC.any (fun r => r.1 == C) && (T == "MarketDays$Giving" || T == "MarketDays$Part" || T == "MarketDays$Twice" || T == "MarketDays$Turn" || T == "MarketDays$Season" || T == "MarketDays$Told" || T == "java/lang/Integer" || T == "java/lang/String")
def ncL : List (String × String) := [("MarketDays", "MarketDays$Fault"), ("MarketDays", "MarketDays$Giving"), ("MarketDays", "MarketDays$Odd"), ("MarketDays", "MarketDays$Part"), ("MarketDays", "MarketDays$Season"), ("MarketDays", "MarketDays$Told"), ("MarketDays", "MarketDays$Turn"), ("MarketDays", "MarketDays$Twice"), ("MarketDays", "java/lang/Integer"), ("MarketDays", "java/lang/String"), ("MarketDays$Fault", "MarketDays$Giving"), ("MarketDays$Fault", "MarketDays$Odd"), ("MarketDays$Fault", "MarketDays$Part"), ("MarketDays$Fault", "MarketDays$Season"), ("MarketDays$Fault", "MarketDays$Told"), ("MarketDays$Fault", "MarketDays$Turn"), ("MarketDays$Fault", "MarketDays$Twice"), ("MarketDays$Fault", "java/lang/Integer"), ("MarketDays$Fault", "java/lang/String"), ("MarketDays$Giving", "MarketDays$Fault"), ("MarketDays$Giving", "MarketDays$Odd"), ("MarketDays$Giving", "MarketDays$Part"), ("MarketDays$Giving", "MarketDays$Season"), ("MarketDays$Giving", "MarketDays$Told"), ("MarketDays$Giving", "MarketDays$Turn"), ("MarketDays$Giving", "MarketDays$Twice"), ("MarketDays$Giving", "java/lang/Integer"), ("MarketDays$Giving", "java/lang/String"), ("MarketDays$Leaf", "MarketDays$Fault"), ("MarketDays$Leaf", "MarketDays$Giving"), ("MarketDays$Leaf", "MarketDays$Odd"), ("MarketDays$Leaf", "MarketDays$Part"), ("MarketDays$Leaf", "MarketDays$Season"), ("MarketDays$Leaf", "MarketDays$Told"), ("MarketDays$Leaf", "MarketDays$Turn"), ("MarketDays$Leaf", "MarketDays$Twice"), ("MarketDays$Leaf", "java/lang/Integer"), ("MarketDays$Leaf", "java/lang/String"), ("MarketDays$Odd", "MarketDays$Fault"), ("MarketDays$Odd", "MarketDays$Giving"), ("MarketDays$Odd", "MarketDays$Part"), ("MarketDays$Odd", "MarketDays$Season"), ("MarketDays$Odd", "MarketDays$Told"), ("MarketDays$Odd", "MarketDays$Turn"), ("MarketDays$Odd", "MarketDays$Twice"), ("MarketDays$Odd", "java/lang/Integer"), ("MarketDays$Odd", "java/lang/String"), ("MarketDays$One", "MarketDays$Fault"), ("MarketDays$One", "MarketDays$Giving"), ("MarketDays$One", "MarketDays$Odd"), ("MarketDays$One", "MarketDays$Part"), ("MarketDays$One", "MarketDays$Season"), ("MarketDays$One", "MarketDays$Told"), ("MarketDays$One", "MarketDays$Turn"), ("MarketDays$One", "MarketDays$Twice"), ("MarketDays$One", "java/lang/Integer"), ("MarketDays$One", "java/lang/String"), ("MarketDays$Part", "MarketDays$Fault"), ("MarketDays$Part", "MarketDays$Odd"), ("MarketDays$Part", "MarketDays$Season"), ("MarketDays$Part", "MarketDays$Told"), ("MarketDays$Part", "MarketDays$Turn"), ("MarketDays$Part", "MarketDays$Twice"), ("MarketDays$Part", "java/lang/Integer"), ("MarketDays$Part", "java/lang/String"), ("MarketDays$Reader", "MarketDays$Fault"), ("MarketDays$Reader", "MarketDays$Giving"), ("MarketDays$Reader", "MarketDays$Odd"), ("MarketDays$Reader", "MarketDays$Part"), ("MarketDays$Reader", "MarketDays$Season"), ("MarketDays$Reader", "MarketDays$Told"), ("MarketDays$Reader", "MarketDays$Turn"), ("MarketDays$Reader", "MarketDays$Twice"), ("MarketDays$Reader", "java/lang/Integer"), ("MarketDays$Reader", "java/lang/String"), ("MarketDays$Season", "MarketDays$Fault"), ("MarketDays$Season", "MarketDays$Odd"), ("MarketDays$Season", "MarketDays$Part"), ("MarketDays$Season", "MarketDays$Told"), ("MarketDays$Season", "MarketDays$Twice"), ("MarketDays$Season", "java/lang/Integer"), ("MarketDays$Season", "java/lang/String"), ("MarketDays$Sheet", "MarketDays$Fault"), ("MarketDays$Sheet", "MarketDays$Giving"), ("MarketDays$Sheet", "MarketDays$Odd"), ("MarketDays$Sheet", "MarketDays$Part"), ("MarketDays$Sheet", "MarketDays$Season"), ("MarketDays$Sheet", "MarketDays$Told"), ("MarketDays$Sheet", "MarketDays$Turn"), ("MarketDays$Sheet", "MarketDays$Twice"), ("MarketDays$Sheet", "java/lang/Integer"), ("MarketDays$Sheet", "java/lang/String"), ("MarketDays$Slot", "MarketDays$Fault"), ("MarketDays$Slot", "MarketDays$Giving"), ("MarketDays$Slot", "MarketDays$Odd"), ("MarketDays$Slot", "MarketDays$Part"), ("MarketDays$Slot", "MarketDays$Season"), ("MarketDays$Slot", "MarketDays$Told"), ("MarketDays$Slot", "MarketDays$Turn"), ("MarketDays$Slot", "MarketDays$Twice"), ("MarketDays$Slot", "java/lang/Integer"), ("MarketDays$Slot", "java/lang/String"), ("MarketDays$Told", "MarketDays$Fault"), ("MarketDays$Told", "MarketDays$Odd"), ("MarketDays$Told", "MarketDays$Season"), ("MarketDays$Told", "MarketDays$Turn"), ("MarketDays$Told", "MarketDays$Twice"), ("MarketDays$Told", "java/lang/Integer"), ("MarketDays$Told", "java/lang/String"), ("MarketDays$Turn", "MarketDays$Fault"), ("MarketDays$Turn", "MarketDays$Odd"), ("MarketDays$Turn", "MarketDays$Part"), ("MarketDays$Turn", "MarketDays$Season"), ("MarketDays$Turn", "MarketDays$Told"), ("MarketDays$Turn", "MarketDays$Twice"), ("MarketDays$Turn", "java/lang/Integer"), ("MarketDays$Turn", "java/lang/String"), ("MarketDays$Twice", "MarketDays$Fault"), ("MarketDays$Twice", "MarketDays$Odd"), ("MarketDays$Twice", "MarketDays$Part"), ("MarketDays$Twice", "MarketDays$Season"), ("MarketDays$Twice", "MarketDays$Told"), ("MarketDays$Twice", "MarketDays$Turn"), ("MarketDays$Twice", "java/lang/Integer"), ("MarketDays$Twice", "java/lang/String"), ("MarketDays$Two", "MarketDays$Fault"), ("MarketDays$Two", "MarketDays$Giving"), ("MarketDays$Two", "MarketDays$Odd"), ("MarketDays$Two", "MarketDays$Part"), ("MarketDays$Two", "MarketDays$Season"), ("MarketDays$Two", "MarketDays$Told"), ("MarketDays$Two", "MarketDays$Turn"), ("MarketDays$Two", "MarketDays$Twice"), ("MarketDays$Two", "java/lang/Integer"), ("MarketDays$Two", "java/lang/String"), ("MarketDaysModel", "MarketDays$Fault"), ("MarketDaysModel", "MarketDays$Giving"), ("MarketDaysModel", "MarketDays$Odd"), ("MarketDaysModel", "MarketDays$Part"), ("MarketDaysModel", "MarketDays$Season"), ("MarketDaysModel", "MarketDays$Told"), ("MarketDaysModel", "MarketDays$Turn"), ("MarketDaysModel", "MarketDays$Twice"), ("MarketDaysModel", "java/lang/Integer"), ("MarketDaysModel", "java/lang/String"), ("java/lang/Integer", "MarketDays$Fault"), ("java/lang/Integer", "MarketDays$Giving"), ("java/lang/Integer", "MarketDays$Odd"), ("java/lang/Integer", "MarketDays$Part"), ("java/lang/Integer", "MarketDays$Season"), ("java/lang/Integer", "MarketDays$Told"), ("java/lang/Integer", "MarketDays$Turn"), ("java/lang/Integer", "MarketDays$Twice"), ("java/lang/Integer", "java/lang/String"), ("java/lang/String", "MarketDays$Fault"), ("java/lang/String", "MarketDays$Giving"), ("java/lang/String", "MarketDays$Odd"), ("java/lang/String", "MarketDays$Part"), ("java/lang/String", "MarketDays$Season"), ("java/lang/String", "MarketDays$Told"), ("java/lang/String", "MarketDays$Turn"), ("java/lang/String", "MarketDays$Twice"), ("java/lang/String", "java/lang/Integer"), ("java/lang/StringBuilder", "MarketDays$Fault"), ("java/lang/StringBuilder", "MarketDays$Giving"), ("java/lang/StringBuilder", "MarketDays$Odd"), ("java/lang/StringBuilder", "MarketDays$Part"), ("java/lang/StringBuilder", "MarketDays$Season"), ("java/lang/StringBuilder", "MarketDays$Told"), ("java/lang/StringBuilder", "MarketDays$Turn"), ("java/lang/StringBuilder", "MarketDays$Twice"), ("java/lang/StringBuilder", "java/lang/Integer"), ("java/lang/StringBuilder", "java/lang/String"), ("java/util/ArrayList", "MarketDays$Fault"), ("java/util/ArrayList", "MarketDays$Giving"), ("java/util/ArrayList", "MarketDays$Odd"), ("java/util/ArrayList", "MarketDays$Part"), ("java/util/ArrayList", "MarketDays$Season"), ("java/util/ArrayList", "MarketDays$Told"), ("java/util/ArrayList", "MarketDays$Turn"), ("java/util/ArrayList", "MarketDays$Twice"), ("java/util/ArrayList", "java/lang/Integer"), ("java/util/ArrayList", "java/lang/String")]
def xkC (U : State) : Prop := ∀ q ∈ ncL, va_Nc q.1 q.2 U
def xkS (b : Nat) (H0 : Heap) (ad : Nat → Nat) (U : State) : Prop := vk_S 13 sLen sByt (fun i => ad i) (fun i => ad (20 + i)) (fun q => b ≤ q) U H0
def xkR (ad : Nat → Nat) (U : State) : Prop := ∀ i : Nat, ∀ r, sRef[i]? = some r → vk_R r.1 r.2.1 r.2.2 (ad i) U
def xkZ (b : Nat) (H0 : Heap) (ad : Nat → Nat) (vs : Nat → Option Nat) (U : State) : Prop := va_Z "java/lang/String" "COMPACT_STRINGS" "Z" (.int 1) (fun q => b ≤ q) U H0 ∧ va_Z "MarketDays" "KEYS" "[Ljava/lang/String;" (.ref (ad 40)) (fun q => b ≤ q) U H0 ∧ va_Z "MarketDays" "NAMES" "[Ljava/lang/String;" (.ref (ad 41)) (fun q => b ≤ q) U H0 ∧ va_Z "java/util/ArrayList" "DEFAULTCAPACITY_EMPTY_ELEMENTDATA" "[Ljava/lang/Object;" (.ref (ad 42)) (fun q => b ≤ q) U H0 ∧ va_Z "java/lang/Integer$IntegerCache" "high" "I" (.int 127) (fun q => b ≤ q) U H0 ∧ va_Z "java/lang/Integer$IntegerCache" "cache" "[Ljava/lang/Integer;" (.ref (ad 43)) (fun q => b ≤ q) U H0 ∧ va_Z "java/lang/Throwable" "UNASSIGNED_STACK" "[Ljava/lang/StackTraceElement;" (va_rf (vs 0)) (fun q => b ≤ q) U H0 ∧ va_Z "java/lang/Throwable" "SUPPRESSED_SENTINEL" "Ljava/util/List;" (va_rf (vs 1)) (fun q => b ≤ q) U H0 ∧ va_Z "jdk/internal/util/Preconditions" "SIOOBE_FORMATTER" "Ljava/util/function/BiFunction;" (va_rf (vs 2)) (fun q => b ≤ q) U H0
def xkV (b : Nat) (H0 : Heap) (ad : Nat → Nat) (U : State) : Prop := va_T (.object "java/lang/String") (ad 40) 2 (fun j => .ref (ad j)) (fun q => b ≤ q) U H0 ∧ va_T (.object "java/lang/String") (ad 41) 6 (fun j => .ref (ad (2 + j))) (fun q => b ≤ q) U H0 ∧ va_T (.object "java/lang/Object") (ad 42) 0 (fun _ => .null) (fun q => b ≤ q) U H0 ∧ va_T (.object "java/lang/Integer") (ad 43) 256 (fun j => .ref (ad (1000 + j))) (fun q => b ≤ q) U H0
def xkI (b : Nat) (H0 : Heap) (ad : Nat → Nat) (U : State) : Prop := vb_C (fun k => ad (1000 + k)) (fun q => b ≤ q) U H0 ∧ va_Mi "[Ljava/lang/Object;" (ad 44) U ∧ va_Nw (.selects "java/lang/StringBuilder" yJ7_ensureCapacityInternal yJ7_ensureCapacityInternal) U
def XKd (b : Nat) (H0 : Heap) (ad : Nat → Nat) (vs : Nat → Option Nat) : State → Prop := fun U => xkT U ∧ xkF U ∧ xkC U ∧ xkS b H0 ad U ∧ xkR ad U ∧ xkZ b H0 ad vs U ∧ xkV b H0 ad U ∧ xkI b H0 ad U
theorem XKd.warm {b : Nat} {H0 : Heap} {ad : Nat → Nat} {vs : Nat → Option Nat} (s U : State) (hW : s.WarmedH U.vm) (h : XKd b H0 ad vs s) : XKd b H0 ad vs U := by
  obtain ⟨h1, h2, h3, h4, h5, h6, h7, h8⟩ := h
  refine ⟨fun w hw hk => nw_warm hk hW (h1 w hw hk), ⟨va_Fw.moved (by decide) hW.alike h2.1, va_Fw.moved (by decide) hW.alike h2.2.1, va_Fw.moved (by decide) hW.alike h2.2.2⟩, fun q hq => (h3 q hq).moved hW.alike, vk_S.moved hW.alike h4, fun i r hi => vk_R.warm hW (h5 i r hi), ⟨h6.1.moved hW.alike, h6.2.1.moved hW.alike, h6.2.2.1.moved hW.alike, h6.2.2.2.1.moved hW.alike, h6.2.2.2.2.1.moved hW.alike, h6.2.2.2.2.2.1.moved hW.alike, h6.2.2.2.2.2.2.1.moved hW.alike, h6.2.2.2.2.2.2.2.1.moved hW.alike, h6.2.2.2.2.2.2.2.2.moved hW.alike⟩, ⟨h7.1.moved hW.alike, h7.2.1.moved hW.alike, h7.2.2.1.moved hW.alike, h7.2.2.2.moved hW.alike⟩, ⟨vb_C.moved hW.alike h8.1, va_Mi.moved hW.alike h8.2.1, nw_good rfl hW h8.2.2⟩⟩
section XKA
variable {b : Nat} {H0 : Heap} {ad : Nat → Nat} {vs : Nat → Option Nat} {s : State}
theorem xk_nw {w : Cond} (hw : w ∈ lw_tbl) (hk : nwOk w = true) (h : XKd b H0 ad vs s) : va_Nw w s := h.1 w hw hk
theorem xk_over {t : FieldType} {A : Array Value} (hw : Cond.arrayOver t ∈ lw_tbl) (h : XKd b H0 ad vs s) : (Cond.arrayOver t).before A s = true := h.1 _ hw rfl
theorem xk_FX5 (h : XKd b H0 ad vs s) : va_Fw "MarketDays$Leaf" ⟨"MarketDays$Node", "worth", "([I)I"⟩ yX5_worth s := h.2.1.1
theorem xk_FX4 (h : XKd b H0 ad vs s) : va_Fw "MarketDays$One" ⟨"MarketDays$Node", "worth", "([I)I"⟩ yX4_worth s := h.2.1.2.1
theorem xk_FX6 (h : XKd b H0 ad vs s) : va_Fw "MarketDays$Two" ⟨"MarketDays$Node", "worth", "([I)I"⟩ yX6_worth s := h.2.1.2.2
theorem xk_nc {C T : String} (hq : (C, T) ∈ ncL) (h : XKd b H0 ad vs s) : va_Nc C T s := h.2.2.1 _ hq
theorem xk_s (i : Nat) (hi : i < 13) (h : XKd b H0 ad vs s) : va_O "java/lang/String" (ad i) (fun q => b ≤ q) s H0 ∧ va_OF "java/lang/String" "coder" "B" (.int 0) (ad i) (fun q => b ≤ q) s H0 ∧ va_OF "java/lang/String" "value" "[B" (.ref (ad (20 + i))) (ad i) (fun q => b ≤ q) s H0 ∧ va_T .byte (ad (20 + i)) (sLen.getD i 0) (fun j => .int ((sByt.getD i []).getD j 0)) (fun q => b ≤ q) s H0 := h.2.2.2.1.1 i hi
theorem xk_r (i : Nat) {r : String × Nat × String} (hi : sRef[i]? = some r) (h : XKd b H0 ad vs s) : vk_R r.1 r.2.1 r.2.2 (ad i) s := h.2.2.2.2.1 i r hi
theorem xk_compact (h : XKd b H0 ad vs s) : va_Z "java/lang/String" "COMPACT_STRINGS" "Z" (.int 1) (fun q => b ≤ q) s H0 := h.2.2.2.2.2.1.1
theorem xk_keys (h : XKd b H0 ad vs s) : va_Z "MarketDays" "KEYS" "[Ljava/lang/String;" (.ref (ad 40)) (fun q => b ≤ q) s H0 := h.2.2.2.2.2.1.2.1
theorem xk_names (h : XKd b H0 ad vs s) : va_Z "MarketDays" "NAMES" "[Ljava/lang/String;" (.ref (ad 41)) (fun q => b ≤ q) s H0 := h.2.2.2.2.2.1.2.2.1
theorem xk_empty (h : XKd b H0 ad vs s) : va_Z "java/util/ArrayList" "DEFAULTCAPACITY_EMPTY_ELEMENTDATA" "[Ljava/lang/Object;" (.ref (ad 42)) (fun q => b ≤ q) s H0 := h.2.2.2.2.2.1.2.2.2.1
theorem xk_high (h : XKd b H0 ad vs s) : va_Z "java/lang/Integer$IntegerCache" "high" "I" (.int 127) (fun q => b ≤ q) s H0 := h.2.2.2.2.2.1.2.2.2.2.1
theorem xk_cache (h : XKd b H0 ad vs s) : va_Z "java/lang/Integer$IntegerCache" "cache" "[Ljava/lang/Integer;" (.ref (ad 43)) (fun q => b ≤ q) s H0 := h.2.2.2.2.2.1.2.2.2.2.2.1
theorem xk_trace (h : XKd b H0 ad vs s) : va_Z "java/lang/Throwable" "UNASSIGNED_STACK" "[Ljava/lang/StackTraceElement;" (va_rf (vs 0)) (fun q => b ≤ q) s H0 := h.2.2.2.2.2.1.2.2.2.2.2.2.1
theorem xk_sent (h : XKd b H0 ad vs s) : va_Z "java/lang/Throwable" "SUPPRESSED_SENTINEL" "Ljava/util/List;" (va_rf (vs 1)) (fun q => b ≤ q) s H0 := h.2.2.2.2.2.1.2.2.2.2.2.2.2.1
theorem xk_sio (h : XKd b H0 ad vs s) : va_Z "jdk/internal/util/Preconditions" "SIOOBE_FORMATTER" "Ljava/util/function/BiFunction;" (va_rf (vs 2)) (fun q => b ≤ q) s H0 := h.2.2.2.2.2.1.2.2.2.2.2.2.2.2
theorem xk_keysT (h : XKd b H0 ad vs s) : va_T (.object "java/lang/String") (ad 40) 2 (fun j => .ref (ad j)) (fun q => b ≤ q) s H0 := h.2.2.2.2.2.2.1.1
theorem xk_namesT (h : XKd b H0 ad vs s) : va_T (.object "java/lang/String") (ad 41) 6 (fun j => .ref (ad (2 + j))) (fun q => b ≤ q) s H0 := h.2.2.2.2.2.2.1.2.1
theorem xk_emptyT (h : XKd b H0 ad vs s) : va_T (.object "java/lang/Object") (ad 42) 0 (fun _ => .null) (fun q => b ≤ q) s H0 := h.2.2.2.2.2.2.1.2.2.1
theorem xk_cacheT (h : XKd b H0 ad vs s) : va_T (.object "java/lang/Integer") (ad 43) 256 (fun j => .ref (ad (1000 + j))) (fun q => b ≤ q) s H0 := h.2.2.2.2.2.2.1.2.2.2
theorem xk_C (h : XKd b H0 ad vs s) : vb_C (fun k => ad (1000 + k)) (fun q => b ≤ q) s H0 := h.2.2.2.2.2.2.2.1
theorem xk_mir (h : XKd b H0 ad vs s) : va_Mi "[Ljava/lang/Object;" (ad 44) s := h.2.2.2.2.2.2.2.2.1
theorem xk_ens (h : XKd b H0 ad vs s) : va_Nw (.selects "java/lang/StringBuilder" yJ7_ensureCapacityInternal yJ7_ensureCapacityInternal) s := h.2.2.2.2.2.2.2.2.2
theorem rf_N {x : Option Nat} {t : FieldType} : narrow t (va_rf x) = va_rf x := by cases x <;> cases t <;> rfl
theorem rf_O {x : Option Nat} {C : String} : fits (.object C) (va_rf x) = true := by cases x <;> rfl
theorem rf_A {x : Option Nat} {t : FieldType} : fits (.array t) (va_rf x) = true := by cases x <;> rfl
def oOk (ci : Nat) : Bool := [0, 1, 2, 3, 4, 5, 6, 7, 8, 9, 10, 11, 12, 13, 14, 15, 16, 17, 18].contains ci
theorem oOk_ok {ci : Nat} (h : oOk ci = true) : cOk clC (XKd b H0 ad vs) "java/lang/Object" ci := by
  have hm : ci ∈ [0, 1, 2, 3, 4, 5, 6, 7, 8, 9, 10, 11, 12, 13, 14, 15, 16, 17, 18] := List.contains_iff_mem.mp h
  simp only [List.mem_cons, List.not_mem_nil, or_false] at hm
  rcases hm with e | e | e | e | e | e | e | e | e | e | e | e | e | e | e | e | e | e | e
  · exact ⟨_, by rw [e]; rfl, fun s h => xk_nw q1965 rfl h⟩
  · exact ⟨_, by rw [e]; rfl, fun s h => xk_nw q1957 rfl h⟩
  · exact ⟨_, by rw [e]; rfl, fun s h => xk_nw q1954 rfl h⟩
  · exact ⟨_, by rw [e]; rfl, fun s h => xk_nw q1966 rfl h⟩
  · exact ⟨_, by rw [e]; rfl, fun s h => xk_nw q1967 rfl h⟩
  · exact ⟨_, by rw [e]; rfl, fun s h => xk_nw q1968 rfl h⟩
  · exact ⟨_, by rw [e]; rfl, fun s h => xk_nw q1969 rfl h⟩
  · exact ⟨_, by rw [e]; rfl, fun s h => xk_nw q1970 rfl h⟩
  · exact ⟨_, by rw [e]; rfl, fun s h => xk_nw q1971 rfl h⟩
  · exact ⟨_, by rw [e]; rfl, fun s h => xk_nw q1962 rfl h⟩
  · exact ⟨_, by rw [e]; rfl, fun s h => xk_nw q1963 rfl h⟩
  · exact ⟨_, by rw [e]; rfl, fun s h => xk_nw q1964 rfl h⟩
  · exact ⟨_, by rw [e]; rfl, fun s h => xk_nw q1959 rfl h⟩
  · exact ⟨_, by rw [e]; rfl, fun s h => xk_nw q1961 rfl h⟩
  · exact ⟨_, by rw [e]; rfl, fun s h => xk_nw q1972 rfl h⟩
  · exact ⟨_, by rw [e]; rfl, fun s h => xk_nw q1973 rfl h⟩
  · exact ⟨_, by rw [e]; rfl, fun s h => xk_nw q1958 rfl h⟩
  · exact ⟨_, by rw [e]; rfl, fun s h => xk_nw q1956 rfl h⟩
  · exact ⟨_, by rw [e]; rfl, fun s h => xk_nw q1960 rfl h⟩
def gOk (ci : Nat) : Bool := [3, 4, 5, 6, 7, 8].contains ci
theorem gOk_ok {ci : Nat} (h : gOk ci = true) : cOk clC (XKd b H0 ad vs) "MarketDays$Giving" ci := by
  have hm : ci ∈ [3, 4, 5, 6, 7, 8] := List.contains_iff_mem.mp h
  simp only [List.mem_cons, List.not_mem_nil, or_false] at hm
  rcases hm with e | e | e | e | e | e
  · exact ⟨_, by rw [e]; rfl, fun s h => nw_self (xk_nw q1966 rfl h)⟩
  · exact ⟨_, by rw [e]; rfl, fun s h => xk_nw q1947 rfl h⟩
  · exact ⟨_, by rw [e]; rfl, fun s h => xk_nw q1951 rfl h⟩
  · exact ⟨_, by rw [e]; rfl, fun s h => xk_nw q1950 rfl h⟩
  · exact ⟨_, by rw [e]; rfl, fun s h => xk_nw q1948 rfl h⟩
  · exact ⟨_, by rw [e]; rfl, fun s h => xk_nw q1949 rfl h⟩
def nOk (ci : Nat) : Bool := [9, 10, 11].contains ci
theorem nOk_ok {ci : Nat} (h : nOk ci = true) : cOk clC (XKd b H0 ad vs) "MarketDays$Node" ci := by
  have hm : ci ∈ [9, 10, 11] := List.contains_iff_mem.mp h
  simp only [List.mem_cons, List.not_mem_nil, or_false] at hm
  rcases hm with e | e | e
  · exact ⟨_, by rw [e]; rfl, fun s h => xk_nw q863 rfl h⟩
  · exact ⟨_, by rw [e]; rfl, fun s h => xk_nw q857 rfl h⟩
  · exact ⟨_, by rw [e]; rfl, fun s h => xk_nw q871 rfl h⟩
def sOk (ci : Nat) : Bool := [2].contains ci
theorem sOk_ok {ci : Nat} (h : sOk ci = true) : cOk clC (XKd b H0 ad vs) "MarketDays$Sheet" ci := by
  have hm : ci ∈ [2] := List.contains_iff_mem.mp h
  simp only [List.mem_cons, List.not_mem_nil, or_false] at hm
  have e := hm
  · exact ⟨_, by rw [e]; rfl, fun s h => nw_self (xk_nw q1954 rfl h)⟩
end XKA
theorem updP_s {P : cP} {a : Nat} {e : cE} {x : Nat × Nat} : ((updP P a e, x) : cW).1 a = some e := by simp [updP]
abbrev AGW (p : Program) (l : Launch) (e : Env) (R : Room) (s : State) (m : MethodId) (args : Array Value) (below : List Frame) (meth : Method) (c : Code) (D : va_G) (b nL z u : Nat) (Qp : Option Value → cW → Prop) (pc : Nat) (lv : List (Nat × Value)) (st : List Value) (f : cW) : Prop :=
  AG p l e R s m args below meth c D clC b nL (MQ below (QX D clC b Qp) args s (b + cB - z) (sB - u) (fun q => b ≤ q)) pc lv st f
section GWR
variable {p : Program} {l : Launch} {e : Env} {R : Room} {s : State} {m : MethodId} {args : Array Value} {below : List Frame} {meth : Method} {c : Code} {D : va_G} {cs : Nat → ClassId} {b nL fr lo z u : Nat} {H0 : Heap} {XK : State → Prop} {hh : List (Nat × Nat × Nat × Nat)} {cc : ByteArray} {ret : Option FieldType} {Qp : Option Value → cW → Prop} {pc : Nat} {lv : List (Nat × Value)} {rest : List Value} {f : cW} {own : String} {Q : State → Prop} {cl : List vw_C} {st : List Value}
theorem ag_named (kk : ∀ w' : cW, w' = f → AG p l e R s m args below meth c D cl b nL Q pc lv st w') : AG p l e R s m args below meth c D cl b nL Q pc lv st f := kk _ rfl
theorem gw_iret (E : EX p R s m args meth c cc nL own ret D cs b H0 XK hh fr lo z u) {r : Int32} (hret : ret = some .int) (hq : Qp (some (.int r)) f) (hdg : decode cc pc = .ok (.ireturn, 1)) : AGW p l e R s m args below meth c D b nL z u Qp pc lv [.int r] f := ag_iret hret E.1.2.2.2.2.2.1 E.1 (w0 := (f.1, z, u)) E.2 hq hdg
theorem gw_zret (E : EX p R s m args meth c cc nL own ret D cs b H0 XK hh fr lo z u) {r : Int32} (hret : ret = some .boolean) (hr : vz r) (hq : Qp (some (.int r)) f) (hdg : decode cc pc = .ok (.ireturn, 1)) : AGW p l e R s m args below meth c D b nL z u Qp pc lv [.int r] f := ag_zret hret (vz_nar hr) E.1.2.2.2.2.2.1 E.1 (w0 := (f.1, z, u)) E.2 hq hdg
theorem gw_lret (E : EX p R s m args meth c cc nL own ret D cs b H0 XK hh fr lo z u) {r : Int64} (hret : ret = some .long) (hq : Qp (some (.long r)) f) (hdg : decode cc pc = .ok (.lreturn, 1)) : AGW p l e R s m args below meth c D b nL z u Qp pc lv [.long r] f := ag_lret hret E.1.2.2.2.2.2.1 E.1 (w0 := (f.1, z, u)) E.2 hq hdg
theorem gw_vret (E : EX p R s m args meth c cc nL own ret D cs b H0 XK hh fr lo z u) (hret : ret = none) (hq : Qp none f) (hdg : decode cc pc = .ok (.return_, 1)) : AGW p l e R s m args below meth c D b nL z u Qp pc lv [] f := ag_vret hret E.1.2.2.2.2.2.1 E.1 (w0 := (f.1, z, u)) E.2 hq hdg
theorem gw_aret (E : EX p R s m args meth c cc nL own ret D cs b H0 XK hh fr lo z u) {v : Value} {rt : FieldType} (hret : ret = some rt) (hrt : (∃ n, rt = .object n) ∨ ∃ t, rt = .array t) (hv : v = .null ∨ ∃ a, v = .ref a) (hq : Qp (some v) f) (hdg : decode cc pc = .ok (.areturn, 1)) : AGW p l e R s m args below meth c D b nL z u Qp pc lv [v] f := ag_aret hret hrt hv E.1.2.2.2.2.2.1 E.1 (w0 := (f.1, z, u)) E.2 hq hdg
theorem gw_nret (E : EX p R s m args meth c cc nL own ret D cs b H0 XK hh fr lo z u) {r : Int32} {ty : FieldType} (hret : ret = some ty) (hn : narrow ty (.int r) = .int r) (hq : Qp (some (.int r)) f) (hdg : decode cc pc = .ok (.ireturn, 1)) : AGW p l e R s m args below meth c D b nL z u Qp pc lv [.int r] f := ag_zret hret hn E.1.2.2.2.2.2.1 E.1 (w0 := (f.1, z, u)) E.2 hq hdg
theorem ag_acmp_neR {tys : List (ClassId × FieldType)} (E : EE p R s m args meth c cc nL own ret D cl tys b H0 XK hh fr lo) {a a2 : Nat} {x : cE} {C : String} {off : Int} {tgt : Nat} (hP : f.1 a = some x) (hO : XK s → va_O C a2 (fun q => b ≤ q) s H0) (hdg : decode cc pc = .ok (.if_acmp .ne off, 3)) (ht : (pc : Int) + off = (tgt : Int)) (kt : AG p l e R s m args below meth c D cl b nL Q tgt lv rest f) : AG p l e R s m args below meth c D cl b nL Q pc lv (.ref a :: .ref a2 :: rest) f := fun H locs ls hG hS hl => lv_acmp_ne (rx := some a2) (ry := some a) E.1.1 E.1.2.1 hdg ht (fun _ => kt H locs ls hG hS hl) (fun q => by
  obtain ⟨cell, -, -, -, g⟩ := hO E.2.1.2.1
  have := (hG.2.2.2 a _ hP).1
  exact absurd (by rw [Option.some.inj q]; exact this) g)
theorem ag_castO {tys : List (ClassId × FieldType)} (E : EE p R s m args meth c cc nL own ret D cl tys b H0 XK hh fr lo) {nm : String} {index a ci : Nat} {V : Nat → Value} (hP : f.1 a = some (.inr (ci, V))) (hok : cOk cl XK nm ci) (hlk : Cond.classLink own index nm ∈ lw_all) (hdg : decode cc pc = .ok (.checkcast index, 3)) (kk : AG p l e R s m args below meth c D cl b nL Q (pc + 3) lv (.ref a :: rest) f) : AG p l e R s m args below meth c D cl b nL Q pc lv (.ref a :: rest) f := by
  obtain ⟨⟨C, T0, n2⟩, hr, hcast⟩ := hok
  exact ag_castY E hP hr hlk (fun h => hcast s h) hdg kk
theorem ag_instO {tys : List (ClassId × FieldType)} (E : EE p R s m args meth c cc nL own ret D cl tys b H0 XK hh fr lo) {nm : String} {index a ci : Nat} {V : Nat → Value} (hP : f.1 a = some (.inr (ci, V))) (hok : cOk cl XK nm ci) (hlk : Cond.classLink own index nm ∈ lw_all) (hdg : decode cc pc = .ok (.instanceof index, 3)) (kk : AG p l e R s m args below meth c D cl b nL Q (pc + 3) lv (.int 1 :: rest) f) : AG p l e R s m args below meth c D cl b nL Q pc lv (.ref a :: rest) f := by
  obtain ⟨⟨C, T0, n2⟩, hr, hcast⟩ := hok
  exact ag_instY E hP hr hlk (fun h => hcast s h) hdg kk
def isU (T ci : Nat) : Int32 := if (T, ci) ∈ [(4, 4), (4, 8), (5, 5), (6, 6), (6, 7), (7, 7), (8, 8)] then 1 else 0
theorem ag_isU4 {ad : Nat → Nat} {vs : Nat → Option Nat} {tys : List (ClassId × FieldType)} (E : EE p R s m args meth c cc nL own ret D clC tys b H0 (XKd b H0 ad vs) hh fr lo) {index a ci : Nat} {V : Nat → Value} (hP : f.1 a = some (.inr (ci, V))) (ho : gOk ci = true) (hlk : Cond.classLink own index "MarketDays$Part" ∈ lw_all) (hdg : decode cc pc = .ok (.instanceof index, 3)) (kk : AG p l e R s m args below meth c D clC b nL Q (pc + 3) lv (.int (isU 4 ci) :: rest) f) : AG p l e R s m args below meth c D clC b nL Q pc lv (.ref a :: rest) f := by
  have hm : ci ∈ [3, 4, 5, 6, 7, 8] := List.contains_iff_mem.mp ho
  simp only [List.mem_cons, List.not_mem_nil, or_false] at hm
  rcases hm with q | q | q | q | q | q
  all_goals subst q
  · exact ag_instNo E (C := RX8) (T0 := TX8) (n2 := 3) hP rfl hlk (xk_nc (by decide +kernel)) hdg kk
  · exact ag_instS E (C := RX9) (T0 := TX9) (n2 := 3) hP rfl hlk hdg kk
  · exact ag_instNo E (C := RX10) (T0 := TX10) (n2 := 3) hP rfl hlk (xk_nc (by decide +kernel)) hdg kk
  · exact ag_instNo E (C := RX11) (T0 := TX11) (n2 := 3) hP rfl hlk (xk_nc (by decide +kernel)) hdg kk
  · exact ag_instNo E (C := RX12) (T0 := TX12) (n2 := 3) hP rfl hlk (xk_nc (by decide +kernel)) hdg kk
  · exact ag_instY E (C := RX13) (T0 := TX13) (n2 := 3) hP rfl hlk (xk_nw q1952 rfl) hdg kk
theorem ag_isU5 {ad : Nat → Nat} {vs : Nat → Option Nat} {tys : List (ClassId × FieldType)} (E : EE p R s m args meth c cc nL own ret D clC tys b H0 (XKd b H0 ad vs) hh fr lo) {index a ci : Nat} {V : Nat → Value} (hP : f.1 a = some (.inr (ci, V))) (ho : gOk ci = true) (hlk : Cond.classLink own index "MarketDays$Twice" ∈ lw_all) (hdg : decode cc pc = .ok (.instanceof index, 3)) (kk : AG p l e R s m args below meth c D clC b nL Q (pc + 3) lv (.int (isU 5 ci) :: rest) f) : AG p l e R s m args below meth c D clC b nL Q pc lv (.ref a :: rest) f := by
  have hm : ci ∈ [3, 4, 5, 6, 7, 8] := List.contains_iff_mem.mp ho
  simp only [List.mem_cons, List.not_mem_nil, or_false] at hm
  rcases hm with q | q | q | q | q | q
  all_goals subst q
  · exact ag_instNo E (C := RX8) (T0 := TX8) (n2 := 3) hP rfl hlk (xk_nc (by decide +kernel)) hdg kk
  · exact ag_instNo E (C := RX9) (T0 := TX9) (n2 := 3) hP rfl hlk (xk_nc (by decide +kernel)) hdg kk
  · exact ag_instS E (C := RX10) (T0 := TX10) (n2 := 3) hP rfl hlk hdg kk
  · exact ag_instNo E (C := RX11) (T0 := TX11) (n2 := 3) hP rfl hlk (xk_nc (by decide +kernel)) hdg kk
  · exact ag_instNo E (C := RX12) (T0 := TX12) (n2 := 3) hP rfl hlk (xk_nc (by decide +kernel)) hdg kk
  · exact ag_instNo E (C := RX13) (T0 := TX13) (n2 := 3) hP rfl hlk (xk_nc (by decide +kernel)) hdg kk
theorem ag_isU6 {ad : Nat → Nat} {vs : Nat → Option Nat} {tys : List (ClassId × FieldType)} (E : EE p R s m args meth c cc nL own ret D clC tys b H0 (XKd b H0 ad vs) hh fr lo) {index a ci : Nat} {V : Nat → Value} (hP : f.1 a = some (.inr (ci, V))) (ho : gOk ci = true) (hlk : Cond.classLink own index "MarketDays$Turn" ∈ lw_all) (hdg : decode cc pc = .ok (.instanceof index, 3)) (kk : AG p l e R s m args below meth c D clC b nL Q (pc + 3) lv (.int (isU 6 ci) :: rest) f) : AG p l e R s m args below meth c D clC b nL Q pc lv (.ref a :: rest) f := by
  have hm : ci ∈ [3, 4, 5, 6, 7, 8] := List.contains_iff_mem.mp ho
  simp only [List.mem_cons, List.not_mem_nil, or_false] at hm
  rcases hm with q | q | q | q | q | q
  all_goals subst q
  · exact ag_instNo E (C := RX8) (T0 := TX8) (n2 := 3) hP rfl hlk (xk_nc (by decide +kernel)) hdg kk
  · exact ag_instNo E (C := RX9) (T0 := TX9) (n2 := 3) hP rfl hlk (xk_nc (by decide +kernel)) hdg kk
  · exact ag_instNo E (C := RX10) (T0 := TX10) (n2 := 3) hP rfl hlk (xk_nc (by decide +kernel)) hdg kk
  · exact ag_instS E (C := RX11) (T0 := TX11) (n2 := 3) hP rfl hlk hdg kk
  · exact ag_instY E (C := RX12) (T0 := TX12) (n2 := 3) hP rfl hlk (xk_nw q1953 rfl) hdg kk
  · exact ag_instNo E (C := RX13) (T0 := TX13) (n2 := 3) hP rfl hlk (xk_nc (by decide +kernel)) hdg kk
theorem ag_isU7 {ad : Nat → Nat} {vs : Nat → Option Nat} {tys : List (ClassId × FieldType)} (E : EE p R s m args meth c cc nL own ret D clC tys b H0 (XKd b H0 ad vs) hh fr lo) {index a ci : Nat} {V : Nat → Value} (hP : f.1 a = some (.inr (ci, V))) (ho : gOk ci = true) (hlk : Cond.classLink own index "MarketDays$Season" ∈ lw_all) (hdg : decode cc pc = .ok (.instanceof index, 3)) (kk : AG p l e R s m args below meth c D clC b nL Q (pc + 3) lv (.int (isU 7 ci) :: rest) f) : AG p l e R s m args below meth c D clC b nL Q pc lv (.ref a :: rest) f := by
  have hm : ci ∈ [3, 4, 5, 6, 7, 8] := List.contains_iff_mem.mp ho
  simp only [List.mem_cons, List.not_mem_nil, or_false] at hm
  rcases hm with q | q | q | q | q | q
  all_goals subst q
  · exact ag_instNo E (C := RX8) (T0 := TX8) (n2 := 3) hP rfl hlk (xk_nc (by decide +kernel)) hdg kk
  · exact ag_instNo E (C := RX9) (T0 := TX9) (n2 := 3) hP rfl hlk (xk_nc (by decide +kernel)) hdg kk
  · exact ag_instNo E (C := RX10) (T0 := TX10) (n2 := 3) hP rfl hlk (xk_nc (by decide +kernel)) hdg kk
  · exact ag_instNo E (C := RX11) (T0 := TX11) (n2 := 3) hP rfl hlk (xk_nc (by decide +kernel)) hdg kk
  · exact ag_instS E (C := RX12) (T0 := TX12) (n2 := 3) hP rfl hlk hdg kk
  · exact ag_instNo E (C := RX13) (T0 := TX13) (n2 := 3) hP rfl hlk (xk_nc (by decide +kernel)) hdg kk
theorem ag_isU8 {ad : Nat → Nat} {vs : Nat → Option Nat} {tys : List (ClassId × FieldType)} (E : EE p R s m args meth c cc nL own ret D clC tys b H0 (XKd b H0 ad vs) hh fr lo) {index a ci : Nat} {V : Nat → Value} (hP : f.1 a = some (.inr (ci, V))) (ho : gOk ci = true) (hlk : Cond.classLink own index "MarketDays$Told" ∈ lw_all) (hdg : decode cc pc = .ok (.instanceof index, 3)) (kk : AG p l e R s m args below meth c D clC b nL Q (pc + 3) lv (.int (isU 8 ci) :: rest) f) : AG p l e R s m args below meth c D clC b nL Q pc lv (.ref a :: rest) f := by
  have hm : ci ∈ [3, 4, 5, 6, 7, 8] := List.contains_iff_mem.mp ho
  simp only [List.mem_cons, List.not_mem_nil, or_false] at hm
  rcases hm with q | q | q | q | q | q
  all_goals subst q
  · exact ag_instNo E (C := RX8) (T0 := TX8) (n2 := 3) hP rfl hlk (xk_nc (by decide +kernel)) hdg kk
  · exact ag_instNo E (C := RX9) (T0 := TX9) (n2 := 3) hP rfl hlk (xk_nc (by decide +kernel)) hdg kk
  · exact ag_instNo E (C := RX10) (T0 := TX10) (n2 := 3) hP rfl hlk (xk_nc (by decide +kernel)) hdg kk
  · exact ag_instNo E (C := RX11) (T0 := TX11) (n2 := 3) hP rfl hlk (xk_nc (by decide +kernel)) hdg kk
  · exact ag_instNo E (C := RX12) (T0 := TX12) (n2 := 3) hP rfl hlk (xk_nc (by decide +kernel)) hdg kk
  · exact ag_instS E (C := RX13) (T0 := TX13) (n2 := 3) hP rfl hlk hdg kk
theorem ag_noInt {ad : Nat → Nat} {vs : Nat → Option Nat} {tys : List (ClassId × FieldType)} (E : EE p R s m args meth c cc nL own ret D clC tys b H0 (XKd b H0 ad vs) hh fr lo) {index a ci : Nat} {V : Nat → Value} (hP : f.1 a = some (.inr (ci, V))) (ho : gOk ci = true) (hlk : Cond.classLink own index "java/lang/Integer" ∈ lw_all) (hdg : decode cc pc = .ok (.instanceof index, 3)) (kk : AG p l e R s m args below meth c D clC b nL Q (pc + 3) lv (.int 0 :: rest) f) : AG p l e R s m args below meth c D clC b nL Q pc lv (.ref a :: rest) f := by
  have hm : ci ∈ [3, 4, 5, 6, 7, 8] := List.contains_iff_mem.mp ho
  simp only [List.mem_cons, List.not_mem_nil, or_false] at hm
  rcases hm with q | q | q | q | q | q
  all_goals subst q
  · exact ag_instNo E (C := RX8) (T0 := TX8) (n2 := 3) hP rfl hlk (xk_nc (by decide +kernel)) hdg kk
  · exact ag_instNo E (C := RX9) (T0 := TX9) (n2 := 3) hP rfl hlk (xk_nc (by decide +kernel)) hdg kk
  · exact ag_instNo E (C := RX10) (T0 := TX10) (n2 := 3) hP rfl hlk (xk_nc (by decide +kernel)) hdg kk
  · exact ag_instNo E (C := RX11) (T0 := TX11) (n2 := 3) hP rfl hlk (xk_nc (by decide +kernel)) hdg kk
  · exact ag_instNo E (C := RX12) (T0 := TX12) (n2 := 3) hP rfl hlk (xk_nc (by decide +kernel)) hdg kk
  · exact ag_instNo E (C := RX13) (T0 := TX13) (n2 := 3) hP rfl hlk (xk_nc (by decide +kernel)) hdg kk
end GWR
theorem wNew_s {w : cW} {x : cE} {n : Nat} : (wNew w x n).1 w.2.1 = some x := by simp [wNew, updP]
