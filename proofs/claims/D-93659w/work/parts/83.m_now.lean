/-! PLAIN LAYER: the reference's days that are looked at -/
set_option maxRecDepth 100000
theorem mkN_congr {g g' : St} {x3 s : Int32} (h8 : g' 8 = g 8) (h9 : g' 9 = g 9) (h6 : g' 99 6 = g 99 6) : ∀ n, mkN g' x3 s n = mkN g x3 s n
  | 0 => rfl
  | n + 1 => by
    show mkS g' x3 n (mkN g' x3 s n) = mkS g x3 n (mkN g x3 s n)
    rw [mkN_congr h8 h9 h6 n]
    unfold mkS
    rw [h8, h9, h6]
theorem marketV_52 {g : St} {F : Nat → Int32} {i t : Nat} {x3 : Int32} : marketV (updR g 52 F) i t x3 = marketV g i t x3 := by
  unfold marketV
  rw [mkN_congr (g := g) (g' := updR g 52 F) rfl rfl rfl]
  rfl
def nowV (g : St) (i : Nat) (x3 : Int32) (n : Nat) : Nat → Int32 := cp (fun t => marketV g i t x3) (g 52) n
theorem pX7_laysNow {g : St} {Q : St → Prop} {i T F : Nat} {x3 : Int32} (hT : g 99 0 = Int32.ofNat T) (hT6 : T ≤ 6) (hi : i < 12) (hw0 : ¬ g 99 6 = 0) (hF : g 99 7 = Int32.ofNat F) (hF10 : F ≤ 10) (h : Q (updR g 52 (nowV g i x3 T))) : wX7_laysNow g (Int32.ofNat i) x3 Q := by
  unfold wX7_laysNow
  have e0 : g = updR g 52 (nowV g i x3 0) := by
    unfold nowV
    rw [cp_0, updR_self]
  conv => rw [e0]
  refine icX7_laysNow_2_3 T 0 (by omega) (by omega) (fun _ => True) (fun _ => Int32.ofNat i) (fun _ => x3) (fun k => updR g 52 (nowV g i x3 k)) trivial ?_
  intro K k _ hk _ hK
  unfold wbX7_laysNow_2
  rw [show (updR g 52 (nowV g i x3 k)) 99 0 = Int32.ofNat T from hT]
  refine w_upto (by omega) hk (fun q => ?_) (fun hlt => ?_)
  · subst q
    exact h
  · refine pX7_market (F := F) hi (by omega) hw0 hF hF10 ⟨n_in (by omega) (by decide), fun f3 e3 x e => ?_⟩
    rw [n_suc] at e
    subst e
    rw [n_clamp (by omega), updR_upd2', marketV_52] at e3
    have e3' : f3 = updR g 52 (nowV g i x3 (k + 1)) := by
      rw [e3]
      show updR g 52 (upd (cp (fun t => marketV g i t x3) (g 52) k) k ((fun t => marketV g i t x3) k)) = _
      rw [cp_step]
      rfl
    rw [e3']
    exact hK hlt trivial
