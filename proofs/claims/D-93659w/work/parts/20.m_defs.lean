/-! the reference's methods as plain statements (by program, out of their bytecode) -/
set_option maxRecDepth 100000
def wX7_first (f : St) (x1 : Int32) (x2 : Int32) (x3 : Int32) (x4 : Int32) (x5 : Int32) (Q : St → Prop) : Prop :=
  (vp_in x1 1200 ∧ (∀ f_1 : St, f_1 = upd2 f 12 (Int32.toNatClampNeg x1) x2 → (vp_in (x1 + (1 : Int32)) 1200 ∧ (∀ f_2 : St, f_2 = upd2 f_1 12 (Int32.toNatClampNeg (x1 + (1 : Int32))) x3 → (vp_in (x1 + (2 : Int32)) 1200 ∧ (∀ f_3 : St, f_3 = upd2 f_2 12 (Int32.toNatClampNeg (x1 + (2 : Int32))) x4 → (vp_in (x1 + (3 : Int32)) 1200 ∧ (∀ f_4 : St, f_4 = upd2 f_3 12 (Int32.toNatClampNeg (x1 + (3 : Int32))) x5 → Q f_4))))))))
def wX7_in (f : St) (x0 : Int32) (x1 : Int32) (x2 : Int32) (Q : Int32 → St → Prop) : Prop :=
  ((x0 < x1 → Q (0 : Int32) f) ∧ (¬ x0 < x1 → ((x2 < x0 → Q (0 : Int32) f) ∧ (¬ x2 < x0 → Q (1 : Int32) f))))
def wX7_town (f : St) (x1 : Int32) (Q : Int32 → St → Prop) : Prop :=
  (wX7_in f x1 (0 : Int32) (99 : Int32) (fun r_2 f_1 => ((¬ r_2 = (0 : Int32) → ((¬ (f_1 99 0) = (6 : Int32) → (vp_in (f_1 99 0) 6 ∧ (∀ f_3 : St, f_3 = upd2 f_1 1 (Int32.toNatClampNeg (f_1 99 0)) x1 → (vp_in (f_3 99 0) 6 ∧ (∀ f_4 : St, f_4 = upd2 f_3 2 (Int32.toNatClampNeg (f_3 99 0)) (127 : Int32) → (vp_in (f_4 99 0) 6 ∧ (∀ f_5 : St, f_5 = upd2 f_4 3 (Int32.toNatClampNeg (f_4 99 0)) (-1 : Int32) → (vp_in (f_5 99 0) 6 ∧ (∀ f_6 : St, f_6 = upd2 f_5 4 (Int32.toNatClampNeg (f_5 99 0)) (-1 : Int32) → (∀ f_7 : St, f_7 = upd2 f_6 99 0 ((f_6 99 0) + (1 : Int32)) → Q ((f_7 99 0) - (1 : Int32)) f_7)))))))))) ∧ ((f_1 99 0) = (6 : Int32) → Q (-4 : Int32) f_1))) ∧ (r_2 = (0 : Int32) → Q (-2 : Int32) f_1))))
def wX7_isTown (f : St) (x1 : Int32) (Q : Int32 → St → Prop) : Prop :=
  (wX7_in f x1 (0 : Int32) ((f 99 0) - (1 : Int32)) (fun r_2 f_1 => (vz r_2 ∧ Q r_2 f_1)))
def wX7_road (f : St) (x1 : Int32) (x2 : Int32) (x3 : Int32) (Q : Int32 → St → Prop) : Prop :=
  (wX7_isTown f x1 (fun r_2 f_1 => ((r_2 = (0 : Int32) → Q (-1 : Int32) f_1) ∧ (¬ r_2 = (0 : Int32) → (wX7_isTown f_1 x2 (fun r_4 f_3 => ((¬ r_4 = (0 : Int32) → ((x1 = x2 → Q (-2 : Int32) f_3) ∧ (¬ x1 = x2 → (wX7_in f_3 x3 (0 : Int32) (50 : Int32) (fun r_6 f_5 => ((¬ r_6 = (0 : Int32) → (vp_in (((6 : Int32) * x1) + x2) 36 ∧ (∀ x4_7 : Int32, x4_7 = (f_5 5 (Int32.toNatClampNeg (((6 : Int32) * x1) + x2))) → (vp_in (((6 : Int32) * x1) + x2) 36 ∧ (∀ f_8 : St, f_8 = upd2 f_5 5 (Int32.toNatClampNeg (((6 : Int32) * x1) + x2)) x3 → (vp_in (((6 : Int32) * x2) + x1) 36 ∧ (∀ f_9 : St, f_9 = upd2 f_8 5 (Int32.toNatClampNeg (((6 : Int32) * x2) + x1)) x3 → Q x4_7 f_9))))))) ∧ (r_6 = (0 : Int32) → Q (-2 : Int32) f_5))))))) ∧ (r_4 = (0 : Int32) → Q (-1 : Int32) f_3))))))))
def wbX7_spreads_44 (K2 : Int32 → St → Prop) (K51 : St → Prop) (Q : St → Prop) (x1 : Int32) (t0 : Int32) (t1 : Int32) (f : St) : Prop :=
  (vp_in t1 36 ∧ (∀ f_1 : St, f_1 = upd2 f 39 (Int32.toNatClampNeg t1) t0 → (∀ x1_2 : Int32, x1_2 = x1 + (1 : Int32) → K2 x1_2 f_1)))
def wbX7_spreads_2 (K2 : Int32 → St → Prop) (K51 : St → Prop) (Q : St → Prop) (x1 : Int32) (f : St) : Prop :=
  (((36 : Int32) ≤ x1 → K51  f) ∧ (¬ (36 : Int32) ≤ x1 → ((¬ (i_rem x1 (7 : Int32)) = (0 : Int32) → (vp_in x1 36 ∧ (((f 5 (Int32.toNatClampNeg x1)) ≤ (0 : Int32) → wbX7_spreads_44 K2 K51 Q x1 (99 : Int32) x1 f) ∧ (¬ (f 5 (Int32.toNatClampNeg x1)) ≤ (0 : Int32) → (vp_in x1 36 ∧ wbX7_spreads_44 K2 K51 Q x1 (f 5 (Int32.toNatClampNeg x1)) x1 f))))) ∧ ((i_rem x1 (7 : Int32)) = (0 : Int32) → wbX7_spreads_44 K2 K51 Q x1 (0 : Int32) x1 f))))
def wlX7_spreads_2 (K51 : St → Prop) (Q : St → Prop) : Nat → Int32 → St → Prop
  | 0 => fun _ _ => False
  | n + 1 => wbX7_spreads_2 (wlX7_spreads_2 K51 Q n) K51 Q
def wbX7_spreads_148 (K73 : Int32 → Int32 → Int32 → St → Prop) (K155 : Int32 → Int32 → St → Prop) (Q : St → Prop) (x1 : Int32) (x2 : Int32) (x3 : Int32) (t0 : Int32) (t1 : Int32) (f : St) : Prop :=
  (vp_in t1 36 ∧ (∀ f_4 : St, f_4 = upd2 f 39 (Int32.toNatClampNeg t1) t0 → (∀ x3_5 : Int32, x3_5 = x3 + (1 : Int32) → K73 x1 x2 x3_5 f_4)))
def wbX7_spreads_73 (K73 : Int32 → Int32 → Int32 → St → Prop) (K155 : Int32 → Int32 → St → Prop) (Q : St → Prop) (x1 : Int32) (x2 : Int32) (x3 : Int32) (f : St) : Prop :=
  (((f 99 0) ≤ x3 → K155 x1 x2 f) ∧ (¬ (f 99 0) ≤ x3 → (vp_in (((6 : Int32) * x2) + x1) 36 ∧ (vp_in (((6 : Int32) * x1) + x3) 36 ∧ (∀ x4_3 : Int32, x4_3 = ((f 39 (Int32.toNatClampNeg (((6 : Int32) * x2) + x1))) + (f 39 (Int32.toNatClampNeg (((6 : Int32) * x1) + x3)))) → (vp_in (((6 : Int32) * x2) + x3) 36 ∧ (((f 39 (Int32.toNatClampNeg (((6 : Int32) * x2) + x3))) ≤ x4_3 → (vp_in (((6 : Int32) * x2) + x3) 36 ∧ wbX7_spreads_148 K73 K155 Q x1 x2 x3 (f 39 (Int32.toNatClampNeg (((6 : Int32) * x2) + x3))) (((6 : Int32) * x2) + x3) f)) ∧ (¬ (f 39 (Int32.toNatClampNeg (((6 : Int32) * x2) + x3))) ≤ x4_3 → wbX7_spreads_148 K73 K155 Q x1 x2 x3 x4_3 (((6 : Int32) * x2) + x3) f))))))))
def wlX7_spreads_73 (K155 : Int32 → Int32 → St → Prop) (Q : St → Prop) : Nat → Int32 → Int32 → Int32 → St → Prop
  | 0 => fun _ _ _ _ => False
  | n + 1 => wbX7_spreads_73 (wlX7_spreads_73 K155 Q n) K155 Q
def wbX7_spreads_63 (K63 : Int32 → Int32 → St → Prop) (K161 : Int32 → St → Prop) (Q : St → Prop) (x1 : Int32) (x2 : Int32) (f : St) : Prop :=
  (((f 99 0) ≤ x2 → K161 x1 f) ∧ (¬ (f 99 0) ≤ x2 → (∃ n : Nat, wlX7_spreads_73 (fun (x1 : Int32) (x2 : Int32) (f : St) => (∀ x2_6 : Int32, x2_6 = x2 + (1 : Int32) → K63 x1 x2_6 f)) Q n x1 x2 (0 : Int32) f)))
def wlX7_spreads_63 (K161 : Int32 → St → Prop) (Q : St → Prop) : Nat → Int32 → Int32 → St → Prop
  | 0 => fun _ _ _ => False
  | n + 1 => wbX7_spreads_63 (wlX7_spreads_63 K161 Q n) K161 Q
def wbX7_spreads_53 (K53 : Int32 → St → Prop) (Q : St → Prop) (x1 : Int32) (f : St) : Prop :=
  (((f 99 0) ≤ x1 → Q f) ∧ (¬ (f 99 0) ≤ x1 → (∃ n : Nat, wlX7_spreads_63 (fun (x1 : Int32) (f : St) => (∀ x1_7 : Int32, x1_7 = x1 + (1 : Int32) → K53 x1_7 f)) Q n x1 (0 : Int32) f)))
def wlX7_spreads_53  (Q : St → Prop) : Nat → Int32 → St → Prop
  | 0 => fun _ _ => False
  | n + 1 => wbX7_spreads_53 (wlX7_spreads_53  Q n) Q
def wX7_spreads (f : St)  (Q : St → Prop) : Prop :=
  (∃ n : Nat, wlX7_spreads_2 (fun  (f : St) => (∃ n : Nat, wlX7_spreads_53  Q n (0 : Int32) f)) Q n (0 : Int32) f)
def wX7_hours (f : St) (x1 : Int32) (x2 : Int32) (Q : Int32 → St → Prop) : Prop :=
  (wX7_isTown f x1 (fun r_2 f_1 => ((r_2 = (0 : Int32) → Q (-1 : Int32) f_1) ∧ (¬ r_2 = (0 : Int32) → (wX7_isTown f_1 x2 (fun r_4 f_3 => ((¬ r_4 = (0 : Int32) → (wX7_spreads f_3  (fun f_5 => (vp_in (((6 : Int32) * x1) + x2) 36 ∧ Q (f_5 39 (Int32.toNatClampNeg (((6 : Int32) * x1) + x2))) f_5)))) ∧ (r_4 = (0 : Int32) → Q (-1 : Int32) f_3))))))))
def wX7_week (f : St) (x1 : Int32) (Q : Int32 → St → Prop) : Prop :=
  (wX7_in f x1 (2 : Int32) (7 : Int32) (fun r_2 f_1 => ((¬ r_2 = (0 : Int32) → (∀ x2_3 : Int32, x2_3 = (f_1 99 6) → (∀ f_4 : St, f_4 = upd2 f_1 99 6 x1 → Q x2_3 f_4))) ∧ (r_2 = (0 : Int32) → Q (-2 : Int32) f_1))))
def wbX7_want_112  (Q : Int32 → St → Prop) (x1 : Int32) (x2 : Int32) (x3 : Int32) (t0 : Int32) (f : St) : Prop :=
  ((¬ x2 = (0 : Int32) → ((¬ x2 = (1 : Int32) → (vp_in x1 6 ∧ (∀ f_3 : St, f_3 = upd2 f 4 (Int32.toNatClampNeg x1) x3 → Q t0 f_3))) ∧ (x2 = (1 : Int32) → (vp_in x1 6 ∧ (∀ f_4 : St, f_4 = upd2 f 3 (Int32.toNatClampNeg x1) x3 → Q t0 f_4))))) ∧ (x2 = (0 : Int32) → (vp_in x1 6 ∧ (∀ f_5 : St, f_5 = upd2 f 2 (Int32.toNatClampNeg x1) x3 → Q t0 f_5))))
def wbX7_want_69  (Q : Int32 → St → Prop) (x1 : Int32) (x2 : Int32) (x3 : Int32) (t0 : Int32) (f : St) : Prop :=
  ((¬ t0 = (0 : Int32) → ((¬ x2 = (0 : Int32) → ((¬ x2 = (1 : Int32) → (vp_in x1 6 ∧ wbX7_want_112  Q x1 x2 x3 (f 4 (Int32.toNatClampNeg x1)) f)) ∧ (x2 = (1 : Int32) → (vp_in x1 6 ∧ wbX7_want_112  Q x1 x2 x3 (f 3 (Int32.toNatClampNeg x1)) f)))) ∧ (x2 = (0 : Int32) → (vp_in x1 6 ∧ wbX7_want_112  Q x1 x2 x3 (f 2 (Int32.toNatClampNeg x1)) f)))) ∧ (t0 = (0 : Int32) → Q (-7 : Int32) f))
def wbX7_want_68  (Q : Int32 → St → Prop) (x1 : Int32) (x2 : Int32) (x3 : Int32) (f : St) : Prop :=
  wbX7_want_69  Q x1 x2 x3 (0 : Int32) f
def wX7_want (f : St) (x1 : Int32) (x2 : Int32) (x3 : Int32) (Q : Int32 → St → Prop) : Prop :=
  (wX7_isTown f x1 (fun r_2 f_1 => ((¬ r_2 = (0 : Int32) → ((¬ x2 = (0 : Int32) → ((¬ x2 = (1 : Int32) → ((¬ x2 = (2 : Int32) → wbX7_want_68  Q x1 x2 x3 f_1) ∧ (x2 = (2 : Int32) → ((x3 = x1 → wbX7_want_68  Q x1 x2 x3 f_1) ∧ (¬ x3 = x1 → (wX7_in f_1 x3 (-1 : Int32) ((f_1 99 0) - (1 : Int32)) (fun r_7 f_6 => ((r_7 = (0 : Int32) → wbX7_want_68  Q x1 x2 x3 f_6) ∧ (¬ r_7 = (0 : Int32) → wbX7_want_69  Q x1 x2 x3 (1 : Int32) f_6))))))))) ∧ (x2 = (1 : Int32) → (wX7_in f_1 x3 (-1 : Int32) (6 : Int32) (fun r_9 f_8 => wbX7_want_69  Q x1 x2 x3 r_9 f_8))))) ∧ (x2 = (0 : Int32) → (wX7_in f_1 x3 (0 : Int32) (127 : Int32) (fun r_11 f_10 => wbX7_want_69  Q x1 x2 x3 r_11 f_10))))) ∧ (r_2 = (0 : Int32) → Q (-5 : Int32) f_1))))
def wX7_townTold (f : St) (x1 : Int32) (x2 : Int32) (Q : Int32 → St → Prop) : Prop :=
  (wX7_isTown f x1 (fun r_2 f_1 => ((¬ r_2 = (0 : Int32) → ((¬ x2 = (0 : Int32) → ((¬ x2 = (1 : Int32) → ((¬ x2 = (2 : Int32) → ((¬ x2 = (3 : Int32) → Q (-7 : Int32) f_1) ∧ (x2 = (3 : Int32) → (vp_in x1 6 ∧ Q (f_1 4 (Int32.toNatClampNeg x1)) f_1)))) ∧ (x2 = (2 : Int32) → (vp_in x1 6 ∧ Q (f_1 3 (Int32.toNatClampNeg x1)) f_1)))) ∧ (x2 = (1 : Int32) → (vp_in x1 6 ∧ Q (f_1 2 (Int32.toNatClampNeg x1)) f_1)))) ∧ (x2 = (0 : Int32) → (vp_in x1 6 ∧ Q (f_1 1 (Int32.toNatClampNeg x1)) f_1)))) ∧ (r_2 = (0 : Int32) → Q (-5 : Int32) f_1))))
def wX7_isWeek (f : St) (x0 : Int32) (Q : Int32 → St → Prop) : Prop :=
  (wX7_in f x0 (0 : Int32) (99 : Int32) (fun r_2 f_1 => (vz r_2 ∧ Q r_2 f_1)))
def wX7_feast (f : St) (x1 : Int32) (x2 : Int32) (Q : Int32 → St → Prop) : Prop :=
  (wX7_isWeek f x1 (fun r_2 f_1 => ((r_2 = (0 : Int32) → Q (-2 : Int32) f_1) ∧ (¬ r_2 = (0 : Int32) → (wX7_in f_1 x2 (0 : Int32) (6 : Int32) (fun r_4 f_3 => ((¬ r_4 = (0 : Int32) → ((¬ (f_3 99 7) = (10 : Int32) → (vp_in (f_3 99 7) 10 ∧ (∀ f_5 : St, f_5 = upd2 f_3 8 (Int32.toNatClampNeg (f_3 99 7)) x1 → (vp_in (f_5 99 7) 10 ∧ (∀ f_6 : St, f_6 = upd2 f_5 9 (Int32.toNatClampNeg (f_5 99 7)) x2 → (∀ f_7 : St, f_7 = upd2 f_6 99 7 ((f_6 99 7) + (1 : Int32)) → Q (f_7 99 7) f_7)))))) ∧ ((f_3 99 7) = (10 : Int32) → Q (-4 : Int32) f_3))) ∧ (r_4 = (0 : Int32) → Q (-2 : Int32) f_3))))))))
def wbX7_feed_33 (K33 : Int64 → Int32 → St → Prop) (Q : Int32 → St → Prop) (x1 : Int64) (x4 : Int32) (f : St) : Prop :=
  ((x4 < (0 : Int32) → Q (f 99 11) f) ∧ (¬ x4 < (0 : Int32) → (vp_in (f 99 11) 160 ∧ (∀ f_4 : St, f_4 = upd2 f 10 (Int32.toNatClampNeg (f 99 11)) (Int64.toInt32 ((l_shr x1 ((8 : Int32) * x4)) &&& (255 : Int64))) → (∀ f_5 : St, f_5 = upd2 f_4 99 11 ((f_4 99 11) + (1 : Int32)) → (∀ x4_6 : Int32, x4_6 = x4 + (-1 : Int32) → K33 x1 x4_6 f_5))))))
def wlX7_feed_33  (Q : Int32 → St → Prop) : Nat → Int64 → Int32 → St → Prop
  | 0 => fun _ _ _ => False
  | n + 1 => wbX7_feed_33 (wlX7_feed_33  Q n) Q
def wX7_feed (f : St) (x1 : Int64) (x3 : Int32) (Q : Int32 → St → Prop) : Prop :=
  (wX7_in f x3 (1 : Int32) (8 : Int32) (fun r_2 f_1 => ((¬ r_2 = (0 : Int32) → ((((f_1 99 11) + x3) ≤ (160 : Int32) → (∀ x4_3 : Int32, x4_3 = (x3 - (1 : Int32)) → (∃ n : Nat, wlX7_feed_33  Q n x1 x4_3 f_1))) ∧ (¬ ((f_1 99 11) + x3) ≤ (160 : Int32) → Q (-4 : Int32) f_1))) ∧ (r_2 = (0 : Int32) → Q (-2 : Int32) f_1))))
def wbX7_letters_59 (K4 : Int64 → Int32 → St → Prop) (K76 : Int64 → Int32 → St → Prop) (Q : Int64 → St → Prop) (x3 : Int32) (t0 : Int64) (f : St) : Prop :=
  (∀ x3_3 : Int32, x3_3 = x3 + (1 : Int32) → (∀ f_4 : St, f_4 = upd2 f 99 40 ((f 99 40) + (1 : Int32)) → K4 t0 x3_3 f_4))
def wbX7_letters_4 (K4 : Int64 → Int32 → St → Prop) (K76 : Int64 → Int32 → St → Prop) (Q : Int64 → St → Prop) (x1 : Int64) (x3 : Int32) (f : St) : Prop :=
  (((f 99 11) ≤ (f 99 40) → K76 x1 x3 f) ∧ (¬ (f 99 11) ≤ (f 99 40) → (vp_in (f 99 40) 160 ∧ (wX7_in f (f 10 (Int32.toNatClampNeg (f 99 40))) (97 : Int32) (122 : Int32) (fun r_2 f_1 => ((r_2 = (0 : Int32) → K76 x1 x3 f_1) ∧ (¬ r_2 = (0 : Int32) → (((8 : Int32) ≤ x3 → wbX7_letters_59 K4 K76 Q x3 x1 f_1) ∧ (¬ (8 : Int32) ≤ x3 → (vp_in (f_1 99 40) 160 ∧ wbX7_letters_59 K4 K76 Q x3 ((l_shl x1 (8 : Int32)) ||| (Int32.toInt64 (f_1 10 (Int32.toNatClampNeg (f_1 99 40))))) f_1))))))))))
def wlX7_letters_4 (K76 : Int64 → Int32 → St → Prop) (Q : Int64 → St → Prop) : Nat → Int64 → Int32 → St → Prop
  | 0 => fun _ _ _ => False
  | n + 1 => wbX7_letters_4 (wlX7_letters_4 K76 Q n) K76 Q
def wbX7_letters_76  (Q : Int64 → St → Prop) (x1 : Int64) (x3 : Int32) (f : St) : Prop :=
  ((x3 ≤ (5 : Int32) → Q x1 f) ∧ (¬ x3 ≤ (5 : Int32) → Q (0 : Int64) f))
def wX7_letters (f : St)  (Q : Int64 → St → Prop) : Prop :=
  (∃ n : Nat, wlX7_letters_4 (fun (x1 : Int64) (x3 : Int32) (f : St) => wbX7_letters_76  Q x1 x3 f) Q n (0 : Int64) (0 : Int32) f)
def wbX7_next_39 (K0 : St → Prop) (K52 : St → Prop) (Q : St → Prop)  (f : St) : Prop :=
  (∀ f_1 : St, f_1 = upd2 f 99 40 ((f 99 40) + (1 : Int32)) → K0  f_1)
def wbX7_next_0 (K0 : St → Prop) (K52 : St → Prop) (Q : St → Prop)  (f : St) : Prop :=
  (((f 99 11) ≤ (f 99 40) → K52  f) ∧ (¬ (f 99 11) ≤ (f 99 40) → (vp_in (f 99 40) 160 ∧ (((f 10 (Int32.toNatClampNeg (f 99 40))) = (32 : Int32) → wbX7_next_39 K0 K52 Q  f) ∧ (¬ (f 10 (Int32.toNatClampNeg (f 99 40))) = (32 : Int32) → (vp_in (f 99 40) 160 ∧ ((¬ (f 10 (Int32.toNatClampNeg (f 99 40))) = (10 : Int32) → K52  f) ∧ ((f 10 (Int32.toNatClampNeg (f 99 40))) = (10 : Int32) → wbX7_next_39 K0 K52 Q  f))))))))
def wlX7_next_0 (K52 : St → Prop) (Q : St → Prop) : Nat → St → Prop
  | 0 => fun  _ => False
  | n + 1 => wbX7_next_0 (wlX7_next_0 K52 Q n) K52 Q
def wbX7_next_374  (Q : St → Prop) (t0 : Int32) (f : St) : Prop :=
  (∀ f_10 : St, f_10 = upd2 f 99 42 t0 → (∀ f_11 : St, f_11 = upd2 f_10 99 40 ((f_10 99 40) + (1 : Int32)) → Q f_11))
def wbX7_next_363  (Q : St → Prop) (x1 : Int32) (t0 : Int32) (f : St) : Prop :=
  ((t0 = (0 : Int32) → wbX7_next_374  Q (-1 : Int32) f) ∧ (¬ t0 = (0 : Int32) → wbX7_next_374  Q x1 f))
def wbX7_next_358  (Q : St → Prop) (x1 : Int32) (f : St) : Prop :=
  wbX7_next_363  Q x1 (1 : Int32) f
def wbX7_next_274 (K214 : Int32 → St → Prop) (K293 : Int32 → St → Prop) (Q : St → Prop) (x2 : Int32) (t0 : Int32) (f : St) : Prop :=
  (∀ f_14 : St, f_14 = upd2 f 99 43 t0 → (∀ x2_15 : Int32, x2_15 = x2 + (1 : Int32) → (∀ f_16 : St, f_16 = upd2 f_14 99 40 ((f_14 99 40) + (1 : Int32)) → K214 x2_15 f_16)))
def wbX7_next_214 (K214 : Int32 → St → Prop) (K293 : Int32 → St → Prop) (Q : St → Prop) (x2 : Int32) (f : St) : Prop :=
  (((f 99 11) ≤ (f 99 40) → K293 x2 f) ∧ (¬ (f 99 11) ≤ (f 99 40) → (vp_in (f 99 40) 160 ∧ (wX7_in f (f 10 (Int32.toNatClampNeg (f 99 40))) (48 : Int32) (57 : Int32) (fun r_13 f_12 => ((r_13 = (0 : Int32) → K293 x2 f_12) ∧ (¬ r_13 = (0 : Int32) → (((4 : Int32) ≤ x2 → wbX7_next_274 K214 K293 Q x2 (0 : Int32) f_12) ∧ (¬ (4 : Int32) ≤ x2 → (vp_in (f_12 99 40) 160 ∧ wbX7_next_274 K214 K293 Q x2 ((((10 : Int32) * (f_12 99 43)) + (f_12 10 (Int32.toNatClampNeg (f_12 99 40)))) - (48 : Int32)) f_12))))))))))
def wlX7_next_214 (K293 : Int32 → St → Prop) (Q : St → Prop) : Nat → Int32 → St → Prop
  | 0 => fun _ _ => False
  | n + 1 => wbX7_next_214 (wlX7_next_214 K293 Q n) K293 Q
def wbX7_next_304  (Q : St → Prop) (t0 : Int32) (f : St) : Prop :=
  (∀ f_17 : St, f_17 = upd2 f 99 42 t0 → Q f_17)
def wbX7_next_293  (Q : St → Prop) (x2 : Int32) (f : St) : Prop :=
  ((x2 ≤ (4 : Int32) → wbX7_next_304  Q (1 : Int32) f) ∧ (¬ x2 ≤ (4 : Int32) → wbX7_next_304  Q (-1 : Int32) f))
def wbX7_next_111 (K111 : Int64 → Int32 → St → Prop) (K136 : Int32 → St → Prop) (Q : St → Prop) (x2 : Int64) (x4 : Int32) (f : St) : Prop :=
  (((11 : Int32) ≤ x4 → K136 x4 f) ∧ (¬ (11 : Int32) ≤ x4 → (vp_in x4 11 ∧ (((lg_cmp (mWords (Int32.toNatClampNeg x4)) x2) = (0 : Int32) → K136 x4 f) ∧ (¬ (lg_cmp (mWords (Int32.toNatClampNeg x4)) x2) = (0 : Int32) → (∀ x4_20 : Int32, x4_20 = x4 + (1 : Int32) → K111 x2 x4_20 f))))))
def wlX7_next_111 (K136 : Int32 → St → Prop) (Q : St → Prop) : Nat → Int64 → Int32 → St → Prop
  | 0 => fun _ _ _ => False
  | n + 1 => wbX7_next_111 (wlX7_next_111 K136 Q n) K136 Q
def wbX7_next_195  (Q : St → Prop) (t0 : Int32) (f : St) : Prop :=
  (∀ f_22 : St, f_22 = upd2 f 99 43 t0 → Q f_22)
def wbX7_next_176  (Q : St → Prop) (x4 : Int32) (t0 : Int32) (f : St) : Prop :=
  (∀ f_21 : St, f_21 = upd2 f 99 42 t0 → (((2 : Int32) ≤ x4 → wbX7_next_195  Q (x4 - (2 : Int32)) f_21) ∧ (¬ (2 : Int32) ≤ x4 → wbX7_next_195  Q x4 f_21)))
def wbX7_next_136  (Q : St → Prop) (x4 : Int32) (f : St) : Prop :=
  (((2 : Int32) ≤ x4 → (((8 : Int32) ≤ x4 → ((¬ x4 = (11 : Int32) → wbX7_next_176  Q x4 (((4 : Int32) + x4) - (8 : Int32)) f) ∧ (x4 = (11 : Int32) → wbX7_next_176  Q x4 (-1 : Int32) f))) ∧ (¬ (8 : Int32) ≤ x4 → wbX7_next_176  Q x4 (2 : Int32) f))) ∧ (¬ (2 : Int32) ≤ x4 → wbX7_next_176  Q x4 (3 : Int32) f))
def wbX7_next_52  (Q : St → Prop)  (f : St) : Prop :=
  (∀ f_2 : St, f_2 = upd2 f 99 41 (f 99 40) → (∀ f_3 : St, f_3 = upd2 f_2 99 42 (0 : Int32) → (∀ f_4 : St, f_4 = upd2 f_3 99 43 (0 : Int32) → ((¬ (f_4 99 40) = (f_4 99 11) → (vp_in (f_4 99 40) 160 ∧ (∀ x1_5 : Int32, x1_5 = (f_4 10 (Int32.toNatClampNeg (f_4 99 40))) → (wX7_in f_4 x1_5 (97 : Int32) (122 : Int32) (fun r_7 f_6 => ((r_7 = (0 : Int32) → (wX7_in f_6 x1_5 (48 : Int32) (57 : Int32) (fun r_9 f_8 => ((r_9 = (0 : Int32) → ((x1_5 = (40 : Int32) → wbX7_next_358  Q x1_5 f_8) ∧ (¬ x1_5 = (40 : Int32) → ((x1_5 = (41 : Int32) → wbX7_next_358  Q x1_5 f_8) ∧ (¬ x1_5 = (41 : Int32) → ((x1_5 = (59 : Int32) → wbX7_next_358  Q x1_5 f_8) ∧ (¬ x1_5 = (59 : Int32) → ((x1_5 = (43 : Int32) → wbX7_next_358  Q x1_5 f_8) ∧ (¬ x1_5 = (43 : Int32) → ((x1_5 = (45 : Int32) → wbX7_next_358  Q x1_5 f_8) ∧ (¬ x1_5 = (45 : Int32) → ((x1_5 = (42 : Int32) → wbX7_next_358  Q x1_5 f_8) ∧ (¬ x1_5 = (42 : Int32) → ((x1_5 = (60 : Int32) → wbX7_next_358  Q x1_5 f_8) ∧ (¬ x1_5 = (60 : Int32) → ((¬ x1_5 = (61 : Int32) → wbX7_next_363  Q x1_5 (0 : Int32) f_8) ∧ (x1_5 = (61 : Int32) → wbX7_next_358  Q x1_5 f_8))))))))))))))))) ∧ (¬ r_9 = (0 : Int32) → (∃ n : Nat, wlX7_next_214 (fun (x2 : Int32) (f : St) => wbX7_next_293  Q x2 f) Q n (0 : Int32) f_8)))))) ∧ (¬ r_7 = (0 : Int32) → (wX7_letters f_6  (fun r_19 f_18 => (∃ n : Nat, wlX7_next_111 (fun (x4 : Int32) (f : St) => wbX7_next_136  Q x4 f) Q n r_19 (0 : Int32) f_18)))))))))) ∧ ((f_4 99 40) = (f_4 99 11) → Q f_4)))))
def wX7_next (f : St)  (Q : St → Prop) : Prop :=
  (∃ n : Nat, wlX7_next_0 (fun  (f : St) => wbX7_next_52  Q  f) Q n  f)
def wX7_puts (f : St) (x1 : Int32) (Q : St → Prop) : Prop :=
  (vp_in (((200 : Int32) * (f 99 14)) + (f 99 48)) 1200 ∧ (∀ f_1 : St, f_1 = upd2 f 12 (Int32.toNatClampNeg (((200 : Int32) * (f 99 14)) + (f 99 48))) x1 → (∀ f_2 : St, f_2 = upd2 f_1 99 48 ((f_1 99 48) + (1 : Int32)) → Q f_2)))
def wX7_rank (f : St) (x0 : Int32) (Q : Int32 → St → Prop) : Prop :=
  ((¬ x0 = (0 : Int32) → ((¬ x0 = (11 : Int32) → ((¬ x0 = (12 : Int32) → ((¬ x0 = (13 : Int32) → (((15 : Int32) < x0 → (((17 : Int32) < x0 → ((¬ x0 = (18 : Int32) → Q (7 : Int32) f) ∧ (x0 = (18 : Int32) → Q (6 : Int32) f))) ∧ (¬ (17 : Int32) < x0 → Q (5 : Int32) f))) ∧ (¬ (15 : Int32) < x0 → Q (4 : Int32) f))) ∧ (x0 = (13 : Int32) → Q (3 : Int32) f))) ∧ (x0 = (12 : Int32) → Q (2 : Int32) f))) ∧ (x0 = (11 : Int32) → Q (1 : Int32) f))) ∧ (x0 = (0 : Int32) → Q (0 : Int32) f))
def wbX7_unwinds_67 (K0 : Int32 → St → Prop) (Q : St → Prop) (x1 : Int32) (x2 : Int32) (t0 : Int32) (t1 : Int32) (f : St) : Prop :=
  (∀ f_5 : St, f_5 = upd2 f 99 47 (t1 - t0) → (wX7_puts f_5 x2 (fun f_6 => K0 x1 f_6)))
def wbX7_unwinds_62 (K0 : Int32 → St → Prop) (Q : St → Prop) (x1 : Int32) (x2 : Int32) (t0 : Int32) (f : St) : Prop :=
  wbX7_unwinds_67 K0 Q x1 x2 (1 : Int32) t0 f
def wbX7_unwinds_0 (K0 : Int32 → St → Prop) (Q : St → Prop) (x1 : Int32) (f : St) : Prop :=
  (((f 99 46) ≤ (0 : Int32) → Q f) ∧ (¬ (f 99 46) ≤ (0 : Int32) → (vp_in ((f 99 46) - (1 : Int32)) 200 ∧ (wX7_rank f (f 45 (Int32.toNatClampNeg ((f 99 46) - (1 : Int32)))) (fun r_2 f_1 => ((r_2 < x1 → Q f_1) ∧ (¬ r_2 < x1 → (∀ f_3 : St, f_3 = upd2 f_1 99 46 ((f_1 99 46) - (1 : Int32)) → (vp_in (f_3 99 46) 200 ∧ (∀ x2_4 : Int32, x2_4 = (f_3 45 (Int32.toNatClampNeg (f_3 99 46))) → ((x2_4 = (13 : Int32) → wbX7_unwinds_62 K0 Q x1 x2_4 (f_3 99 47) f_3) ∧ (¬ x2_4 = (13 : Int32) → ((¬ x2_4 = (19 : Int32) → wbX7_unwinds_67 K0 Q x1 x2_4 (0 : Int32) (f_3 99 47) f_3) ∧ (x2_4 = (19 : Int32) → wbX7_unwinds_62 K0 Q x1 x2_4 (f_3 99 47) f_3))))))))))))))
def wlX7_unwinds_0  (Q : St → Prop) : Nat → Int32 → St → Prop
  | 0 => fun _ _ => False
  | n + 1 => wbX7_unwinds_0 (wlX7_unwinds_0  Q n) Q
def wX7_unwinds (f : St) (x1 : Int32) (Q : St → Prop) : Prop :=
  (∃ n : Nat, wlX7_unwinds_0  Q n x1 f)
def wX7_holds (f : St) (x1 : Int32) (Q : St → Prop) : Prop :=
  (vp_in (f 99 46) 200 ∧ (∀ f_1 : St, f_1 = upd2 f 45 (Int32.toNatClampNeg (f 99 46)) x1 → (∀ f_2 : St, f_2 = upd2 f_1 99 46 ((f_1 99 46) + (1 : Int32)) → Q f_2)))
def wX7_opensOne (f : St) (x1 : Int32) (Q : Int32 → St → Prop) : Prop :=
  ((¬ (f 99 47) = (5 : Int32) → (∀ f_1 : St, f_1 = upd2 f 99 47 ((f 99 47) + (1 : Int32)) → (wX7_holds f_1 x1 (fun f_2 => Q (1 : Int32) f_2)))) ∧ ((f 99 47) = (5 : Int32) → Q (0 : Int32) f))
def wX7_signOf (f : St)  (Q : Int32 → St → Prop) : Prop :=
  ((¬ (f 99 42) = (4 : Int32) → ((¬ (f 99 42) = (5 : Int32) → ((¬ (f 99 42) = (60 : Int32) → ((¬ (f 99 42) = (61 : Int32) → ((¬ (f 99 42) = (43 : Int32) → ((¬ (f 99 42) = (45 : Int32) → ((¬ (f 99 42) = (42 : Int32) → Q (-1 : Int32) f) ∧ ((f 99 42) = (42 : Int32) → Q (18 : Int32) f))) ∧ ((f 99 42) = (45 : Int32) → Q (17 : Int32) f))) ∧ ((f 99 42) = (43 : Int32) → Q (16 : Int32) f))) ∧ ((f 99 42) = (61 : Int32) → Q (15 : Int32) f))) ∧ ((f 99 42) = (60 : Int32) → Q (14 : Int32) f))) ∧ ((f 99 42) = (5 : Int32) → Q (12 : Int32) f))) ∧ ((f 99 42) = (4 : Int32) → Q (11 : Int32) f))
def wbX7_between_55  (Q : Int32 → St → Prop) (x1 : Int32) (f : St) : Prop :=
  (wX7_holds f x1 (fun f_8 => Q (1 : Int32) f_8))
def wbX7_between_17  (Q : Int32 → St → Prop) (x1 : Int32) (t0 : Int32) (f : St) : Prop :=
  (wX7_unwinds f t0 (fun f_5 => (wX7_rank f_5 x1 (fun r_7 f_6 => ((¬ r_7 = (4 : Int32) → wbX7_between_55  Q x1 f_6) ∧ (r_7 = (4 : Int32) → (((f_6 99 46) ≤ (0 : Int32) → wbX7_between_55  Q x1 f_6) ∧ (¬ (f_6 99 46) ≤ (0 : Int32) → (vp_in ((f_6 99 46) - (1 : Int32)) 200 ∧ (wX7_rank f_6 (f_6 45 (Int32.toNatClampNeg ((f_6 99 46) - (1 : Int32)))) (fun r_10 f_9 => ((¬ r_10 = (4 : Int32) → wbX7_between_55  Q x1 f_9) ∧ (r_10 = (4 : Int32) → Q (0 : Int32) f_9)))))))))))))
def wX7_between (f : St) (x1 : Int32) (Q : Int32 → St → Prop) : Prop :=
  (wX7_rank f x1 (fun r_2 f_1 => ((¬ r_2 = (4 : Int32) → (wX7_rank f_1 x1 (fun r_4 f_3 => wbX7_between_17  Q x1 r_4 f_3))) ∧ (r_2 = (4 : Int32) → wbX7_between_17  Q x1 (5 : Int32) f_1))))
def wbX7_eRead_262 (K14 : Int32 → Int32 → St → Prop) (K159 : St → Prop) (Q : Int32 → St → Prop) (x1 : Int32) (t0 : Int32) (f : St) : Prop :=
  K14 x1 t0 f
def wbX7_eRead_61 (K14 : Int32 → Int32 → St → Prop) (K159 : St → Prop) (Q : Int32 → St → Prop) (x2 : Int32) (t0 : Int32) (f : St) : Prop :=
  (wX7_puts f t0 (fun f_12 => (wX7_unwinds f_12 (7 : Int32) (fun f_13 => K14 (0 : Int32) x2 f_13))))
def wbX7_eRead_38 (K14 : Int32 → Int32 → St → Prop) (K159 : St → Prop) (Q : Int32 → St → Prop) (x2 : Int32) (f : St) : Prop :=
  ((¬ (f 99 42) = (1 : Int32) → wbX7_eRead_61 K14 K159 Q x2 (f 99 43) f) ∧ ((f 99 42) = (1 : Int32) → wbX7_eRead_61 K14 K159 Q x2 ((100000 : Int32) + (f 99 43)) f))
def wbX7_eRead_99 (K14 : Int32 → Int32 → St → Prop) (K159 : St → Prop) (Q : Int32 → St → Prop) (x1 : Int32) (f : St) : Prop :=
  ((¬ (f 99 42) = (45 : Int32) → ((¬ (f 99 42) = (40 : Int32) → Q (0 : Int32) f) ∧ ((f 99 42) = (40 : Int32) → (wX7_opensOne f (0 : Int32) (fun r_15 f_14 => ((¬ r_15 = (0 : Int32) → K14 x1 (1 : Int32) f_14) ∧ (r_15 = (0 : Int32) → Q (0 : Int32) f_14))))))) ∧ ((f 99 42) = (45 : Int32) → (wX7_opensOne f (19 : Int32) (fun r_17 f_16 => ((¬ r_17 = (0 : Int32) → K14 x1 (0 : Int32) f_16) ∧ (r_17 = (0 : Int32) → Q (0 : Int32) f_16))))))
def wbX7_eRead_14 (K14 : Int32 → Int32 → St → Prop) (K159 : St → Prop) (Q : Int32 → St → Prop) (x1 : Int32) (x2 : Int32) (f : St) : Prop :=
  (wX7_next f  (fun f_3 => ((x1 = (0 : Int32) → ((¬ (f_3 99 42) = (59 : Int32) → ((¬ (f_3 99 42) = (41 : Int32) → (wX7_signOf f_3  (fun r_5 f_4 => ((r_5 = (-1 : Int32) → Q (0 : Int32) f_4) ∧ (¬ r_5 = (-1 : Int32) → (wX7_between f_4 r_5 (fun r_7 f_6 => ((¬ r_7 = (0 : Int32) → (((12 : Int32) < r_5 → wbX7_eRead_262 K14 K159 Q (1 : Int32) (0 : Int32) f_6) ∧ (¬ (12 : Int32) < r_5 → wbX7_eRead_262 K14 K159 Q (1 : Int32) (1 : Int32) f_6))) ∧ (r_7 = (0 : Int32) → Q (0 : Int32) f_6))))))))) ∧ ((f_3 99 42) = (41 : Int32) → (wX7_unwinds f_3 (1 : Int32) (fun f_8 => ((¬ (f_8 99 46) = (0 : Int32) → (∀ f_9 : St, f_9 = upd2 f_8 99 46 ((f_8 99 46) - (1 : Int32)) → (∀ f_10 : St, f_10 = upd2 f_9 99 47 ((f_9 99 47) - (1 : Int32)) → (wX7_unwinds f_10 (7 : Int32) (fun f_11 => K14 x1 x2 f_11))))) ∧ ((f_8 99 46) = (0 : Int32) → Q (0 : Int32) f_8))))))) ∧ ((f_3 99 42) = (59 : Int32) → K159  f_3))) ∧ (¬ x1 = (0 : Int32) → (((f_3 99 42) = (1 : Int32) → wbX7_eRead_38 K14 K159 Q x2 f_3) ∧ (¬ (f_3 99 42) = (1 : Int32) → ((¬ (f_3 99 42) = (2 : Int32) → ((¬ (f_3 99 42) = (6 : Int32) → wbX7_eRead_99 K14 K159 Q x1 f_3) ∧ ((f_3 99 42) = (6 : Int32) → ((x2 = (0 : Int32) → wbX7_eRead_99 K14 K159 Q x1 f_3) ∧ (¬ x2 = (0 : Int32) → (wX7_opensOne f_3 (13 : Int32) (fun r_19 f_18 => ((¬ r_19 = (0 : Int32) → K14 x1 x2 f_18) ∧ (r_19 = (0 : Int32) → Q (0 : Int32) f_18))))))))) ∧ ((f_3 99 42) = (2 : Int32) → wbX7_eRead_38 K14 K159 Q x2 f_3))))))))
def wlX7_eRead_14 (K159 : St → Prop) (Q : Int32 → St → Prop) : Nat → Int32 → Int32 → St → Prop
  | 0 => fun _ _ _ => False
  | n + 1 => wbX7_eRead_14 (wlX7_eRead_14 K159 Q n) K159 Q
def wX7_eRead (f : St)  (Q : Int32 → St → Prop) : Prop :=
  (∀ f_1 : St, f_1 = upd2 f 99 46 (0 : Int32) → (∀ f_2 : St, f_2 = upd2 f_1 99 47 (0 : Int32) → (∃ n : Nat, wlX7_eRead_14 (fun  (f : St) => (wX7_unwinds f (1 : Int32) (fun f_20 => ((¬ (f_20 99 46) = (0 : Int32) → Q (0 : Int32) f_20) ∧ ((f_20 99 46) = (0 : Int32) → Q (1 : Int32) f_20))))) Q n (1 : Int32) (1 : Int32) f_2)))
def wbX7_text_94 (K26 : Int32 → Int32 → St → Prop) (K101 : Int32 → St → Prop) (Q : Int32 → St → Prop) (x2 : Int32) (t0 : Int32) (f : St) : Prop :=
  (∀ x2_5 : Int32, x2_5 = x2 + (1 : Int32) → K26 t0 x2_5 f)
def wbX7_text_93 (K26 : Int32 → Int32 → St → Prop) (K101 : Int32 → St → Prop) (Q : Int32 → St → Prop) (x2 : Int32) (f : St) : Prop :=
  wbX7_text_94 K26 K101 Q x2 (0 : Int32) f
def wbX7_text_60 (K26 : Int32 → Int32 → St → Prop) (K101 : Int32 → St → Prop) (Q : Int32 → St → Prop) (x2 : Int32) (t0 : Int32) (f : St) : Prop :=
  (vp_in (((4 : Int32) * (f 99 14)) + x2) 24 ∧ (∀ f_4 : St, f_4 = upd2 f 13 (Int32.toNatClampNeg (((4 : Int32) * (f 99 14)) + x2)) (f 99 48) → ((t0 = (0 : Int32) → wbX7_text_93 K26 K101 Q x2 f_4) ∧ (¬ t0 = (0 : Int32) → (wX7_eRead f_4  (fun r_7 f_6 => ((r_7 = (0 : Int32) → wbX7_text_93 K26 K101 Q x2 f_6) ∧ (¬ r_7 = (0 : Int32) → wbX7_text_94 K26 K101 Q x2 (1 : Int32) f_6))))))))
def wbX7_text_59 (K26 : Int32 → Int32 → St → Prop) (K101 : Int32 → St → Prop) (Q : Int32 → St → Prop) (x2 : Int32) (f : St) : Prop :=
  wbX7_text_60 K26 K101 Q x2 (0 : Int32) f
def wbX7_text_26 (K26 : Int32 → Int32 → St → Prop) (K101 : Int32 → St → Prop) (Q : Int32 → St → Prop) (x1 : Int32) (x2 : Int32) (f : St) : Prop :=
  (((2 : Int32) ≤ x2 → K101 x1 f) ∧ (¬ (2 : Int32) ≤ x2 → ((x1 = (0 : Int32) → K101 x1 f) ∧ (¬ x1 = (0 : Int32) → (wX7_next f  (fun f_3 => ((¬ (f_3 99 42) = (3 : Int32) → wbX7_text_59 K26 K101 Q x2 f_3) ∧ ((f_3 99 42) = (3 : Int32) → ((¬ (f_3 99 43) = x2 → wbX7_text_59 K26 K101 Q x2 f_3) ∧ ((f_3 99 43) = x2 → wbX7_text_60 K26 K101 Q x2 (1 : Int32) f_3))))))))))
def wlX7_text_26 (K101 : Int32 → St → Prop) (Q : Int32 → St → Prop) : Nat → Int32 → Int32 → St → Prop
  | 0 => fun _ _ _ => False
  | n + 1 => wbX7_text_26 (wlX7_text_26 K101 Q n) K101 Q
def wbX7_text_122  (Q : Int32 → St → Prop) (x1 : Int32) (f : St) : Prop :=
  (vp_in (((4 : Int32) * (f 99 14)) + (2 : Int32)) 24 ∧ (∀ f_8 : St, f_8 = upd2 f 13 (Int32.toNatClampNeg (((4 : Int32) * (f 99 14)) + (2 : Int32))) (f 99 48) → (∀ f_9 : St, f_9 = upd2 f_8 99 11 (0 : Int32) → ((¬ x1 = (0 : Int32) → (∀ f_10 : St, f_10 = upd2 f_9 99 14 ((f_9 99 14) + (1 : Int32)) → Q ((f_10 99 14) - (1 : Int32)) f_10)) ∧ (x1 = (0 : Int32) → Q ((-100 : Int32) - (f_9 99 41)) f_9)))))
def wbX7_text_121  (Q : Int32 → St → Prop) (t0 : Int32) (f : St) : Prop :=
  wbX7_text_122  Q t0 f
def wbX7_text_101  (Q : Int32 → St → Prop) (x1 : Int32) (f : St) : Prop :=
  ((x1 = (0 : Int32) → wbX7_text_122  Q x1 f) ∧ (¬ x1 = (0 : Int32) → (wX7_next f  (fun f_11 => ((¬ (f_11 99 42) = (0 : Int32) → wbX7_text_121  Q (0 : Int32) f_11) ∧ ((f_11 99 42) = (0 : Int32) → wbX7_text_121  Q (1 : Int32) f_11))))))
def wX7_text (f : St)  (Q : Int32 → St → Prop) : Prop :=
  ((¬ (f 99 14) = (6 : Int32) → (∀ f_1 : St, f_1 = upd2 f 99 40 (0 : Int32) → (∀ f_2 : St, f_2 = upd2 f_1 99 48 (0 : Int32) → (∃ n : Nat, wlX7_text_26 (fun (x1 : Int32) (f : St) => wbX7_text_101  Q x1 f) Q n (1 : Int32) (0 : Int32) f_2)))) ∧ ((f 99 14) = (6 : Int32) → Q (-4 : Int32) f))
def wX7_force (f : St) (x1 : Int32) (Q : Int32 → St → Prop) : Prop :=
  (wX7_in f x1 (0 : Int32) ((f 99 14) - (1 : Int32)) (fun r_2 f_1 => ((¬ r_2 = (0 : Int32) → (∀ x2_3 : Int32, x2_3 = (f_1 99 15) → (∀ f_4 : St, f_4 = upd2 f_1 99 15 x1 → Q x2_3 f_4))) ∧ (r_2 = (0 : Int32) → Q (-2 : Int32) f_1))))
def wX7_names (f : St) (x1 : Int32) (x2 : Int32) (x3 : Int32) (x4 : Int32) (x5 : Int32) (Q : St → Prop) : Prop :=
  (vp_in (0 : Int32) 6 ∧ (∀ f_1 : St, f_1 = upd2 f 50 (Int32.toNatClampNeg (0 : Int32)) x1 → (vp_in (1 : Int32) 6 ∧ (∀ f_2 : St, f_2 = upd2 f_1 50 (Int32.toNatClampNeg (1 : Int32)) x2 → (vp_in (2 : Int32) 6 ∧ (∀ f_3 : St, f_3 = upd2 f_2 50 (Int32.toNatClampNeg (2 : Int32)) x3 → (vp_in (3 : Int32) 6 ∧ (∀ f_4 : St, f_4 = upd2 f_3 50 (Int32.toNatClampNeg (3 : Int32)) x4 → (vp_in (4 : Int32) 6 ∧ (∀ f_5 : St, f_5 = upd2 f_4 50 (Int32.toNatClampNeg (4 : Int32)) x5 → (vp_in (5 : Int32) 6 ∧ (∀ f_6 : St, f_6 = upd2 f_5 50 (Int32.toNatClampNeg (5 : Int32)) (f_5 99 6) → Q f_6))))))))))))
def wbX7_two_52  (Q : Int32 → St → Prop)  (f : St) : Prop :=
  Q (1 : Int32) f
def wX7_two (f : St) (x0 : Int32) (x1 : Int32) (x2 : Int32) (Q : Int32 → St → Prop) : Prop :=
  ((x0 = (11 : Int32) → ((¬ x1 = (0 : Int32) → wbX7_two_52  Q  f) ∧ (x1 = (0 : Int32) → ((x2 = (0 : Int32) → Q (0 : Int32) f) ∧ (¬ x2 = (0 : Int32) → wbX7_two_52  Q  f))))) ∧ (¬ x0 = (11 : Int32) → ((x0 = (12 : Int32) → ((x1 = (0 : Int32) → Q (0 : Int32) f) ∧ (¬ x1 = (0 : Int32) → ((x2 = (0 : Int32) → Q (0 : Int32) f) ∧ (¬ x2 = (0 : Int32) → Q (1 : Int32) f))))) ∧ (¬ x0 = (12 : Int32) → ((x0 = (13 : Int32) → Q (x1 * x2) f) ∧ (¬ x0 = (13 : Int32) → ((x0 = (14 : Int32) → ((x2 ≤ x1 → Q (0 : Int32) f) ∧ (¬ x2 ≤ x1 → Q (1 : Int32) f))) ∧ (¬ x0 = (14 : Int32) → ((x0 = (15 : Int32) → ((¬ x1 = x2 → Q (0 : Int32) f) ∧ (x1 = x2 → Q (1 : Int32) f))) ∧ (¬ x0 = (15 : Int32) → ((x0 = (16 : Int32) → Q (x1 + x2) f) ∧ (¬ x0 = (16 : Int32) → ((x0 = (17 : Int32) → Q (x1 - x2) f) ∧ (¬ x0 = (17 : Int32) → Q (x1 * x2) f))))))))))))))
def wbX7_worth_191 (K16 : Int32 → Int32 → Int32 → St → Prop) (Q : Int32 → St → Prop) (x1 : Int32) (x2 : Int32) (x3 : Int32) (f : St) : Prop :=
  (∀ x3_5 : Int32, x3_5 = x3 + (1 : Int32) → K16 x1 x2 x3_5 f)
def wbX7_worth_93 (K16 : Int32 → Int32 → Int32 → St → Prop) (Q : Int32 → St → Prop) (x1 : Int32) (x2 : Int32) (x3 : Int32) (t0 : Int32) (t1 : Int32) (f : St) : Prop :=
  (vp_in t1 200 ∧ (∀ f_3 : St, f_3 = upd2 f 49 (Int32.toNatClampNeg t1) t0 → (∀ x2_4 : Int32, x2_4 = x2 + (1 : Int32) → wbX7_worth_191 K16 Q x1 x2_4 x3 f_3)))
def wbX7_worth_66 (K16 : Int32 → Int32 → Int32 → St → Prop) (Q : Int32 → St → Prop) (x1 : Int32) (x2 : Int32) (x3 : Int32) (x4 : Int32) (f : St) : Prop :=
  (((11 : Int32) ≤ x4 → wbX7_worth_93 K16 Q x1 x2 x3 (x4 - (100000 : Int32)) x2 f) ∧ (¬ (11 : Int32) ≤ x4 → (vp_in x4 6 ∧ wbX7_worth_93 K16 Q x1 x2 x3 (f 50 (Int32.toNatClampNeg x4)) x2 f)))
def wbX7_worth_130 (K16 : Int32 → Int32 → Int32 → St → Prop) (Q : Int32 → St → Prop) (x1 : Int32) (x2 : Int32) (x3 : Int32) (t0 : Int32) (t1 : Int32) (f : St) : Prop :=
  (vp_in t1 200 ∧ (∀ f_11 : St, f_11 = upd2 f 49 (Int32.toNatClampNeg t1) t0 → wbX7_worth_191 K16 Q x1 x2 x3 f_11))
def wbX7_worth_16 (K16 : Int32 → Int32 → Int32 → St → Prop) (Q : Int32 → St → Prop) (x1 : Int32) (x2 : Int32) (x3 : Int32) (f : St) : Prop :=
  (vp_in ((((4 : Int32) * (f 99 15)) + x1) + (1 : Int32)) 24 ∧ (((f 13 (Int32.toNatClampNeg ((((4 : Int32) * (f 99 15)) + x1) + (1 : Int32)))) ≤ x3 → (vp_in (0 : Int32) 200 ∧ Q (f 49 (Int32.toNatClampNeg (0 : Int32))) f)) ∧ (¬ (f 13 (Int32.toNatClampNeg ((((4 : Int32) * (f 99 15)) + x1) + (1 : Int32)))) ≤ x3 → (vp_in (((200 : Int32) * (f 99 15)) + x3) 1200 ∧ (∀ x4_2 : Int32, x4_2 = (f 12 (Int32.toNatClampNeg (((200 : Int32) * (f 99 15)) + x3))) → (((100000 : Int32) ≤ x4_2 → wbX7_worth_66 K16 Q x1 x2 x3 x4_2 f) ∧ (¬ (100000 : Int32) ≤ x4_2 → (((11 : Int32) ≤ x4_2 → ((¬ x4_2 = (13 : Int32) → ((¬ x4_2 = (19 : Int32) → (∀ x2_6 : Int32, x2_6 = x2 + (-1 : Int32) → (vp_in (x2_6 - (1 : Int32)) 200 ∧ (vp_in x2_6 200 ∧ (wX7_two f x4_2 (f 49 (Int32.toNatClampNeg (x2_6 - (1 : Int32)))) (f 49 (Int32.toNatClampNeg x2_6)) (fun r_8 f_7 => (vp_in (x2_6 - (1 : Int32)) 200 ∧ (∀ f_9 : St, f_9 = upd2 f_7 49 (Int32.toNatClampNeg (x2_6 - (1 : Int32))) r_8 → wbX7_worth_191 K16 Q x1 x2_6 x3 f_9)))))))) ∧ (x4_2 = (19 : Int32) → (vp_in (x2 - (1 : Int32)) 200 ∧ (vp_in (x2 - (1 : Int32)) 200 ∧ (∀ f_10 : St, f_10 = upd2 f 49 (Int32.toNatClampNeg (x2 - (1 : Int32))) (-(f 49 (Int32.toNatClampNeg (x2 - (1 : Int32))))) → wbX7_worth_191 K16 Q x1 x2 x3 f_10)))))) ∧ (x4_2 = (13 : Int32) → (vp_in (x2 - (1 : Int32)) 200 ∧ ((¬ (f 49 (Int32.toNatClampNeg (x2 - (1 : Int32)))) = (0 : Int32) → wbX7_worth_130 K16 Q x1 x2 x3 (0 : Int32) (x2 - (1 : Int32)) f) ∧ ((f 49 (Int32.toNatClampNeg (x2 - (1 : Int32)))) = (0 : Int32) → wbX7_worth_130 K16 Q x1 x2 x3 (1 : Int32) (x2 - (1 : Int32)) f)))))) ∧ (¬ (11 : Int32) ≤ x4_2 → wbX7_worth_66 K16 Q x1 x2 x3 x4_2 f)))))))))
def wlX7_worth_16  (Q : Int32 → St → Prop) : Nat → Int32 → Int32 → Int32 → St → Prop
  | 0 => fun _ _ _ _ => False
  | n + 1 => wbX7_worth_16 (wlX7_worth_16  Q n) Q
def wX7_worth (f : St) (x1 : Int32) (Q : Int32 → St → Prop) : Prop :=
  (vp_in (((4 : Int32) * (f 99 15)) + x1) 24 ∧ (∀ x3_1 : Int32, x3_1 = (f 13 (Int32.toNatClampNeg (((4 : Int32) * (f 99 15)) + x1))) → (∃ n : Nat, wlX7_worth_16  Q n x1 (0 : Int32) x3_1 f)))
def wX7_nearOf (f : St) (x1 : Int32) (x2 : Int32) (Q : Int32 → St → Prop) : Prop :=
  (vp_in (((6 : Int32) * x1) + x2) 36 ∧ (vp_in x1 6 ∧ (vp_in x2 6 ∧ (wX7_names f (f 39 (Int32.toNatClampNeg (((6 : Int32) * x1) + x2))) (f 1 (Int32.toNatClampNeg x1)) (f 1 (Int32.toNatClampNeg x2)) (0 : Int32) (0 : Int32) (fun f_1 => (wX7_worth f_1 (0 : Int32) (fun r_3 f_2 => Q r_3 f_2)))))))
def wX7_says (f : St) (x1 : Int32) (x2 : Int32) (Q : Int64 → St → Prop) : Prop :=
  (wX7_isTown f x1 (fun r_2 f_1 => ((r_2 = (0 : Int32) → Q (-4611686018427387904 : Int64) f_1) ∧ (¬ r_2 = (0 : Int32) → (wX7_isTown f_1 x2 (fun r_4 f_3 => ((r_4 = (0 : Int32) → Q (-4611686018427387904 : Int64) f_3) ∧ (¬ r_4 = (0 : Int32) → ((¬ x1 = x2 → (wX7_spreads f_3  (fun f_5 => (wX7_nearOf f_5 x1 x2 (fun r_7 f_6 => Q (Int32.toInt64 r_7) f_6))))) ∧ (x1 = x2 → Q (-4611686018427387904 : Int64) f_3))))))))))
def wbX7_worthBy_26  (Q : Int32 → St → Prop) (t0 : Int32) (t1 : Int32) (t2 : Int32) (t3 : Int32) (t4 : Int32) (f : St) : Prop :=
  (wX7_names f t4 t3 t2 t1 t0 (fun f_1 => (wX7_worth f_1 (1 : Int32) (fun r_3 f_2 => ((r_3 ≤ (999 : Int32) → (((-999 : Int32) ≤ r_3 → Q r_3 f_2) ∧ (¬ (-999 : Int32) ≤ r_3 → Q (-999 : Int32) f_2))) ∧ (¬ r_3 ≤ (999 : Int32) → Q (999 : Int32) f_2))))))
def wX7_worthBy (f : St) (x1 : Int32) (x2 : Int32) (x3 : Int32) (x4 : Int32) (Q : Int32 → St → Prop) : Prop :=
  (vp_in x1 6 ∧ (vp_in x1 6 ∧ ((¬ (f 3 (Int32.toNatClampNeg x1)) = x2 → wbX7_worthBy_26  Q (0 : Int32) x2 x4 (f 1 (Int32.toNatClampNeg x1)) x3 f) ∧ ((f 3 (Int32.toNatClampNeg x1)) = x2 → wbX7_worthBy_26  Q (1 : Int32) x2 x4 (f 1 (Int32.toNatClampNeg x1)) x3 f))))
def wX7_worthOf (f : St) (x1 : Int32) (x2 : Int32) (x3 : Int32) (x4 : Int32) (Q : Int64 → St → Prop) : Prop :=
  (wX7_isTown f x1 (fun r_2 f_1 => ((r_2 = (0 : Int32) → Q (-4611686018427387904 : Int64) f_1) ∧ (¬ r_2 = (0 : Int32) → (wX7_in f_1 x2 (0 : Int32) ((f_1 99 6) - (1 : Int32)) (fun r_4 f_3 => ((r_4 = (0 : Int32) → Q (-4611686018427387904 : Int64) f_3) ∧ (¬ r_4 = (0 : Int32) → (wX7_in f_3 x3 (0 : Int32) (99 : Int32) (fun r_6 f_5 => ((r_6 = (0 : Int32) → Q (-4611686018427387904 : Int64) f_5) ∧ (¬ r_6 = (0 : Int32) → (wX7_in f_5 x4 (0 : Int32) (6 : Int32) (fun r_8 f_7 => ((r_8 = (0 : Int32) → Q (-4611686018427387904 : Int64) f_7) ∧ (¬ r_8 = (0 : Int32) → (wX7_worthBy f_7 x1 x2 x3 x4 (fun r_10 f_9 => Q (Int32.toInt64 r_10) f_9))))))))))))))))))
def wbX7_isNumber_23  (Q : Int32 → St → Prop) (t0 : Int32) (t1 : Int32) (t2 : Int32) (f : St) : Prop :=
  (wX7_in f t2 t1 t0 (fun r_2 f_1 => (vz r_2 ∧ Q r_2 f_1)))
def wbX7_isNumber_12  (Q : Int32 → St → Prop) (t0 : Int32) (t1 : Int32) (f : St) : Prop :=
  wbX7_isNumber_23  Q (7 : Int32) t0 t1 f
def wX7_isNumber (f : St) (x1 : Int32) (x2 : Int32) (Q : Int32 → St → Prop) : Prop :=
  ((x1 = (1 : Int32) → wbX7_isNumber_12  Q (0 : Int32) x2 f) ∧ (¬ x1 = (1 : Int32) → ((¬ x1 = (5 : Int32) → wbX7_isNumber_23  Q ((f 99 6) - (1 : Int32)) (0 : Int32) x2 f) ∧ (x1 = (5 : Int32) → wbX7_isNumber_12  Q (0 : Int32) x2 f))))
def wbX7_giving_56 (K56 : Int32 → Int32 → Int32 → Int32 → St → Prop) (K93 : Int32 → Int32 → Int32 → St → Prop) (Q : Int32 → St → Prop) (x1 : Int32) (x2 : Int32) (x3 : Int32) (x4 : Int32) (f : St) : Prop :=
  (((f 99 0) ≤ x4 → K93 x1 x2 x3 f) ∧ (¬ (f 99 0) ≤ x4 → ((x3 = (0 : Int32) → K93 x1 x2 x3 f) ∧ (¬ x3 = (0 : Int32) → (vp_in (((40 : Int32) * x2) + x4) 160 ∧ (wX7_isNumber f x1 (f 38 (Int32.toNatClampNeg (((40 : Int32) * x2) + x4))) (fun r_6 f_5 => (∀ x4_7 : Int32, x4_7 = x4 + (1 : Int32) → K56 x1 x2 r_6 x4_7 f_5))))))))
def wlX7_giving_56 (K93 : Int32 → Int32 → Int32 → St → Prop) (Q : Int32 → St → Prop) : Nat → Int32 → Int32 → Int32 → Int32 → St → Prop
  | 0 => fun _ _ _ _ _ => False
  | n + 1 => wbX7_giving_56 (wlX7_giving_56 K93 Q n) K93 Q
def wbX7_giving_138 (K138 : Int32 → Int32 → St → Prop) (K180 : St → Prop) (Q : Int32 → St → Prop) (x2 : Int32) (x4 : Int32) (f : St) : Prop :=
  (((f 99 0) ≤ x4 → K180  f) ∧ (¬ (f 99 0) ≤ x4 → (vp_in (((40 : Int32) * x2) + x4) 160 ∧ (vp_in (((6 : Int32) * (f 99 16)) + x4) 72 ∧ (∀ f_10 : St, f_10 = upd2 f 19 (Int32.toNatClampNeg (((6 : Int32) * (f 99 16)) + x4)) (f 38 (Int32.toNatClampNeg (((40 : Int32) * x2) + x4))) → (∀ x4_11 : Int32, x4_11 = x4 + (1 : Int32) → K138 x2 x4_11 f_10))))))
def wlX7_giving_138 (K180 : St → Prop) (Q : Int32 → St → Prop) : Nat → Int32 → Int32 → St → Prop
  | 0 => fun _ _ _ => False
  | n + 1 => wbX7_giving_138 (wlX7_giving_138 K180 Q n) K180 Q
def wbX7_giving_93  (Q : Int32 → St → Prop) (x1 : Int32) (x2 : Int32) (x3 : Int32) (f : St) : Prop :=
  ((¬ x3 = (0 : Int32) → ((¬ (f 99 16) = (12 : Int32) → (vp_in (f 99 16) 12 ∧ (∀ f_8 : St, f_8 = upd2 f 17 (Int32.toNatClampNeg (f 99 16)) x1 → (vp_in (f_8 99 16) 12 ∧ (∀ f_9 : St, f_9 = upd2 f_8 18 (Int32.toNatClampNeg (f_8 99 16)) (f_8 99 0) → (∃ n : Nat, wlX7_giving_138 (fun  (f : St) => (∀ f_12 : St, f_12 = upd2 f 99 16 ((f 99 16) + (1 : Int32)) → Q ((f_12 99 16) - (1 : Int32)) f_12)) Q n x2 (0 : Int32) f_9)))))) ∧ ((f 99 16) = (12 : Int32) → Q (-4 : Int32) f))) ∧ (x3 = (0 : Int32) → Q (-2 : Int32) f))
def wbX7_giving_52  (Q : Int32 → St → Prop) (x1 : Int32) (x2 : Int32) (t0 : Int32) (f : St) : Prop :=
  (∃ n : Nat, wlX7_giving_56 (fun (x1 : Int32) (x2 : Int32) (x3 : Int32) (f : St) => wbX7_giving_93  Q x1 x2 x3 f) Q n x1 x2 t0 (0 : Int32) f)
def wX7_giving (f : St) (x1 : Int32) (x2 : Int32) (Q : Int32 → St → Prop) : Prop :=
  (wX7_in f x1 (0 : Int32) (5 : Int32) (fun r_2 f_1 => ((r_2 = (0 : Int32) → Q (-2 : Int32) f_1) ∧ (¬ r_2 = (0 : Int32) → (wX7_in f_1 x2 (0 : Int32) (3 : Int32) (fun r_4 f_3 => ((¬ r_4 = (0 : Int32) → (vp_in x2 4 ∧ ((¬ (f_3 36 (Int32.toNatClampNeg x2)) = (-1 : Int32) → (vp_in x2 4 ∧ ((¬ (f_3 37 (Int32.toNatClampNeg x2)) = (f_3 99 0) → wbX7_giving_52  Q x1 x2 (0 : Int32) f_3) ∧ ((f_3 37 (Int32.toNatClampNeg x2)) = (f_3 99 0) → wbX7_giving_52  Q x1 x2 (1 : Int32) f_3)))) ∧ ((f_3 36 (Int32.toNatClampNeg x2)) = (-1 : Int32) → Q (-11 : Int32) f_3)))) ∧ (r_4 = (0 : Int32) → Q (-2 : Int32) f_3))))))))
def wX7_isGiving (f : St) (x1 : Int32) (Q : Int32 → St → Prop) : Prop :=
  (wX7_in f x1 (0 : Int32) ((f 99 16) - (1 : Int32)) (fun r_2 f_1 => (vz r_2 ∧ Q r_2 f_1)))
def wbX7_daysOf_25  (Q : Int32 → St → Prop) (x1 : Int32) (x3 : Int32) (t0 : Int32) (f : St) : Prop :=
  (wX7_in f t0 (0 : Int32) ((f 99 6) - (1 : Int32)) (fun r_2 f_1 => ((¬ r_2 = (0 : Int32) → (vp_in x1 12 ∧ (((f_1 17 (Int32.toNatClampNeg x1)) = (2 : Int32) → (¬ (f_1 99 6) = (0 : Int32) ∧ Q ((i_shl (1 : Int32) t0) ||| (i_shl (1 : Int32) (i_rem (t0 + ((f_1 99 6) / (2 : Int32))) (f_1 99 6)))) f_1)) ∧ (¬ (f_1 17 (Int32.toNatClampNeg x1)) = (2 : Int32) → (((f_1 17 (Int32.toNatClampNeg x1)) = (3 : Int32) → (¬ (f_1 99 6) = (0 : Int32) ∧ Q (i_shl (1 : Int32) (i_rem (t0 + x3) (f_1 99 6))) f_1)) ∧ (¬ (f_1 17 (Int32.toNatClampNeg x1)) = (3 : Int32) → (((f_1 17 (Int32.toNatClampNeg x1)) = (4 : Int32) → ((¬ (i_rem x3 (2 : Int32)) = (0 : Int32) → (¬ (f_1 99 6) = (0 : Int32) ∧ Q (i_shl (1 : Int32) (i_rem ((t0 + x3) + (2 : Int32)) (f_1 99 6))) f_1)) ∧ ((i_rem x3 (2 : Int32)) = (0 : Int32) → (¬ (f_1 99 6) = (0 : Int32) ∧ Q (i_shl (1 : Int32) (i_rem ((t0 + x3) + (0 : Int32)) (f_1 99 6))) f_1)))) ∧ (¬ (f_1 17 (Int32.toNatClampNeg x1)) = (4 : Int32) → Q (i_shl (1 : Int32) t0) f_1)))))))) ∧ (r_2 = (0 : Int32) → Q (0 : Int32) f_1))))
def wX7_daysOf (f : St) (x1 : Int32) (x2 : Int32) (x3 : Int32) (Q : Int32 → St → Prop) : Prop :=
  (vp_in x1 12 ∧ (((f 18 (Int32.toNatClampNeg x1)) ≤ x2 → wbX7_daysOf_25  Q x1 x3 (-1 : Int32) f) ∧ (¬ (f 18 (Int32.toNatClampNeg x1)) ≤ x2 → (vp_in (((6 : Int32) * x1) + x2) 72 ∧ wbX7_daysOf_25  Q x1 x3 (f 19 (Int32.toNatClampNeg (((6 : Int32) * x1) + x2))) f))))
def wbX7_market_94 (K12 : Int32 → Int32 → Int32 → Int32 → St → Prop) (Q : Int32 → St → Prop) (x1 : Int32) (x3 : Int32) (x4 : Int32) (x5 : Int32) (f : St) : Prop :=
  (∀ x5_4 : Int32, x5_4 = x5 + (1 : Int32) → K12 x1 x3 x4 x5_4 f)
def wbX7_market_12 (K12 : Int32 → Int32 → Int32 → Int32 → St → Prop) (Q : Int32 → St → Prop) (x1 : Int32) (x3 : Int32) (x4 : Int32) (x5 : Int32) (f : St) : Prop :=
  (((f 99 7) ≤ x5 → Q x4 f) ∧ (¬ (f 99 7) ≤ x5 → (vp_in x1 12 ∧ (((f 17 (Int32.toNatClampNeg x1)) = (5 : Int32) → Q x4 f) ∧ (¬ (f 17 (Int32.toNatClampNeg x1)) = (5 : Int32) → (vp_in x5 10 ∧ (∀ x6_3 : Int32, x6_3 = (f 9 (Int32.toNatClampNeg x5)) → (vp_in x5 10 ∧ ((¬ (f 8 (Int32.toNatClampNeg x5)) = x3 → wbX7_market_94 K12 Q x1 x3 x4 x5 f) ∧ ((f 8 (Int32.toNatClampNeg x5)) = x3 → (((f 99 6) ≤ x6_3 → wbX7_market_94 K12 Q x1 x3 x4 x5 f) ∧ (¬ (f 99 6) ≤ x6_3 → ((¬ ((i_shr x4 x6_3) &&& (1 : Int32)) = (1 : Int32) → wbX7_market_94 K12 Q x1 x3 x4 x5 f) ∧ (((i_shr x4 x6_3) &&& (1 : Int32)) = (1 : Int32) → (¬ (f 99 6) = (0 : Int32) ∧ (∀ x4_5 : Int32, x4_5 = ((x4 &&& ((i_shl (1 : Int32) x6_3) ^^^ (-1 : Int32))) ||| (i_shl (1 : Int32) (i_rem (x6_3 + (1 : Int32)) (f 99 6)))) → wbX7_market_94 K12 Q x1 x3 x4_5 x5 f))))))))))))))))
def wlX7_market_12  (Q : Int32 → St → Prop) : Nat → Int32 → Int32 → Int32 → Int32 → St → Prop
  | 0 => fun _ _ _ _ _ => False
  | n + 1 => wbX7_market_12 (wlX7_market_12  Q n) Q
def wX7_market (f : St) (x1 : Int32) (x2 : Int32) (x3 : Int32) (Q : Int32 → St → Prop) : Prop :=
  (wX7_daysOf f x1 x2 x3 (fun r_2 f_1 => (∃ n : Nat, wlX7_market_12  Q n x1 x3 r_2 (0 : Int32) f_1)))
def wX7_marketOf (f : St) (x1 : Int32) (x2 : Int32) (x3 : Int32) (Q : Int32 → St → Prop) : Prop :=
  (wX7_isGiving f x1 (fun r_2 f_1 => ((r_2 = (0 : Int32) → Q (-5 : Int32) f_1) ∧ (¬ r_2 = (0 : Int32) → (wX7_isTown f_1 x2 (fun r_4 f_3 => ((r_4 = (0 : Int32) → Q (-5 : Int32) f_3) ∧ (¬ r_4 = (0 : Int32) → (wX7_isWeek f_3 x3 (fun r_6 f_5 => ((r_6 = (0 : Int32) → Q (-5 : Int32) f_5) ∧ (¬ r_6 = (0 : Int32) → (wX7_market f_5 x1 x2 x3 (fun r_8 f_7 => Q r_8 f_7))))))))))))))
def wbX7_looks_50 (K18 : Int32 → Int32 → St → Prop) (K79 : Int32 → St → Prop) (Q : St → Prop) (x1 : Int32) (x2 : Int32) (t0 : Int32) (t1 : Int32) (f : St) : Prop :=
  (vp_in t1 36 ∧ (vz t0 ∧ (∀ f_5 : St, f_5 = upd2 f 51 (Int32.toNatClampNeg t1) t0 → (vp_in (((6 : Int32) * x1) + x2) 36 ∧ (vp_in (((6 : Int32) * x2) + x1) 36 ∧ (vz (f_5 51 (Int32.toNatClampNeg (((6 : Int32) * x1) + x2))) ∧ (∀ f_6 : St, f_6 = upd2 f_5 51 (Int32.toNatClampNeg (((6 : Int32) * x2) + x1)) (f_5 51 (Int32.toNatClampNeg (((6 : Int32) * x1) + x2))) → (∀ x2_7 : Int32, x2_7 = x2 + (1 : Int32) → K18 x1 x2_7 f_6))))))))
def wbX7_looks_18 (K18 : Int32 → Int32 → St → Prop) (K79 : Int32 → St → Prop) (Q : St → Prop) (x1 : Int32) (x2 : Int32) (f : St) : Prop :=
  (((f 99 0) ≤ x2 → K79 x1 f) ∧ (¬ (f 99 0) ≤ x2 → (wX7_nearOf f x1 x2 (fun r_4 f_3 => ((r_4 = (0 : Int32) → wbX7_looks_50 K18 K79 Q x1 x2 (0 : Int32) (((6 : Int32) * x1) + x2) f_3) ∧ (¬ r_4 = (0 : Int32) → wbX7_looks_50 K18 K79 Q x1 x2 (1 : Int32) (((6 : Int32) * x1) + x2) f_3))))))
def wlX7_looks_18 (K79 : Int32 → St → Prop) (Q : St → Prop) : Nat → Int32 → Int32 → St → Prop
  | 0 => fun _ _ _ => False
  | n + 1 => wbX7_looks_18 (wlX7_looks_18 K79 Q n) K79 Q
def wbX7_looks_6 (K6 : Int32 → St → Prop) (Q : St → Prop) (x1 : Int32) (f : St) : Prop :=
  (((f 99 0) ≤ x1 → Q f) ∧ (¬ (f 99 0) ≤ x1 → (∀ x2_2 : Int32, x2_2 = (x1 + (1 : Int32)) → (∃ n : Nat, wlX7_looks_18 (fun (x1 : Int32) (f : St) => (∀ x1_8 : Int32, x1_8 = x1 + (1 : Int32) → K6 x1_8 f)) Q n x1 x2_2 f))))
def wlX7_looks_6  (Q : St → Prop) : Nat → Int32 → St → Prop
  | 0 => fun _ _ => False
  | n + 1 => wbX7_looks_6 (wlX7_looks_6  Q n) Q
def wX7_looks (f : St)  (Q : St → Prop) : Prop :=
  (wX7_spreads f  (fun f_1 => (∃ n : Nat, wlX7_looks_6  Q n (0 : Int32) f_1)))
def wbX7_laysNow_2 (K2 : Int32 → Int32 → Int32 → St → Prop) (Q : St → Prop) (x1 : Int32) (x2 : Int32) (x3 : Int32) (f : St) : Prop :=
  (((f 99 0) ≤ x3 → Q f) ∧ (¬ (f 99 0) ≤ x3 → (wX7_market f x1 x3 x2 (fun r_2 f_1 => (vp_in x3 6 ∧ (∀ f_3 : St, f_3 = upd2 f_1 52 (Int32.toNatClampNeg x3) r_2 → (∀ x3_4 : Int32, x3_4 = x3 + (1 : Int32) → K2 x1 x2 x3_4 f_3)))))))
def wlX7_laysNow_2  (Q : St → Prop) : Nat → Int32 → Int32 → Int32 → St → Prop
  | 0 => fun _ _ _ _ => False
  | n + 1 => wbX7_laysNow_2 (wlX7_laysNow_2  Q n) Q
def wX7_laysNow (f : St) (x1 : Int32) (x2 : Int32) (Q : St → Prop) : Prop :=
  (∃ n : Nat, wlX7_laysNow_2  Q n x1 x2 (0 : Int32) f)
def wbX7_follows_52 (K2 : Int32 → Int32 → Int32 → St → Prop) (Q : Int32 → St → Prop) (x1 : Int32) (x2 : Int32) (x3 : Int32) (f : St) : Prop :=
  (∀ x3_1 : Int32, x3_1 = x3 + (1 : Int32) → K2 x1 x2 x3_1 f)
def wbX7_follows_2 (K2 : Int32 → Int32 → Int32 → St → Prop) (Q : Int32 → St → Prop) (x1 : Int32) (x2 : Int32) (x3 : Int32) (f : St) : Prop :=
  (((f 99 6) ≤ x3 → Q (0 : Int32) f) ∧ (¬ (f 99 6) ≤ x3 → (vp_in x1 6 ∧ ((¬ ((i_shr (f 52 (Int32.toNatClampNeg x1)) x3) &&& (1 : Int32)) = (1 : Int32) → wbX7_follows_52 K2 Q x1 x2 x3 f) ∧ (((i_shr (f 52 (Int32.toNatClampNeg x1)) x3) &&& (1 : Int32)) = (1 : Int32) → (vp_in x2 6 ∧ (¬ (f 99 6) = (0 : Int32) ∧ ((¬ ((i_shr (f 52 (Int32.toNatClampNeg x2)) (i_rem ((x3 + (f 99 6)) - (1 : Int32)) (f 99 6))) &&& (1 : Int32)) = (1 : Int32) → wbX7_follows_52 K2 Q x1 x2 x3 f) ∧ (((i_shr (f 52 (Int32.toNatClampNeg x2)) (i_rem ((x3 + (f 99 6)) - (1 : Int32)) (f 99 6))) &&& (1 : Int32)) = (1 : Int32) → Q (1 : Int32) f)))))))))
def wlX7_follows_2  (Q : Int32 → St → Prop) : Nat → Int32 → Int32 → Int32 → St → Prop
  | 0 => fun _ _ _ _ => False
  | n + 1 => wbX7_follows_2 (wlX7_follows_2  Q n) Q
def wX7_follows (f : St) (x1 : Int32) (x2 : Int32) (Q : Int32 → St → Prop) : Prop :=
  (∃ n : Nat, wlX7_follows_2  Q n x1 x2 (0 : Int32) f)
def wbX7_doBar_127  (Q : Int32 → St → Prop)  (f : St) : Prop :=
  Q (1 : Int32) f
def wbX7_doBar_108  (Q : Int32 → St → Prop) (x1 : Int32) (x2 : Int32) (f : St) : Prop :=
  (vp_in x2 6 ∧ ((¬ (f 4 (Int32.toNatClampNeg x2)) = x1 → Q (0 : Int32) f) ∧ ((f 4 (Int32.toNatClampNeg x2)) = x1 → (wX7_follows f x2 x1 (fun r_2 f_1 => ((¬ r_2 = (0 : Int32) → Q (0 : Int32) f_1) ∧ (r_2 = (0 : Int32) → wbX7_doBar_127  Q  f_1)))))))
def wbX7_doBar_84  (Q : Int32 → St → Prop) (x1 : Int32) (x2 : Int32) (t0 : Int32) (f : St) : Prop :=
  ((t0 = (0 : Int32) → Q (0 : Int32) f) ∧ (¬ t0 = (0 : Int32) → (vp_in x1 6 ∧ ((¬ (f 4 (Int32.toNatClampNeg x1)) = x2 → wbX7_doBar_108  Q x1 x2 f) ∧ ((f 4 (Int32.toNatClampNeg x1)) = x2 → (wX7_follows f x1 x2 (fun r_4 f_3 => ((r_4 = (0 : Int32) → wbX7_doBar_127  Q  f_3) ∧ (¬ r_4 = (0 : Int32) → wbX7_doBar_108  Q x1 x2 f_3)))))))))
def wbX7_doBar_83  (Q : Int32 → St → Prop) (x1 : Int32) (x2 : Int32) (f : St) : Prop :=
  wbX7_doBar_84  Q x1 x2 (0 : Int32) f
def wbX7_doBar_61  (Q : Int32 → St → Prop) (x1 : Int32) (x2 : Int32) (f : St) : Prop :=
  (vp_in x1 6 ∧ (((f 52 (Int32.toNatClampNeg x1)) = (0 : Int32) → wbX7_doBar_83  Q x1 x2 f) ∧ (¬ (f 52 (Int32.toNatClampNeg x1)) = (0 : Int32) → (vp_in x2 6 ∧ (((f 52 (Int32.toNatClampNeg x2)) = (0 : Int32) → wbX7_doBar_83  Q x1 x2 f) ∧ (¬ (f 52 (Int32.toNatClampNeg x2)) = (0 : Int32) → wbX7_doBar_84  Q x1 x2 (1 : Int32) f))))))
def wX7_doBar (f : St) (x1 : Int32) (x2 : Int32) (Q : Int32 → St → Prop) : Prop :=
  ((¬ x1 = x2 → (vp_in x1 6 ∧ (vp_in x2 6 ∧ ((((f 52 (Int32.toNatClampNeg x1)) &&& (f 52 (Int32.toNatClampNeg x2))) = (0 : Int32) → wbX7_doBar_61  Q x1 x2 f) ∧ (¬ ((f 52 (Int32.toNatClampNeg x1)) &&& (f 52 (Int32.toNatClampNeg x2))) = (0 : Int32) → (vp_in (((6 : Int32) * x1) + x2) 36 ∧ (((f 51 (Int32.toNatClampNeg (((6 : Int32) * x1) + x2))) = (0 : Int32) → wbX7_doBar_61  Q x1 x2 f) ∧ (¬ (f 51 (Int32.toNatClampNeg (((6 : Int32) * x1) + x2))) = (0 : Int32) → Q (1 : Int32) f)))))))) ∧ (x1 = x2 → (vp_in x1 6 ∧ (vp_in x1 6 ∧ ((((f 52 (Int32.toNatClampNeg x1)) &&& ((f 2 (Int32.toNatClampNeg x1)) ^^^ (-1 : Int32))) = (0 : Int32) → Q (0 : Int32) f) ∧ (¬ ((f 52 (Int32.toNatClampNeg x1)) &&& ((f 2 (Int32.toNatClampNeg x1)) ^^^ (-1 : Int32))) = (0 : Int32) → Q (1 : Int32) f))))))
def wbX7_firstBar_12 (K12 : Int32 → Int32 → St → Prop) (K42 : Int32 → St → Prop) (Q : Int32 → St → Prop) (x1 : Int32) (x2 : Int32) (f : St) : Prop :=
  (((f 99 0) ≤ x2 → K42 x1 f) ∧ (¬ (f 99 0) ≤ x2 → (wX7_doBar f x1 x2 (fun r_2 f_1 => ((r_2 = (0 : Int32) → (∀ x2_3 : Int32, x2_3 = x2 + (1 : Int32) → K12 x1 x2_3 f_1)) ∧ (¬ r_2 = (0 : Int32) → Q (((10 : Int32) * x1) + x2) f_1))))))
def wlX7_firstBar_12 (K42 : Int32 → St → Prop) (Q : Int32 → St → Prop) : Nat → Int32 → Int32 → St → Prop
  | 0 => fun _ _ _ => False
  | n + 1 => wbX7_firstBar_12 (wlX7_firstBar_12 K42 Q n) K42 Q
def wbX7_firstBar_2 (K2 : Int32 → St → Prop) (Q : Int32 → St → Prop) (x1 : Int32) (f : St) : Prop :=
  (((f 99 0) ≤ x1 → Q (-1 : Int32) f) ∧ (¬ (f 99 0) ≤ x1 → (∃ n : Nat, wlX7_firstBar_12 (fun (x1 : Int32) (f : St) => (∀ x1_4 : Int32, x1_4 = x1 + (1 : Int32) → K2 x1_4 f)) Q n x1 x1 f)))
def wlX7_firstBar_2  (Q : Int32 → St → Prop) : Nat → Int32 → St → Prop
  | 0 => fun _ _ => False
  | n + 1 => wbX7_firstBar_2 (wlX7_firstBar_2  Q n) Q
def wX7_firstBar (f : St)  (Q : Int32 → St → Prop) : Prop :=
  (∃ n : Nat, wlX7_firstBar_2  Q n (0 : Int32) f)
def wX7_bar (f : St) (x1 : Int32) (x2 : Int32) (Q : Int32 → St → Prop) : Prop :=
  (wX7_isGiving f x1 (fun r_2 f_1 => ((r_2 = (0 : Int32) → Q (-5 : Int32) f_1) ∧ (¬ r_2 = (0 : Int32) → (wX7_isWeek f_1 x2 (fun r_4 f_3 => ((¬ r_4 = (0 : Int32) → (wX7_looks f_3  (fun f_5 => (wX7_laysNow f_5 x1 x2 (fun f_6 => (wX7_firstBar f_6  (fun r_8 f_7 => Q r_8 f_7))))))) ∧ (r_4 = (0 : Int32) → Q (-5 : Int32) f_3))))))))
def wbX7_lawful_54 (K27 : Int32 → Int32 → Int32 → Int32 → St → Prop) (Q : Int32 → St → Prop) (x1 : Int32) (x2 : Int32) (x4 : Int32) (t0 : Int32) (t1 : Int32) (f : St) : Prop :=
  (∀ x3_9 : Int32, x3_9 = (t1 + t0) → (∀ x4_10 : Int32, x4_10 = x4 + (1 : Int32) → K27 x1 x2 x3_9 x4_10 f))
def wbX7_lawful_27 (K27 : Int32 → Int32 → Int32 → Int32 → St → Prop) (Q : Int32 → St → Prop) (x1 : Int32) (x2 : Int32) (x3 : Int32) (x4 : Int32) (f : St) : Prop :=
  ((x2 < x4 → Q x3 f) ∧ (¬ x2 < x4 → (wX7_laysNow f x1 x4 (fun f_6 => (wX7_firstBar f_6  (fun r_8 f_7 => ((¬ r_8 = (-1 : Int32) → wbX7_lawful_54 K27 Q x1 x2 x4 (0 : Int32) x3 f_7) ∧ (r_8 = (-1 : Int32) → wbX7_lawful_54 K27 Q x1 x2 x4 (1 : Int32) x3 f_7))))))))
def wlX7_lawful_27  (Q : Int32 → St → Prop) : Nat → Int32 → Int32 → Int32 → Int32 → St → Prop
  | 0 => fun _ _ _ _ _ => False
  | n + 1 => wbX7_lawful_27 (wlX7_lawful_27  Q n) Q
def wX7_lawful (f : St) (x1 : Int32) (x2 : Int32) (Q : Int32 → St → Prop) : Prop :=
  (wX7_isGiving f x1 (fun r_2 f_1 => ((r_2 = (0 : Int32) → Q (-5 : Int32) f_1) ∧ (¬ r_2 = (0 : Int32) → (wX7_isWeek f_1 x2 (fun r_4 f_3 => ((¬ r_4 = (0 : Int32) → (wX7_looks f_3  (fun f_5 => (∃ n : Nat, wlX7_lawful_27  Q n x1 x2 (0 : Int32) (0 : Int32) f_5)))) ∧ (r_4 = (0 : Int32) → Q (-5 : Int32) f_3))))))))
def wbX7_worthNow_161 (K4 : Int32 → Int32 → Int32 → St → Prop) (Q : Int32 → St → Prop) (x1 : Int32) (x2 : Int32) (x3 : Int32) (f : St) : Prop :=
  (∀ x3_1 : Int32, x3_1 = x3 + (1 : Int32) → K4 x1 x2 x3_1 f)
def wbX7_worthNow_142 (K36 : Int32 → Int32 → Int32 → Int32 → Int32 → Int32 → St → Prop) (K148 : Int32 → Int32 → Int32 → Int32 → Int32 → St → Prop) (Q : Int32 → St → Prop) (x1 : Int32) (x2 : Int32) (x3 : Int32) (x4 : Int32) (x5 : Int32) (x6 : Int32) (f : St) : Prop :=
  (∀ x6_2 : Int32, x6_2 = x6 + (1 : Int32) → K36 x1 x2 x3 x4 x5 x6_2 f)
def wbX7_worthNow_124 (K36 : Int32 → Int32 → Int32 → Int32 → Int32 → Int32 → St → Prop) (K148 : Int32 → Int32 → Int32 → Int32 → Int32 → St → Prop) (Q : Int32 → St → Prop) (x1 : Int32) (x2 : Int32) (x3 : Int32) (x5 : Int32) (x6 : Int32) (t0 : Int32) (f : St) : Prop :=
  (vp_in x6 6 ∧ (∀ x5_3 : Int32, x5_3 = (x5 + ((i_shr (f 52 (Int32.toNatClampNeg x6)) x3) &&& (1 : Int32))) → wbX7_worthNow_142 K36 K148 Q x1 x2 x3 t0 x5_3 x6 f))
def wbX7_worthNow_122 (K36 : Int32 → Int32 → Int32 → Int32 → Int32 → Int32 → St → Prop) (K148 : Int32 → Int32 → Int32 → Int32 → Int32 → St → Prop) (Q : Int32 → St → Prop) (x1 : Int32) (x2 : Int32) (x3 : Int32) (x4 : Int32) (x5 : Int32) (x6 : Int32) (f : St) : Prop :=
  wbX7_worthNow_124 K36 K148 Q x1 x2 x3 x5 x6 x4 f
def wbX7_worthNow_83 (K36 : Int32 → Int32 → Int32 → Int32 → Int32 → Int32 → St → Prop) (K148 : Int32 → Int32 → Int32 → Int32 → Int32 → St → Prop) (Q : Int32 → St → Prop) (x1 : Int32) (x2 : Int32) (x3 : Int32) (x4 : Int32) (x5 : Int32) (x6 : Int32) (t0 : Int32) (f : St) : Prop :=
  ((t0 = (0 : Int32) → wbX7_worthNow_122 K36 K148 Q x1 x2 x3 x4 x5 x6 f) ∧ (¬ t0 = (0 : Int32) → (vp_in (((6 : Int32) * x1) + x6) 36 ∧ ((x4 ≤ (f 39 (Int32.toNatClampNeg (((6 : Int32) * x1) + x6))) → wbX7_worthNow_122 K36 K148 Q x1 x2 x3 x4 x5 x6 f) ∧ (¬ x4 ≤ (f 39 (Int32.toNatClampNeg (((6 : Int32) * x1) + x6))) → (vp_in (((6 : Int32) * x1) + x6) 36 ∧ wbX7_worthNow_124 K36 K148 Q x1 x2 x3 x5 x6 (f 39 (Int32.toNatClampNeg (((6 : Int32) * x1) + x6))) f))))))
def wbX7_worthNow_36 (K36 : Int32 → Int32 → Int32 → Int32 → Int32 → Int32 → St → Prop) (K148 : Int32 → Int32 → Int32 → Int32 → Int32 → St → Prop) (Q : Int32 → St → Prop) (x1 : Int32) (x2 : Int32) (x3 : Int32) (x4 : Int32) (x5 : Int32) (x6 : Int32) (f : St) : Prop :=
  (((f 99 0) ≤ x6 → K148 x1 x2 x3 x4 x5 f) ∧ (¬ (f 99 0) ≤ x6 → ((x6 = x1 → wbX7_worthNow_142 K36 K148 Q x1 x2 x3 x4 x5 x6 f) ∧ (¬ x6 = x1 → (vp_in x6 6 ∧ (¬ (f 99 6) = (0 : Int32) ∧ ((¬ ((i_shr (f 52 (Int32.toNatClampNeg x6)) (i_rem ((x3 + (f 99 6)) - (1 : Int32)) (f 99 6))) &&& (1 : Int32)) = (1 : Int32) → wbX7_worthNow_83 K36 K148 Q x1 x2 x3 x4 x5 x6 (0 : Int32) f) ∧ (((i_shr (f 52 (Int32.toNatClampNeg x6)) (i_rem ((x3 + (f 99 6)) - (1 : Int32)) (f 99 6))) &&& (1 : Int32)) = (1 : Int32) → wbX7_worthNow_83 K36 K148 Q x1 x2 x3 x4 x5 x6 (1 : Int32) f))))))))
def wlX7_worthNow_36 (K148 : Int32 → Int32 → Int32 → Int32 → Int32 → St → Prop) (Q : Int32 → St → Prop) : Nat → Int32 → Int32 → Int32 → Int32 → Int32 → Int32 → St → Prop
  | 0 => fun _ _ _ _ _ _ _ => False
  | n + 1 => wbX7_worthNow_36 (wlX7_worthNow_36 K148 Q n) K148 Q
def wbX7_worthNow_4 (K4 : Int32 → Int32 → Int32 → St → Prop) (Q : Int32 → St → Prop) (x1 : Int32) (x2 : Int32) (x3 : Int32) (f : St) : Prop :=
  (((f 99 6) ≤ x3 → Q x2 f) ∧ (¬ (f 99 6) ≤ x3 → (vp_in x1 6 ∧ ((¬ ((i_shr (f 52 (Int32.toNatClampNeg x1)) x3) &&& (1 : Int32)) = (1 : Int32) → wbX7_worthNow_161 K4 Q x1 x2 x3 f) ∧ (((i_shr (f 52 (Int32.toNatClampNeg x1)) x3) &&& (1 : Int32)) = (1 : Int32) → (∃ n : Nat, wlX7_worthNow_36 (fun (x1 : Int32) (x2 : Int32) (x3 : Int32) (x4 : Int32) (x5 : Int32) (f : St) => (wX7_worthBy f x1 x3 x4 x5 (fun r_5 f_4 => (∀ x2_6 : Int32, x2_6 = (x2 + r_5) → wbX7_worthNow_161 K4 Q x1 x2_6 x3 f_4)))) Q n x1 x2 x3 (99 : Int32) (0 : Int32) (0 : Int32) f))))))
def wlX7_worthNow_4  (Q : Int32 → St → Prop) : Nat → Int32 → Int32 → Int32 → St → Prop
  | 0 => fun _ _ _ _ => False
  | n + 1 => wbX7_worthNow_4 (wlX7_worthNow_4  Q n) Q
def wX7_worthNow (f : St) (x1 : Int32) (Q : Int32 → St → Prop) : Prop :=
  (∃ n : Nat, wlX7_worthNow_4  Q n x1 (0 : Int32) (0 : Int32) f)
def wbX7_worthIn_50  (Q : Int32 → St → Prop) (x3 : Int32) (f : St) : Prop :=
  Q (x3 - (2 : Int32)) f
def wbX7_worthIn_28  (Q : Int32 → St → Prop) (x1 : Int32) (t0 : Int32) (f : St) : Prop :=
  ((¬ x1 = (2 : Int32) → ((x1 = (3 : Int32) → wbX7_worthIn_50  Q t0 f) ∧ (¬ x1 = (3 : Int32) → ((¬ x1 = (4 : Int32) → ((¬ x1 = (5 : Int32) → Q t0 f) ∧ (x1 = (5 : Int32) → Q (t0 + (1 : Int32)) f))) ∧ (x1 = (4 : Int32) → wbX7_worthIn_50  Q t0 f))))) ∧ (x1 = (2 : Int32) → Q (t0 / (2 : Int32)) f))
def wbX7_worthIn_23  (Q : Int32 → St → Prop) (x1 : Int32) (x2 : Int32) (f : St) : Prop :=
  (wX7_worthNow f x2 (fun r_2 f_1 => wbX7_worthIn_28  Q x1 r_2 f_1))
def wbX7_worthIn_19  (Q : Int32 → St → Prop) (x1 : Int32) (f : St) : Prop :=
  wbX7_worthIn_28  Q x1 (-1 : Int32) f
def wX7_worthIn (f : St) (x1 : Int32) (x2 : Int32) (Q : Int32 → St → Prop) : Prop :=
  (vp_in x2 6 ∧ ((¬ (f 52 (Int32.toNatClampNeg x2)) = (0 : Int32) → wbX7_worthIn_23  Q x1 x2 f) ∧ ((f 52 (Int32.toNatClampNeg x2)) = (0 : Int32) → ((x1 = (1 : Int32) → wbX7_worthIn_19  Q x1 f) ∧ (¬ x1 = (1 : Int32) → ((¬ x1 = (5 : Int32) → wbX7_worthIn_23  Q x1 x2 f) ∧ (x1 = (5 : Int32) → wbX7_worthIn_19  Q x1 f)))))))
def wbX7_worthAll_32 (K5 : Int32 → Int32 → Int32 → Int32 → St → Prop) (Q : Int32 → St → Prop) (x1 : Int32) (x2 : Int32) (x4 : Int32) (t0 : Int32) (t1 : Int32) (f : St) : Prop :=
  (∀ x3_3 : Int32, x3_3 = (t1 + t0) → (∀ x4_4 : Int32, x4_4 = x4 + (1 : Int32) → K5 x1 x2 x3_3 x4_4 f))
def wbX7_worthAll_5 (K5 : Int32 → Int32 → Int32 → Int32 → St → Prop) (Q : Int32 → St → Prop) (x1 : Int32) (x2 : Int32) (x3 : Int32) (x4 : Int32) (f : St) : Prop :=
  (((f 99 0) ≤ x4 → Q x3 f) ∧ (¬ (f 99 0) ≤ x4 → ((¬ x4 = x2 → (wX7_worthIn f x1 x4 (fun r_2 f_1 => wbX7_worthAll_32 K5 Q x1 x2 x4 r_2 x3 f_1))) ∧ (x4 = x2 → wbX7_worthAll_32 K5 Q x1 x2 x4 (0 : Int32) x3 f))))
def wlX7_worthAll_5  (Q : Int32 → St → Prop) : Nat → Int32 → Int32 → Int32 → Int32 → St → Prop
  | 0 => fun _ _ _ _ _ => False
  | n + 1 => wbX7_worthAll_5 (wlX7_worthAll_5  Q n) Q
def wX7_worthAll (f : St) (x1 : Int32) (x2 : Int32) (Q : Int32 → St → Prop) : Prop :=
  (∃ n : Nat, wlX7_worthAll_5  Q n x1 x2 (0 : Int32) (0 : Int32) f)
def wbX7_judge_32  (Q : Int64 → St → Prop) (x1 : Int32) (x2 : Int32) (x3 : Int32) (f : St) : Prop :=
  (wX7_spreads f  (fun f_5 => (wX7_laysNow f_5 x1 x2 (fun f_6 => ((¬ x3 = (-1 : Int32) → (vp_in x1 12 ∧ (wX7_worthIn f_6 (f_6 17 (Int32.toNatClampNeg x1)) x3 (fun r_8 f_7 => Q (Int32.toInt64 r_8) f_7)))) ∧ (x3 = (-1 : Int32) → (vp_in x1 12 ∧ (wX7_worthAll f_6 (f_6 17 (Int32.toNatClampNeg x1)) (-1 : Int32) (fun r_10 f_9 => Q (Int32.toInt64 r_10) f_9)))))))))
def wX7_judge (f : St) (x1 : Int32) (x2 : Int32) (x3 : Int32) (Q : Int64 → St → Prop) : Prop :=
  (wX7_isGiving f x1 (fun r_2 f_1 => ((r_2 = (0 : Int32) → Q (-4611686018427387904 : Int64) f_1) ∧ (¬ r_2 = (0 : Int32) → (wX7_isWeek f_1 x2 (fun r_4 f_3 => ((r_4 = (0 : Int32) → Q (-4611686018427387904 : Int64) f_3) ∧ (¬ r_4 = (0 : Int32) → ((x3 = (-1 : Int32) → wbX7_judge_32  Q x1 x2 x3 f_3) ∧ (¬ x3 = (-1 : Int32) → (wX7_isTown f_3 x3 (fun r_12 f_11 => ((¬ r_12 = (0 : Int32) → wbX7_judge_32  Q x1 x2 x3 f_11) ∧ (r_12 = (0 : Int32) → Q (-4611686018427387904 : Int64) f_11))))))))))))))
def wX7_givingTold (f : St) (x1 : Int32) (x2 : Int32) (Q : Int32 → St → Prop) : Prop :=
  (wX7_isGiving f x1 (fun r_2 f_1 => ((¬ r_2 = (0 : Int32) → ((¬ x2 = (0 : Int32) → ((¬ x2 = (1 : Int32) → ((¬ x2 = (2 : Int32) → Q (-7 : Int32) f_1) ∧ (x2 = (2 : Int32) → (vp_in x1 12 ∧ ((¬ (f_1 17 (Int32.toNatClampNeg x1)) = (5 : Int32) → Q (1 : Int32) f_1) ∧ ((f_1 17 (Int32.toNatClampNeg x1)) = (5 : Int32) → Q (0 : Int32) f_1)))))) ∧ (x2 = (1 : Int32) → (vp_in x1 12 ∧ Q (f_1 18 (Int32.toNatClampNeg x1)) f_1)))) ∧ (x2 = (0 : Int32) → (vp_in x1 12 ∧ Q (f_1 17 (Int32.toNatClampNeg x1)) f_1)))) ∧ (r_2 = (0 : Int32) → Q (-5 : Int32) f_1))))
def wX7_all (f : St)  (Q : Int32 → St → Prop) : Prop :=
  Q ((i_shl (1 : Int32) (f 99 0)) - (1 : Int32)) f
def wbX7_isFree_2 (K2 : Int32 → Int32 → St → Prop) (Q : Int32 → St → Prop) (x1 : Int32) (x2 : Int32) (f : St) : Prop :=
  ((x1 < x2 → Q (1 : Int32) f) ∧ (¬ x1 < x2 → (wX7_doBar f x2 x1 (fun r_2 f_1 => ((r_2 = (0 : Int32) → (∀ x2_3 : Int32, x2_3 = x2 + (1 : Int32) → K2 x1 x2_3 f_1)) ∧ (¬ r_2 = (0 : Int32) → Q (0 : Int32) f_1))))))
def wlX7_isFree_2  (Q : Int32 → St → Prop) : Nat → Int32 → Int32 → St → Prop
  | 0 => fun _ _ _ => False
  | n + 1 => wbX7_isFree_2 (wlX7_isFree_2  Q n) Q
def wX7_isFree (f : St) (x1 : Int32) (Q : Int32 → St → Prop) : Prop :=
  (∃ n : Nat, wlX7_isFree_2  Q n x1 (0 : Int32) f)
def wbX7_nextWay_118 (K118 : Int32 → Int32 → St → Prop) (K154 : Int32 → Int32 → St → Prop) (Q : Int32 → St → Prop) (x1 : Int32) (x3 : Int32) (f : St) : Prop :=
  (vp_in x3 6 ∧ (((i_shl (1 : Int32) (f 99 6)) ≤ (f 52 (Int32.toNatClampNeg x3)) → K154 x1 x3 f) ∧ (¬ (i_shl (1 : Int32) (f 99 6)) ≤ (f 52 (Int32.toNatClampNeg x3)) → (wX7_isFree f x3 (fun r_3 f_2 => ((¬ r_3 = (0 : Int32) → K154 x1 x3 f_2) ∧ (r_3 = (0 : Int32) → (vp_in x3 6 ∧ (vp_in x3 6 ∧ (∀ f_4 : St, f_4 = upd2 f_2 52 (Int32.toNatClampNeg x3) (i_shl (f_2 52 (Int32.toNatClampNeg x3)) (1 : Int32)) → K118 x1 x3 f_4))))))))))
def wlX7_nextWay_118 (K154 : Int32 → Int32 → St → Prop) (Q : Int32 → St → Prop) : Nat → Int32 → Int32 → St → Prop
  | 0 => fun _ _ _ => False
  | n + 1 => wbX7_nextWay_118 (wlX7_nextWay_118 K154 Q n) K154 Q
def wbX7_nextWay_208 (K48 : Int32 → Int32 → Int32 → St → Prop) (K213 : Int32 → St → Prop) (Q : Int32 → St → Prop) (x1 : Int32) (x4 : Int32) (t0 : Int32) (t1 : Int32) (f : St) : Prop :=
  (∀ x3_6 : Int32, x3_6 = (t1 + t0) → K48 x1 x3_6 x4 f)
def wbX7_nextWay_196 (K48 : Int32 → Int32 → Int32 → St → Prop) (K213 : Int32 → St → Prop) (Q : Int32 → St → Prop) (x1 : Int32) (x3 : Int32) (x4 : Int32) (t0 : Int32) (t1 : Int32) (f : St) : Prop :=
  (vp_in t1 6 ∧ (∀ f_5 : St, f_5 = upd2 f 52 (Int32.toNatClampNeg t1) t0 → ((x4 = (0 : Int32) → wbX7_nextWay_208 K48 K213 Q x1 x4 (-1 : Int32) x3 f_5) ∧ (¬ x4 = (0 : Int32) → wbX7_nextWay_208 K48 K213 Q x1 x4 (1 : Int32) x3 f_5))))
def wbX7_nextWay_174 (K48 : Int32 → Int32 → Int32 → St → Prop) (K213 : Int32 → St → Prop) (Q : Int32 → St → Prop) (x1 : Int32) (x3 : Int32) (t0 : Int32) (f : St) : Prop :=
  ((t0 = (0 : Int32) → wbX7_nextWay_196 K48 K213 Q x1 x3 t0 (0 : Int32) x3 f) ∧ (¬ t0 = (0 : Int32) → (vp_in x3 6 ∧ wbX7_nextWay_196 K48 K213 Q x1 x3 t0 (f 52 (Int32.toNatClampNeg x3)) x3 f)))
def wbX7_nextWay_154 (K48 : Int32 → Int32 → Int32 → St → Prop) (K213 : Int32 → St → Prop) (Q : Int32 → St → Prop) (x1 : Int32) (x3 : Int32) (f : St) : Prop :=
  (vp_in x3 6 ∧ (((i_shl (1 : Int32) (f 99 6)) ≤ (f 52 (Int32.toNatClampNeg x3)) → wbX7_nextWay_174 K48 K213 Q x1 x3 (0 : Int32) f) ∧ (¬ (i_shl (1 : Int32) (f 99 6)) ≤ (f 52 (Int32.toNatClampNeg x3)) → wbX7_nextWay_174 K48 K213 Q x1 x3 (1 : Int32) f)))
def wbX7_nextWay_117 (K48 : Int32 → Int32 → Int32 → St → Prop) (K213 : Int32 → St → Prop) (Q : Int32 → St → Prop) (x1 : Int32) (x3 : Int32) (t0 : Int32) (t1 : Int32) (f : St) : Prop :=
  (vp_in t1 6 ∧ (∀ f_1 : St, f_1 = upd2 f 52 (Int32.toNatClampNeg t1) t0 → (∃ n : Nat, wlX7_nextWay_118 (fun (x1 : Int32) (x3 : Int32) (f : St) => wbX7_nextWay_154 K48 K213 Q x1 x3 f) Q n x1 x3 f_1)))
def wbX7_nextWay_86 (K48 : Int32 → Int32 → Int32 → St → Prop) (K213 : Int32 → St → Prop) (Q : Int32 → St → Prop) (x1 : Int32) (x4 : Int32) (t0 : Int32) (t1 : Int32) (f : St) : Prop :=
  (∀ x3_8 : Int32, x3_8 = (t1 + t0) → K48 x1 x3_8 x4 f)
def wbX7_nextWay_48 (K48 : Int32 → Int32 → Int32 → St → Prop) (K213 : Int32 → St → Prop) (Q : Int32 → St → Prop) (x1 : Int32) (x3 : Int32) (x4 : Int32) (f : St) : Prop :=
  ((x3 < (0 : Int32) → K213 x3 f) ∧ (¬ x3 < (0 : Int32) → (((f 99 0) ≤ x3 → K213 x3 f) ∧ (¬ (f 99 0) ≤ x3 → ((¬ ((i_shr x1 x3) &&& (1 : Int32)) = (0 : Int32) → (vp_in x3 6 ∧ ((¬ (f 52 (Int32.toNatClampNeg x3)) = (0 : Int32) → (vp_in x3 6 ∧ wbX7_nextWay_117 K48 K213 Q x1 x3 (i_shl (f 52 (Int32.toNatClampNeg x3)) (1 : Int32)) x3 f)) ∧ ((f 52 (Int32.toNatClampNeg x3)) = (0 : Int32) → wbX7_nextWay_117 K48 K213 Q x1 x3 (1 : Int32) x3 f)))) ∧ (((i_shr x1 x3) &&& (1 : Int32)) = (0 : Int32) → (vp_in x3 6 ∧ (∀ f_7 : St, f_7 = upd2 f 52 (Int32.toNatClampNeg x3) (0 : Int32) → ((x4 = (0 : Int32) → wbX7_nextWay_86 K48 K213 Q x1 x4 (-1 : Int32) x3 f_7) ∧ (¬ x4 = (0 : Int32) → wbX7_nextWay_86 K48 K213 Q x1 x4 (1 : Int32) x3 f_7))))))))))
def wlX7_nextWay_48 (K213 : Int32 → St → Prop) (Q : Int32 → St → Prop) : Nat → Int32 → Int32 → Int32 → St → Prop
  | 0 => fun _ _ _ _ => False
  | n + 1 => wbX7_nextWay_48 (wlX7_nextWay_48 K213 Q n) K213 Q
def wbX7_nextWay_213  (Q : Int32 → St → Prop) (x3 : Int32) (f : St) : Prop :=
  ((¬ x3 = (f 99 0) → Q (0 : Int32) f) ∧ (x3 = (f 99 0) → Q (1 : Int32) f))
def wbX7_nextWay_25 (K25 : Int32 → Int32 → Int32 → Int32 → St → Prop) (K48 : Int32 → Int32 → Int32 → St → Prop) (Q : Int32 → St → Prop) (x1 : Int32) (x3 : Int32) (x4 : Int32) (x5 : Int32) (f : St) : Prop :=
  (((f 99 0) ≤ x5 → K48 x1 x3 x4 f) ∧ (¬ (f 99 0) ≤ x5 → (vp_in x5 6 ∧ (∀ f_9 : St, f_9 = upd2 f 52 (Int32.toNatClampNeg x5) (0 : Int32) → (∀ x5_10 : Int32, x5_10 = x5 + (1 : Int32) → K25 x1 x3 x4 x5_10 f_9)))))
def wlX7_nextWay_25 (K48 : Int32 → Int32 → Int32 → St → Prop) (Q : Int32 → St → Prop) : Nat → Int32 → Int32 → Int32 → Int32 → St → Prop
  | 0 => fun _ _ _ _ _ => False
  | n + 1 => wbX7_nextWay_25 (wlX7_nextWay_25 K48 Q n) K48 Q
def wbX7_nextWay_14  (Q : Int32 → St → Prop) (x1 : Int32) (x2 : Int32) (t0 : Int32) (f : St) : Prop :=
  ((x2 = (0 : Int32) → (∃ n : Nat, wlX7_nextWay_48 (fun (x3 : Int32) (f : St) => wbX7_nextWay_213  Q x3 f) Q n x1 t0 x2 f)) ∧ (¬ x2 = (0 : Int32) → (∃ n : Nat, wlX7_nextWay_25 (fun (x1 : Int32) (x3 : Int32) (x4 : Int32) (f : St) => (∃ n : Nat, wlX7_nextWay_48 (fun (x3 : Int32) (f : St) => wbX7_nextWay_213  Q x3 f) Q n x1 x3 x4 f)) Q n x1 t0 x2 (0 : Int32) f)))
def wX7_nextWay (f : St) (x1 : Int32) (x2 : Int32) (Q : Int32 → St → Prop) : Prop :=
  ((x2 = (0 : Int32) → wbX7_nextWay_14  Q x1 x2 ((f 99 0) - (1 : Int32)) f) ∧ (¬ x2 = (0 : Int32) → wbX7_nextWay_14  Q x1 x2 (0 : Int32) f))
def wbX7_can_16 (K16 : Int32 → Int32 → St → Prop) (Q : Int32 → St → Prop) (x1 : Int32) (x2 : Int32) (f : St) : Prop :=
  ((x2 = (0 : Int32) → Q x1 f) ∧ (¬ x2 = (0 : Int32) → (((100000 : Int32) ≤ x1 → Q x1 f) ∧ (¬ (100000 : Int32) ≤ x1 → (∀ x1_6 : Int32, x1_6 = x1 + (1 : Int32) → (wX7_all f  (fun r_8 f_7 => (wX7_nextWay f_7 r_8 (0 : Int32) (fun r_10 f_9 => K16 x1_6 r_10 f_9)))))))))
def wlX7_can_16  (Q : Int32 → St → Prop) : Nat → Int32 → Int32 → St → Prop
  | 0 => fun _ _ _ => False
  | n + 1 => wbX7_can_16 (wlX7_can_16  Q n) Q
def wX7_can (f : St)  (Q : Int32 → St → Prop) : Prop :=
  (wX7_looks f  (fun f_1 => (wX7_all f_1  (fun r_3 f_2 => (wX7_nextWay f_2 r_3 (1 : Int32) (fun r_5 f_4 => (∃ n : Nat, wlX7_can_16  Q n (0 : Int32) r_5 f_4)))))))
def wbX7_dayIn_2 (K2 : Int32 → Int32 → St → Prop) (Q : Int32 → St → Prop) (x0 : Int32) (x1 : Int32) (f : St) : Prop :=
  (((i_shr x0 x1) = (1 : Int32) → Q x1 f) ∧ (¬ (i_shr x0 x1) = (1 : Int32) → (∀ x1_1 : Int32, x1_1 = x1 + (1 : Int32) → K2 x0 x1_1 f)))
def wlX7_dayIn_2  (Q : Int32 → St → Prop) : Nat → Int32 → Int32 → St → Prop
  | 0 => fun _ _ _ => False
  | n + 1 => wbX7_dayIn_2 (wlX7_dayIn_2  Q n) Q
def wX7_dayIn (f : St) (x0 : Int32) (Q : Int32 → St → Prop) : Prop :=
  (∃ n : Nat, wlX7_dayIn_2  Q n x0 (0 : Int32) f)
def wX7_keptWorth (f : St) (x1 : Int32) (x2 : Int32) (x3 : Int32) (x4 : Int32) (Q : Int32 → St → Prop) : Prop :=
  (∀ x5_1 : Int32, x5_1 = ((((((x1 * (7 : Int32)) + x2) * (100 : Int32)) + x3) * (7 : Int32)) + x4) → (vp_in x5_1 29400 ∧ ((¬ (f 54 (Int32.toNatClampNeg x5_1)) = (0 : Int32) → (vp_in x5_1 29400 ∧ Q (f 53 (Int32.toNatClampNeg x5_1)) f)) ∧ ((f 54 (Int32.toNatClampNeg x5_1)) = (0 : Int32) → (wX7_worthBy f x1 x2 x3 x4 (fun r_3 f_2 => (vp_in x5_1 29400 ∧ (∀ f_4 : St, f_4 = upd2 f_2 53 (Int32.toNatClampNeg x5_1) r_3 → (vp_in x5_1 29400 ∧ (∀ f_5 : St, f_5 = upd2 f_4 54 (Int32.toNatClampNeg x5_1) (1 : Int32) → (vp_in x5_1 29400 ∧ Q (f_5 53 (Int32.toNatClampNeg x5_1)) f_5)))))))))))
def wbX7_worthWay_141 (K49 : Int32 → Int32 → Int32 → Int32 → Int32 → Int32 → Int32 → St → Prop) (K150 : Int32 → Int32 → Int32 → Int32 → Int32 → St → Prop) (Q : Int32 → St → Prop) (x1 : Int32) (x2 : Int32) (x3 : Int32) (x4 : Int32) (x5 : Int32) (x7 : Int32) (t0 : Int32) (t1 : Int32) (f : St) : Prop :=
  (∀ x6_4 : Int32, x6_4 = (t1 + t0) → (∀ x7_5 : Int32, x7_5 = x7 + (1 : Int32) → K49 x1 x2 x3 x4 x5 x6_4 x7_5 f))
def wbX7_worthWay_140 (K49 : Int32 → Int32 → Int32 → Int32 → Int32 → Int32 → Int32 → St → Prop) (K150 : Int32 → Int32 → Int32 → Int32 → Int32 → St → Prop) (Q : Int32 → St → Prop) (x1 : Int32) (x2 : Int32) (x3 : Int32) (x4 : Int32) (x5 : Int32) (x7 : Int32) (t0 : Int32) (f : St) : Prop :=
  wbX7_worthWay_141 K49 K150 Q x1 x2 x3 x4 x5 x7 (0 : Int32) t0 f
def wbX7_worthWay_110 (K49 : Int32 → Int32 → Int32 → Int32 → Int32 → Int32 → Int32 → St → Prop) (K150 : Int32 → Int32 → Int32 → Int32 → Int32 → St → Prop) (Q : Int32 → St → Prop) (x1 : Int32) (x2 : Int32) (x3 : Int32) (x4 : Int32) (x6 : Int32) (x7 : Int32) (t0 : Int32) (f : St) : Prop :=
  ((x7 = x2 → wbX7_worthWay_140 K49 K150 Q x1 x2 x3 x4 t0 x7 x6 f) ∧ (¬ x7 = x2 → (vp_in x7 6 ∧ (vp_in x2 6 ∧ ((¬ (f 52 (Int32.toNatClampNeg x7)) = (f 52 (Int32.toNatClampNeg x2)) → wbX7_worthWay_140 K49 K150 Q x1 x2 x3 x4 t0 x7 x6 f) ∧ ((f 52 (Int32.toNatClampNeg x7)) = (f 52 (Int32.toNatClampNeg x2)) → wbX7_worthWay_141 K49 K150 Q x1 x2 x3 x4 t0 x7 (1 : Int32) x6 f))))))
def wbX7_worthWay_108 (K49 : Int32 → Int32 → Int32 → Int32 → Int32 → Int32 → Int32 → St → Prop) (K150 : Int32 → Int32 → Int32 → Int32 → Int32 → St → Prop) (Q : Int32 → St → Prop) (x1 : Int32) (x2 : Int32) (x3 : Int32) (x4 : Int32) (x5 : Int32) (x6 : Int32) (x7 : Int32) (f : St) : Prop :=
  wbX7_worthWay_110 K49 K150 Q x1 x2 x3 x4 x6 x7 x5 f
def wbX7_worthWay_49 (K49 : Int32 → Int32 → Int32 → Int32 → Int32 → Int32 → Int32 → St → Prop) (K150 : Int32 → Int32 → Int32 → Int32 → Int32 → St → Prop) (Q : Int32 → St → Prop) (x1 : Int32) (x2 : Int32) (x3 : Int32) (x4 : Int32) (x5 : Int32) (x6 : Int32) (x7 : Int32) (f : St) : Prop :=
  (((f 99 0) ≤ x7 → K150 x1 x2 x3 x5 x6 f) ∧ (¬ (f 99 0) ≤ x7 → ((x7 = x2 → wbX7_worthWay_108 K49 K150 Q x1 x2 x3 x4 x5 x6 x7 f) ∧ (¬ x7 = x2 → (vp_in x7 6 ∧ ((¬ (f 52 (Int32.toNatClampNeg x7)) = x4 → wbX7_worthWay_108 K49 K150 Q x1 x2 x3 x4 x5 x6 x7 f) ∧ ((f 52 (Int32.toNatClampNeg x7)) = x4 → (vp_in (((6 : Int32) * x2) + x7) 36 ∧ ((x5 ≤ (f 39 (Int32.toNatClampNeg (((6 : Int32) * x2) + x7))) → wbX7_worthWay_108 K49 K150 Q x1 x2 x3 x4 x5 x6 x7 f) ∧ (¬ x5 ≤ (f 39 (Int32.toNatClampNeg (((6 : Int32) * x2) + x7))) → (vp_in (((6 : Int32) * x2) + x7) 36 ∧ wbX7_worthWay_110 K49 K150 Q x1 x2 x3 x4 x6 x7 (f 39 (Int32.toNatClampNeg (((6 : Int32) * x2) + x7))) f)))))))))))
def wlX7_worthWay_49 (K150 : Int32 → Int32 → Int32 → Int32 → Int32 → St → Prop) (Q : Int32 → St → Prop) : Nat → Int32 → Int32 → Int32 → Int32 → Int32 → Int32 → Int32 → St → Prop
  | 0 => fun _ _ _ _ _ _ _ _ => False
  | n + 1 => wbX7_worthWay_49 (wlX7_worthWay_49 K150 Q n) K150 Q
def wbX7_worthWay_4 (K4 : Int32 → Int32 → St → Prop) (Q : Int32 → St → Prop) (x1 : Int32) (x2 : Int32) (f : St) : Prop :=
  (((f 99 0) ≤ x2 → Q x1 f) ∧ (¬ (f 99 0) ≤ x2 → (vp_in x2 6 ∧ (wX7_dayIn f (f 52 (Int32.toNatClampNeg x2)) (fun r_2 f_1 => (¬ (f_1 99 6) = (0 : Int32) ∧ (∀ x4_3 : Int32, x4_3 = (i_shl (1 : Int32) (i_rem ((r_2 + (f_1 99 6)) - (1 : Int32)) (f_1 99 6))) → (∃ n : Nat, wlX7_worthWay_49 (fun (x1 : Int32) (x2 : Int32) (x3 : Int32) (x5 : Int32) (x6 : Int32) (f : St) => (wX7_keptWorth f x2 x3 x5 x6 (fun r_7 f_6 => (∀ x1_8 : Int32, x1_8 = (x1 + r_7) → (∀ x2_9 : Int32, x2_9 = x2 + (1 : Int32) → K4 x1_8 x2_9 f_6))))) Q n x1 x2 r_2 x4_3 (99 : Int32) (0 : Int32) (0 : Int32) f_1))))))))
def wlX7_worthWay_4  (Q : Int32 → St → Prop) : Nat → Int32 → Int32 → St → Prop
  | 0 => fun _ _ _ => False
  | n + 1 => wbX7_worthWay_4 (wlX7_worthWay_4  Q n) Q
def wX7_worthWay (f : St)  (Q : Int32 → St → Prop) : Prop :=
  (∃ n : Nat, wlX7_worthWay_4  Q n (0 : Int32) (0 : Int32) f)
def wbX7_others_51 (K4 : Int32 → Int32 → Int32 → St → Prop) (Q : Int32 → St → Prop) (x1 : Int32) (x3 : Int32) (t0 : Int32) (t1 : Int32) (f : St) : Prop :=
  (∀ x2_1 : Int32, x2_1 = (t1 + t0) → (∀ x3_2 : Int32, x3_2 = x3 + (1 : Int32) → K4 x1 x2_1 x3_2 f))
def wbX7_others_50 (K4 : Int32 → Int32 → Int32 → St → Prop) (Q : Int32 → St → Prop) (x1 : Int32) (x3 : Int32) (t0 : Int32) (f : St) : Prop :=
  wbX7_others_51 K4 Q x1 x3 (1 : Int32) t0 f
def wbX7_others_4 (K4 : Int32 → Int32 → Int32 → St → Prop) (Q : Int32 → St → Prop) (x1 : Int32) (x2 : Int32) (x3 : Int32) (f : St) : Prop :=
  (((f 99 0) ≤ x3 → Q x2 f) ∧ (¬ (f 99 0) ≤ x3 → (vp_in x1 12 ∧ (((f 18 (Int32.toNatClampNeg x1)) ≤ x3 → wbX7_others_50 K4 Q x1 x3 x2 f) ∧ (¬ (f 18 (Int32.toNatClampNeg x1)) ≤ x3 → (vp_in (((6 : Int32) * x1) + x3) 72 ∧ (vp_in x3 6 ∧ (wX7_dayIn f (f 52 (Int32.toNatClampNeg x3)) (fun r_4 f_3 => ((¬ (f 19 (Int32.toNatClampNeg (((6 : Int32) * x1) + x3))) = r_4 → wbX7_others_50 K4 Q x1 x3 x2 f_3) ∧ ((f 19 (Int32.toNatClampNeg (((6 : Int32) * x1) + x3))) = r_4 → wbX7_others_51 K4 Q x1 x3 (0 : Int32) x2 f_3)))))))))))
def wlX7_others_4  (Q : Int32 → St → Prop) : Nat → Int32 → Int32 → Int32 → St → Prop
  | 0 => fun _ _ _ _ => False
  | n + 1 => wbX7_others_4 (wlX7_others_4  Q n) Q
def wX7_others (f : St) (x1 : Int32) (Q : Int32 → St → Prop) : Prop :=
  (∃ n : Nat, wlX7_others_4  Q n x1 (0 : Int32) (0 : Int32) f)
def wbX7_keeps_15 (K15 : Int32 → St → Prop) (Q : St → Prop) (x1 : Int32) (f : St) : Prop :=
  (((f 99 0) ≤ x1 → Q f) ∧ (¬ (f 99 0) ≤ x1 → (vp_in x1 6 ∧ (wX7_dayIn f (f 52 (Int32.toNatClampNeg x1)) (fun r_4 f_3 => (vp_in x1 6 ∧ (∀ f_5 : St, f_5 = upd2 f_3 22 (Int32.toNatClampNeg x1) r_4 → (∀ x1_6 : Int32, x1_6 = x1 + (1 : Int32) → K15 x1_6 f_5))))))))
def wlX7_keeps_15  (Q : St → Prop) : Nat → Int32 → St → Prop
  | 0 => fun _ _ => False
  | n + 1 => wbX7_keeps_15 (wlX7_keeps_15  Q n) Q
def wX7_keeps (f : St)  (Q : St → Prop) : Prop :=
  (∀ f_1 : St, f_1 = upd2 f 99 20 (1 : Int32) → (∀ f_2 : St, f_2 = upd2 f_1 99 21 (f_1 99 0) → (∃ n : Nat, wlX7_keeps_15  Q n (0 : Int32) f_2)))
def wbX7_find_37 (K37 : Int32 → Int32 → Int32 → St → Prop) (K62 : Int32 → Int32 → St → Prop) (Q : Int64 → St → Prop) (x1 : Int32) (x2 : Int32) (x3 : Int32) (f : St) : Prop :=
  (((29400 : Int32) ≤ x3 → K62 x1 x2 f) ∧ (¬ (29400 : Int32) ≤ x3 → ((¬ x1 = (2 : Int32) → K62 x1 x2 f) ∧ (x1 = (2 : Int32) → (vp_in x3 29400 ∧ (∀ f_5 : St, f_5 = upd2 f 54 (Int32.toNatClampNeg x3) (0 : Int32) → (∀ x3_6 : Int32, x3_6 = x3 + (1 : Int32) → K37 x1 x2 x3_6 f_5)))))))
def wlX7_find_37 (K62 : Int32 → Int32 → St → Prop) (Q : Int64 → St → Prop) : Nat → Int32 → Int32 → Int32 → St → Prop
  | 0 => fun _ _ _ _ => False
  | n + 1 => wbX7_find_37 (wlX7_find_37 K62 Q n) K62 Q
def wbX7_find_166 (K75 : Int32 → Int32 → Int32 → Int32 → St → Prop) (K171 : Int32 → St → Prop) (Q : Int64 → St → Prop) (x1 : Int32) (x2 : Int32) (x3 : Int32) (t0 : Int32) (f : St) : Prop :=
  K75 x1 x2 x3 t0 f
def wbX7_find_165 (K75 : Int32 → Int32 → Int32 → Int32 → St → Prop) (K171 : Int32 → St → Prop) (Q : Int64 → St → Prop) (x1 : Int32) (x2 : Int32) (x3 : Int32) (f : St) : Prop :=
  wbX7_find_166 K75 K171 Q x1 x2 x3 (0 : Int32) f
def wbX7_find_144 (K75 : Int32 → Int32 → Int32 → Int32 → St → Prop) (K171 : Int32 → St → Prop) (Q : Int64 → St → Prop) (x1 : Int32) (x2 : Int32) (x3 : Int32) (f : St) : Prop :=
  ((x1 = (1 : Int32) → wbX7_find_165 K75 K171 Q x1 x2 x3 f) ∧ (¬ x1 = (1 : Int32) → (wX7_all f  (fun r_15 f_14 => (wX7_nextWay f_14 r_15 (0 : Int32) (fun r_17 f_16 => ((r_17 = (0 : Int32) → wbX7_find_165 K75 K171 Q x1 x2 x3 f_16) ∧ (¬ r_17 = (0 : Int32) → wbX7_find_166 K75 K171 Q x1 x2 x3 (1 : Int32) f_16))))))))
def wbX7_find_137 (K75 : Int32 → Int32 → Int32 → Int32 → St → Prop) (K171 : Int32 → St → Prop) (Q : Int64 → St → Prop) (x1 : Int32) (x2 : Int32) (x5 : Int32) (f : St) : Prop :=
  (wX7_keeps f  (fun f_13 => wbX7_find_144 K75 K171 Q x1 x2 x5 f_13))
def wbX7_find_126 (K75 : Int32 → Int32 → Int32 → Int32 → St → Prop) (K171 : Int32 → St → Prop) (Q : Int64 → St → Prop) (x1 : Int32) (x2 : Int32) (x3 : Int32) (x5 : Int32) (f : St) : Prop :=
  ((¬ x1 = (3 : Int32) → wbX7_find_144 K75 K171 Q x1 x2 x3 f) ∧ (x1 = (3 : Int32) → ((x3 ≤ x5 → wbX7_find_144 K75 K171 Q x1 x2 x3 f) ∧ (¬ x3 ≤ x5 → wbX7_find_137 K75 K171 Q x1 x2 x5 f))))
def wbX7_find_106 (K75 : Int32 → Int32 → Int32 → Int32 → St → Prop) (K171 : Int32 → St → Prop) (Q : Int64 → St → Prop) (x1 : Int32) (x2 : Int32) (x3 : Int32) (t0 : Int32) (f : St) : Prop :=
  (((f 99 20) = (0 : Int32) → wbX7_find_137 K75 K171 Q x1 x2 t0 f) ∧ (¬ (f 99 20) = (0 : Int32) → ((¬ x1 = (2 : Int32) → wbX7_find_126 K75 K171 Q x1 x2 x3 t0 f) ∧ (x1 = (2 : Int32) → ((x3 < t0 → wbX7_find_137 K75 K171 Q x1 x2 t0 f) ∧ (¬ x3 < t0 → wbX7_find_126 K75 K171 Q x1 x2 x3 t0 f))))))
def wbX7_find_75 (K75 : Int32 → Int32 → Int32 → Int32 → St → Prop) (K171 : Int32 → St → Prop) (Q : Int64 → St → Prop) (x1 : Int32) (x2 : Int32) (x3 : Int32) (x4 : Int32) (f : St) : Prop :=
  ((x4 = (0 : Int32) → K171 x3 f) ∧ (¬ x4 = (0 : Int32) → ((¬ x1 = (1 : Int32) → ((¬ x1 = (2 : Int32) → (wX7_others f x2 (fun r_12 f_11 => wbX7_find_106 K75 K171 Q x1 x2 x3 r_12 f_11))) ∧ (x1 = (2 : Int32) → (wX7_worthWay f  (fun r_19 f_18 => wbX7_find_106 K75 K171 Q x1 x2 x3 r_19 f_18))))) ∧ (x1 = (1 : Int32) → wbX7_find_106 K75 K171 Q x1 x2 x3 (1 : Int32) f))))
def wlX7_find_75 (K171 : Int32 → St → Prop) (Q : Int64 → St → Prop) : Nat → Int32 → Int32 → Int32 → Int32 → St → Prop
  | 0 => fun _ _ _ _ _ => False
  | n + 1 => wbX7_find_75 (wlX7_find_75 K171 Q n) K171 Q
def wbX7_find_62  (Q : Int64 → St → Prop) (x1 : Int32) (x2 : Int32) (f : St) : Prop :=
  (wX7_all f  (fun r_8 f_7 => (wX7_nextWay f_7 r_8 (1 : Int32) (fun r_10 f_9 => (∃ n : Nat, wlX7_find_75 (fun (x3 : Int32) (f : St) => (((f 99 20) = (0 : Int32) → Q (-4611686018427387903 : Int64) f) ∧ (¬ (f 99 20) = (0 : Int32) → Q (Int32.toInt64 x3) f))) Q n x1 x2 (0 : Int32) r_10 f_9)))))
def wbX7_find_26  (Q : Int64 → St → Prop) (x1 : Int32) (x2 : Int32) (f : St) : Prop :=
  (wX7_looks f  (fun f_3 => (∀ f_4 : St, f_4 = upd2 f_3 99 20 (0 : Int32) → (∃ n : Nat, wlX7_find_37 (fun (x1 : Int32) (x2 : Int32) (f : St) => wbX7_find_62  Q x1 x2 f) Q n x1 x2 (0 : Int32) f_4))))
def wX7_find (f : St) (x1 : Int32) (x2 : Int32) (Q : Int64 → St → Prop) : Prop :=
  (wX7_in f x1 (1 : Int32) (3 : Int32) (fun r_2 f_1 => ((r_2 = (0 : Int32) → Q (-4611686018427387904 : Int64) f_1) ∧ (¬ r_2 = (0 : Int32) → ((¬ x1 = (3 : Int32) → wbX7_find_26  Q x1 x2 f_1) ∧ (x1 = (3 : Int32) → (wX7_isGiving f_1 x2 (fun r_21 f_20 => ((¬ r_21 = (0 : Int32) → wbX7_find_26  Q x1 x2 f_20) ∧ (r_21 = (0 : Int32) → Q (-4611686018427387904 : Int64) f_20))))))))))
def wX7_foundDay (f : St) (x1 : Int32) (Q : Int32 → St → Prop) : Prop :=
  (((f 99 20) = (0 : Int32) → Q (-1 : Int32) f) ∧ (¬ (f 99 20) = (0 : Int32) → (wX7_in f x1 (0 : Int32) ((f 99 21) - (1 : Int32)) (fun r_2 f_1 => ((r_2 = (0 : Int32) → Q (-1 : Int32) f_1) ∧ (¬ r_2 = (0 : Int32) → (vp_in x1 6 ∧ Q (f_1 22 (Int32.toNatClampNeg x1)) f_1)))))))
def wbX7_least_46 (K9 : Int32 → Int32 → Int32 → St → Prop) (Q : Int32 → St → Prop) (x1 : Int32) (x3 : Int32) (t0 : Int32) (f : St) : Prop :=
  (∀ x3_10 : Int32, x3_10 = x3 + (1 : Int32) → K9 x1 t0 x3_10 f)
def wbX7_least_9 (K9 : Int32 → Int32 → Int32 → St → Prop) (Q : Int32 → St → Prop) (x1 : Int32) (x2 : Int32) (x3 : Int32) (f : St) : Prop :=
  (((7 : Int32) < x3 → (∀ f_2 : St, f_2 = upd2 f 99 6 x1 → Q x2 f_2)) ∧ (¬ (7 : Int32) < x3 → ((¬ x2 = (-1 : Int32) → (∀ f_3 : St, f_3 = upd2 f 99 6 x1 → Q x2 f_3)) ∧ (x2 = (-1 : Int32) → (∀ f_4 : St, f_4 = upd2 f 99 6 x3 → (wX7_looks f_4  (fun f_5 => (wX7_all f_5  (fun r_7 f_6 => (wX7_nextWay f_6 r_7 (1 : Int32) (fun r_9 f_8 => ((r_9 = (0 : Int32) → wbX7_least_46 K9 Q x1 x3 (-1 : Int32) f_8) ∧ (¬ r_9 = (0 : Int32) → wbX7_least_46 K9 Q x1 x3 x3 f_8)))))))))))))
def wlX7_least_9  (Q : Int32 → St → Prop) : Nat → Int32 → Int32 → Int32 → St → Prop
  | 0 => fun _ _ _ _ => False
  | n + 1 => wbX7_least_9 (wlX7_least_9  Q n) Q
def wX7_least (f : St)  (Q : Int32 → St → Prop) : Prop :=
  (∀ x1_1 : Int32, x1_1 = (f 99 6) → (∃ n : Nat, wlX7_least_9  Q n x1_1 (-1 : Int32) (2 : Int32) f))
def wbX7_ones_4 (K4 : Int32 → Int32 → Int32 → St → Prop) (Q : Int32 → St → Prop) (x0 : Int32) (x1 : Int32) (x2 : Int32) (f : St) : Prop :=
  (((6 : Int32) ≤ x2 → Q x1 f) ∧ (¬ (6 : Int32) ≤ x2 → (∀ x1_1 : Int32, x1_1 = (x1 + ((i_shr x0 x2) &&& (1 : Int32))) → (∀ x2_2 : Int32, x2_2 = x2 + (1 : Int32) → K4 x0 x1_1 x2_2 f))))
def wlX7_ones_4  (Q : Int32 → St → Prop) : Nat → Int32 → Int32 → Int32 → St → Prop
  | 0 => fun _ _ _ _ => False
  | n + 1 => wbX7_ones_4 (wlX7_ones_4  Q n) Q
def wX7_ones (f : St) (x0 : Int32) (Q : Int32 → St → Prop) : Prop :=
  (∃ n : Nat, wlX7_ones_4  Q n x0 (0 : Int32) (0 : Int32) f)
def wbX7_knot_42 (K8 : Int32 → Int32 → St → Prop) (Q : Int32 → St → Prop) (x1 : Int32) (x2 : Int32) (f : St) : Prop :=
  (∀ x2_6 : Int32, x2_6 = x2 + (1 : Int32) → K8 x1 x2_6 f)
def wbX7_knot_31 (K8 : Int32 → Int32 → St → Prop) (Q : Int32 → St → Prop) (x1 : Int32) (x2 : Int32) (f : St) : Prop :=
  (wX7_nextWay f x2 (1 : Int32) (fun r_5 f_4 => ((¬ r_5 = (0 : Int32) → wbX7_knot_42 K8 Q x1 x2 f_4) ∧ (r_5 = (0 : Int32) → wbX7_knot_42 K8 Q x2 x2 f_4))))
def wbX7_knot_8 (K8 : Int32 → Int32 → St → Prop) (Q : Int32 → St → Prop) (x1 : Int32) (x2 : Int32) (f : St) : Prop :=
  (wX7_all f  (fun r_3 f_2 => ((r_3 < x2 → Q x1 f_2) ∧ (¬ r_3 < x2 → ((x1 = (0 : Int32) → wbX7_knot_31 K8 Q x1 x2 f_2) ∧ (¬ x1 = (0 : Int32) → (wX7_ones f_2 x2 (fun r_8 f_7 => (wX7_ones f_7 x1 (fun r_10 f_9 => ((r_10 ≤ r_8 → wbX7_knot_42 K8 Q x1 x2 f_9) ∧ (¬ r_10 ≤ r_8 → wbX7_knot_31 K8 Q x1 x2 f_9))))))))))))
def wlX7_knot_8  (Q : Int32 → St → Prop) : Nat → Int32 → Int32 → St → Prop
  | 0 => fun _ _ _ => False
  | n + 1 => wbX7_knot_8 (wlX7_knot_8  Q n) Q
def wX7_knot (f : St)  (Q : Int32 → St → Prop) : Prop :=
  (wX7_looks f  (fun f_1 => (∃ n : Nat, wlX7_knot_8  Q n (0 : Int32) (1 : Int32) f_1)))
def wbX7_room_96 (K67 : Int32 → Int32 → Int32 → Int32 → Int32 → St → Prop) (K104 : Int32 → Int32 → Int32 → Int32 → St → Prop) (Q : Int32 → St → Prop) (x2 : Int32) (x4 : Int32) (x5 : Int32) (x7 : Int32) (t0 : Int32) (f : St) : Prop :=
  (∀ x7_10 : Int32, x7_10 = x7 + (1 : Int32) → K67 x2 x4 x5 t0 x7_10 f)
def wbX7_room_95 (K67 : Int32 → Int32 → Int32 → Int32 → Int32 → St → Prop) (K104 : Int32 → Int32 → Int32 → Int32 → St → Prop) (Q : Int32 → St → Prop) (x2 : Int32) (x4 : Int32) (x5 : Int32) (x7 : Int32) (f : St) : Prop :=
  wbX7_room_96 K67 K104 Q x2 x4 x5 x7 (0 : Int32) f
def wbX7_room_67 (K67 : Int32 → Int32 → Int32 → Int32 → Int32 → St → Prop) (K104 : Int32 → Int32 → Int32 → Int32 → St → Prop) (Q : Int32 → St → Prop) (x2 : Int32) (x4 : Int32) (x5 : Int32) (x6 : Int32) (x7 : Int32) (f : St) : Prop :=
  (((f 99 0) ≤ x7 → K104 x2 x4 x5 x6 f) ∧ (¬ (f 99 0) ≤ x7 → ((x6 = (0 : Int32) → wbX7_room_95 K67 K104 Q x2 x4 x5 x7 f) ∧ (¬ x6 = (0 : Int32) → (wX7_doBar f x7 x2 (fun r_12 f_11 => ((¬ r_12 = (0 : Int32) → wbX7_room_95 K67 K104 Q x2 x4 x5 x7 f_11) ∧ (r_12 = (0 : Int32) → wbX7_room_96 K67 K104 Q x2 x4 x5 x7 (1 : Int32) f_11))))))))
def wlX7_room_67 (K104 : Int32 → Int32 → Int32 → Int32 → St → Prop) (Q : Int32 → St → Prop) : Nat → Int32 → Int32 → Int32 → Int32 → Int32 → St → Prop
  | 0 => fun _ _ _ _ _ _ => False
  | n + 1 => wbX7_room_67 (wlX7_room_67 K104 Q n) K104 Q
def wbX7_room_119 (K42 : Int32 → Int32 → Int32 → St → Prop) (Q : Int32 → St → Prop) (x2 : Int32) (x5 : Int32) (t0 : Int32) (t1 : Int32) (f : St) : Prop :=
  (∀ x4_13 : Int32, x4_13 = (t1 ||| t0) → (∀ x5_14 : Int32, x5_14 = x5 + (1 : Int32) → K42 x2 x4_13 x5_14 f))
def wbX7_room_42 (K42 : Int32 → Int32 → Int32 → St → Prop) (Q : Int32 → St → Prop) (x2 : Int32) (x4 : Int32) (x5 : Int32) (f : St) : Prop :=
  (((f 99 6) ≤ x5 → Q x4 f) ∧ (¬ (f 99 6) ≤ x5 → (vp_in x2 6 ∧ (∀ f_9 : St, f_9 = upd2 f 52 (Int32.toNatClampNeg x2) (i_shl (1 : Int32) x5) → (∃ n : Nat, wlX7_room_67 (fun (x2 : Int32) (x4 : Int32) (x5 : Int32) (x6 : Int32) (f : St) => ((x6 = (0 : Int32) → wbX7_room_119 K42 Q x2 x5 (0 : Int32) x4 f) ∧ (¬ x6 = (0 : Int32) → wbX7_room_119 K42 Q x2 x5 (i_shl (1 : Int32) x5) x4 f))) Q n x2 x4 x5 (1 : Int32) (0 : Int32) f_9)))))
def wlX7_room_42  (Q : Int32 → St → Prop) : Nat → Int32 → Int32 → Int32 → St → Prop
  | 0 => fun _ _ _ _ => False
  | n + 1 => wbX7_room_42 (wlX7_room_42  Q n) Q
def wX7_room (f : St) (x1 : Int32) (x2 : Int32) (x3 : Int32) (Q : Int32 → St → Prop) : Prop :=
  (wX7_isGiving f x1 (fun r_2 f_1 => ((r_2 = (0 : Int32) → Q (-5 : Int32) f_1) ∧ (¬ r_2 = (0 : Int32) → (wX7_isTown f_1 x2 (fun r_4 f_3 => ((r_4 = (0 : Int32) → Q (-5 : Int32) f_3) ∧ (¬ r_4 = (0 : Int32) → (wX7_isWeek f_3 x3 (fun r_6 f_5 => ((¬ r_6 = (0 : Int32) → (wX7_looks f_5  (fun f_7 => (wX7_laysNow f_7 x1 x3 (fun f_8 => (∃ n : Nat, wlX7_room_42  Q n x2 (0 : Int32) (0 : Int32) f_8)))))) ∧ (r_6 = (0 : Int32) → Q (-5 : Int32) f_5))))))))))))
def wX7_hurt (f : St) (x1 : Int32) (x2 : Int32) (x3 : Int32) (Q : Int64 → St → Prop) : Prop :=
  (wX7_isGiving f x1 (fun r_2 f_1 => ((r_2 = (0 : Int32) → Q (-4611686018427387904 : Int64) f_1) ∧ (¬ r_2 = (0 : Int32) → (wX7_isTown f_1 x2 (fun r_4 f_3 => ((r_4 = (0 : Int32) → Q (-4611686018427387904 : Int64) f_3) ∧ (¬ r_4 = (0 : Int32) → (wX7_isWeek f_3 x3 (fun r_6 f_5 => ((¬ r_6 = (0 : Int32) → (wX7_spreads f_5  (fun f_7 => (wX7_laysNow f_7 x1 x3 (fun f_8 => (vp_in x1 12 ∧ (wX7_worthAll f_8 (f_8 17 (Int32.toNatClampNeg x1)) x2 (fun r_10 f_9 => (vp_in x2 6 ∧ (∀ f_11 : St, f_11 = upd2 f_9 52 (Int32.toNatClampNeg x2) (0 : Int32) → (vp_in x1 12 ∧ (wX7_worthAll f_11 (f_11 17 (Int32.toNatClampNeg x1)) x2 (fun r_13 f_12 => Q (Int32.toInt64 (r_13 - r_10)) f_12))))))))))))) ∧ (r_6 = (0 : Int32) → Q (-4611686018427387904 : Int64) f_5))))))))))))
def wX7_sold (f : St) (x1 : Int32) (x2 : Int32) (x3 : Int32) (Q : Int32 → St → Prop) : Prop :=
  (vp_in x1 6 ∧ ((¬ ((i_shr (f 52 (Int32.toNatClampNeg x1)) x2) &&& (1 : Int32)) = (0 : Int32) → (vp_in x1 6 ∧ ((x3 ≤ (f 1 (Int32.toNatClampNeg x1)) → Q x3 f) ∧ (¬ x3 ≤ (f 1 (Int32.toNatClampNeg x1)) → (vp_in x1 6 ∧ Q (f 1 (Int32.toNatClampNeg x1)) f))))) ∧ (((i_shr (f 52 (Int32.toNatClampNeg x1)) x2) &&& (1 : Int32)) = (0 : Int32) → Q (0 : Int32) f)))
def wbX7_soldBy_81  (Q : Int32 → St → Prop) (x7 : Int32) (t0 : Int32) (f : St) : Prop :=
  ((¬ t0 = (-1 : Int32) → Q (x7 + t0) f) ∧ (t0 = (-1 : Int32) → Q (-1 : Int32) f))
def wbX7_soldBy_34  (Q : Int32 → St → Prop) (x2 : Int32) (x3 : Int32) (x4 : Int32) (f : St) : Prop :=
  (wX7_sold f x2 x3 x4 (fun r_2 f_1 => ((¬ x3 = ((f_1 99 6) - (1 : Int32)) → (vp_in (((((246 : Int32) * (x3 + (1 : Int32))) + ((41 : Int32) * x2)) + x4) - r_2) 1968 ∧ wbX7_soldBy_81  Q r_2 (f_1 55 (Int32.toNatClampNeg (((((246 : Int32) * (x3 + (1 : Int32))) + ((41 : Int32) * x2)) + x4) - r_2))) f_1)) ∧ (x3 = ((f_1 99 6) - (1 : Int32)) → wbX7_soldBy_81  Q r_2 (0 : Int32) f_1))))
def wX7_soldBy (f : St) (x1 : Int32) (x2 : Int32) (x3 : Int32) (x4 : Int32) (x5 : Int32) (x6 : Int32) (Q : Int32 → St → Prop) : Prop :=
  (vp_in (((6 : Int32) * x1) + x2) 36 ∧ ((x5 < (f 39 (Int32.toNatClampNeg (((6 : Int32) * x1) + x2))) → Q (-1 : Int32) f) ∧ (¬ x5 < (f 39 (Int32.toNatClampNeg (((6 : Int32) * x1) + x2))) → ((¬ x3 = ((f 99 6) - (1 : Int32)) → wbX7_soldBy_34  Q x2 x3 x4 f) ∧ (x3 = ((f 99 6) - (1 : Int32)) → ((x2 = x6 → wbX7_soldBy_34  Q x2 x3 x4 f) ∧ (¬ x2 = x6 → Q (-1 : Int32) f)))))))
def wbX7_round_139 (K99 : Int32 → Int32 → Int32 → Int32 → Int32 → Int32 → Int32 → Int32 → St → Prop) (K147 : Int32 → Int32 → Int32 → Int32 → Int32 → Int32 → Int32 → St → Prop) (Q : Int32 → St → Prop) (x3 : Int32) (x4 : Int32) (x5 : Int32) (x6 : Int32) (x7 : Int32) (x8 : Int32) (x10 : Int32) (t0 : Int32) (f : St) : Prop :=
  (∀ x10_16 : Int32, x10_16 = x10 + (1 : Int32) → K99 x3 x4 x5 x6 x7 x8 t0 x10_16 f)
def wbX7_round_99 (K99 : Int32 → Int32 → Int32 → Int32 → Int32 → Int32 → Int32 → Int32 → St → Prop) (K147 : Int32 → Int32 → Int32 → Int32 → Int32 → Int32 → Int32 → St → Prop) (Q : Int32 → St → Prop) (x3 : Int32) (x4 : Int32) (x5 : Int32) (x6 : Int32) (x7 : Int32) (x8 : Int32) (x9 : Int32) (x10 : Int32) (f : St) : Prop :=
  (((f 99 0) ≤ x10 → K147 x3 x4 x5 x6 x7 x8 x9 f) ∧ (¬ (f 99 0) ≤ x10 → (wX7_soldBy f x7 x10 x6 x8 x4 x3 (fun r_15 f_14 => ((r_15 ≤ x9 → wbX7_round_139 K99 K147 Q x3 x4 x5 x6 x7 x8 x10 x9 f_14) ∧ (¬ r_15 ≤ x9 → wbX7_round_139 K99 K147 Q x3 x4 x5 x6 x7 x8 x10 r_15 f_14))))))
def wlX7_round_99 (K147 : Int32 → Int32 → Int32 → Int32 → Int32 → Int32 → Int32 → St → Prop) (Q : Int32 → St → Prop) : Nat → Int32 → Int32 → Int32 → Int32 → Int32 → Int32 → Int32 → Int32 → St → Prop
  | 0 => fun _ _ _ _ _ _ _ _ _ => False
  | n + 1 => wbX7_round_99 (wlX7_round_99 K147 Q n) K147 Q
def wbX7_round_86 (K86 : Int32 → Int32 → Int32 → Int32 → Int32 → Int32 → St → Prop) (K175 : Int32 → Int32 → Int32 → Int32 → Int32 → St → Prop) (Q : Int32 → St → Prop) (x3 : Int32) (x4 : Int32) (x5 : Int32) (x6 : Int32) (x7 : Int32) (x8 : Int32) (f : St) : Prop :=
  ((x5 < x8 → K175 x3 x4 x5 x6 x7 f) ∧ (¬ x5 < x8 → (∃ n : Nat, wlX7_round_99 (fun (x3 : Int32) (x4 : Int32) (x5 : Int32) (x6 : Int32) (x7 : Int32) (x8 : Int32) (x9 : Int32) (f : St) => (vp_in ((((246 : Int32) * x6) + ((41 : Int32) * x7)) + x8) 1968 ∧ (∀ f_17 : St, f_17 = upd2 f 55 (Int32.toNatClampNeg ((((246 : Int32) * x6) + ((41 : Int32) * x7)) + x8)) x9 → (∀ x8_18 : Int32, x8_18 = x8 + (1 : Int32) → K86 x3 x4 x5 x6 x7 x8_18 f_17)))) Q n x3 x4 x5 x6 x7 x8 (-1 : Int32) (0 : Int32) f)))
def wlX7_round_86 (K175 : Int32 → Int32 → Int32 → Int32 → Int32 → St → Prop) (Q : Int32 → St → Prop) : Nat → Int32 → Int32 → Int32 → Int32 → Int32 → Int32 → St → Prop
  | 0 => fun _ _ _ _ _ _ _ => False
  | n + 1 => wbX7_round_86 (wlX7_round_86 K175 Q n) K175 Q
def wbX7_round_74 (K74 : Int32 → Int32 → Int32 → Int32 → Int32 → St → Prop) (K181 : Int32 → Int32 → Int32 → Int32 → St → Prop) (Q : Int32 → St → Prop) (x3 : Int32) (x4 : Int32) (x5 : Int32) (x6 : Int32) (x7 : Int32) (f : St) : Prop :=
  (((f 99 0) ≤ x7 → K181 x3 x4 x5 x6 f) ∧ (¬ (f 99 0) ≤ x7 → (∃ n : Nat, wlX7_round_86 (fun (x3 : Int32) (x4 : Int32) (x5 : Int32) (x6 : Int32) (x7 : Int32) (f : St) => (∀ x7_19 : Int32, x7_19 = x7 + (1 : Int32) → K74 x3 x4 x5 x6 x7_19 f)) Q n x3 x4 x5 x6 x7 (0 : Int32) f)))
def wlX7_round_74 (K181 : Int32 → Int32 → Int32 → Int32 → St → Prop) (Q : Int32 → St → Prop) : Nat → Int32 → Int32 → Int32 → Int32 → Int32 → St → Prop
  | 0 => fun _ _ _ _ _ _ => False
  | n + 1 => wbX7_round_74 (wlX7_round_74 K181 Q n) K181 Q
def wbX7_round_66 (K66 : Int32 → Int32 → Int32 → Int32 → St → Prop) (K187 : Int32 → Int32 → Int32 → St → Prop) (Q : Int32 → St → Prop) (x3 : Int32) (x4 : Int32) (x5 : Int32) (x6 : Int32) (f : St) : Prop :=
  ((x6 < (0 : Int32) → K187 x3 x4 x5 f) ∧ (¬ x6 < (0 : Int32) → (∃ n : Nat, wlX7_round_74 (fun (x3 : Int32) (x4 : Int32) (x5 : Int32) (x6 : Int32) (f : St) => (∀ x6_20 : Int32, x6_20 = x6 + (-1 : Int32) → K66 x3 x4 x5 x6_20 f)) Q n x3 x4 x5 x6 (0 : Int32) f)))
def wlX7_round_66 (K187 : Int32 → Int32 → Int32 → St → Prop) (Q : Int32 → St → Prop) : Nat → Int32 → Int32 → Int32 → Int32 → St → Prop
  | 0 => fun _ _ _ _ _ => False
  | n + 1 => wbX7_round_66 (wlX7_round_66 K187 Q n) K187 Q
def wbX7_round_217 (K217 : Int32 → Int32 → Int32 → Int32 → Int32 → Int32 → Int32 → St → Prop) (K261 : Int32 → Int32 → Int32 → Int32 → Int32 → Int32 → St → Prop) (Q : Int32 → St → Prop) (x3 : Int32) (x4 : Int32) (x5 : Int32) (x6 : Int32) (x7 : Int32) (x8 : Int32) (x9 : Int32) (f : St) : Prop :=
  (wX7_soldBy f x6 x9 x8 x7 x4 x3 (fun r_23 f_22 => (vp_in ((((246 : Int32) * x8) + ((41 : Int32) * x6)) + x7) 1968 ∧ ((r_23 = (f_22 55 (Int32.toNatClampNeg ((((246 : Int32) * x8) + ((41 : Int32) * x6)) + x7))) → K261 x3 x4 x5 x7 x8 x9 f_22) ∧ (¬ r_23 = (f_22 55 (Int32.toNatClampNeg ((((246 : Int32) * x8) + ((41 : Int32) * x6)) + x7))) → (∀ x9_24 : Int32, x9_24 = x9 + (1 : Int32) → K217 x3 x4 x5 x6 x7 x8 x9_24 f_22))))))
def wlX7_round_217 (K261 : Int32 → Int32 → Int32 → Int32 → Int32 → Int32 → St → Prop) (Q : Int32 → St → Prop) : Nat → Int32 → Int32 → Int32 → Int32 → Int32 → Int32 → Int32 → St → Prop
  | 0 => fun _ _ _ _ _ _ _ _ => False
  | n + 1 => wbX7_round_217 (wlX7_round_217 K261 Q n) K261 Q
def wbX7_round_205 (K205 : Int32 → Int32 → Int32 → Int32 → Int32 → Int32 → St → Prop) (K295 : Int32 → Int32 → St → Prop) (Q : Int32 → St → Prop) (x3 : Int32) (x4 : Int32) (x5 : Int32) (x6 : Int32) (x7 : Int32) (x8 : Int32) (f : St) : Prop :=
  (((f 99 6) ≤ x8 → K295 x3 x5 f) ∧ (¬ (f 99 6) ≤ x8 → (∃ n : Nat, wlX7_round_217 (fun (x3 : Int32) (x4 : Int32) (x5 : Int32) (x7 : Int32) (x8 : Int32) (x9 : Int32) (f : St) => (wX7_sold f x9 x8 x7 (fun r_26 f_25 => (∀ x7_27 : Int32, x7_27 = (x7 - r_26) → (vp_in x8 7 ∧ (∀ f_28 : St, f_28 = upd2 f_25 24 (Int32.toNatClampNeg x8) x9 → (∀ x8_29 : Int32, x8_29 = x8 + (1 : Int32) → K205 x3 x4 x5 x9 x7_27 x8_29 f_28))))))) Q n x3 x4 x5 x6 x7 x8 (0 : Int32) f)))
def wlX7_round_205 (K295 : Int32 → Int32 → St → Prop) (Q : Int32 → St → Prop) : Nat → Int32 → Int32 → Int32 → Int32 → Int32 → Int32 → St → Prop
  | 0 => fun _ _ _ _ _ _ _ => False
  | n + 1 => wbX7_round_205 (wlX7_round_205 K295 Q n) K295 Q
def wX7_round (f : St) (x1 : Int32) (x2 : Int32) (x3 : Int32) (x4 : Int32) (x5 : Int32) (Q : Int32 → St → Prop) : Prop :=
  (wX7_isGiving f x1 (fun r_2 f_1 => ((r_2 = (0 : Int32) → Q (-2 : Int32) f_1) ∧ (¬ r_2 = (0 : Int32) → (wX7_isWeek f_1 x2 (fun r_4 f_3 => ((r_4 = (0 : Int32) → Q (-2 : Int32) f_3) ∧ (¬ r_4 = (0 : Int32) → (wX7_isTown f_3 x3 (fun r_6 f_5 => ((r_6 = (0 : Int32) → Q (-2 : Int32) f_5) ∧ (¬ r_6 = (0 : Int32) → (wX7_in f_5 x4 (0 : Int32) (50 : Int32) (fun r_8 f_7 => ((r_8 = (0 : Int32) → Q (-2 : Int32) f_7) ∧ (¬ r_8 = (0 : Int32) → (wX7_in f_7 x5 (0 : Int32) (40 : Int32) (fun r_10 f_9 => ((¬ r_10 = (0 : Int32) → (wX7_spreads f_9  (fun f_11 => (wX7_laysNow f_11 x1 x2 (fun f_12 => (∀ x6_13 : Int32, x6_13 = ((f_12 99 6) - (1 : Int32)) → (∃ n : Nat, wlX7_round_66 (fun (x3 : Int32) (x4 : Int32) (x5 : Int32) (f : St) => (∀ f_21 : St, f_21 = upd2 f 99 23 (f 99 6) → (∃ n : Nat, wlX7_round_205 (fun (x3 : Int32) (x5 : Int32) (f : St) => (vp_in (((41 : Int32) * x3) + x5) 1968 ∧ Q (f 55 (Int32.toNatClampNeg (((41 : Int32) * x3) + x5))) f)) Q n x3 x4 x5 x3 x5 (0 : Int32) f_21))) Q n x3 x4 x5 x6_13 f_12))))))) ∧ (r_10 = (0 : Int32) → Q (-2 : Int32) f_9))))))))))))))))))))
def wX7_roundTold (f : St) (x1 : Int32) (Q : Int32 → St → Prop) : Prop :=
  (wX7_in f x1 (0 : Int32) ((f 99 23) - (1 : Int32)) (fun r_2 f_1 => ((r_2 = (0 : Int32) → Q (-1 : Int32) f_1) ∧ (¬ r_2 = (0 : Int32) → (vp_in x1 7 ∧ Q (f_1 24 (Int32.toNatClampNeg x1)) f_1)))))
def wbX7_walk_85 (K85 : Int32 → Int32 → Int32 → Int32 → Int32 → Int32 → Int32 → St → Prop) (K124 : Int32 → Int32 → Int32 → Int32 → Int32 → Int32 → St → Prop) (Q : Int32 → St → Prop) (x1 : Int32) (x2 : Int32) (x3 : Int32) (x4 : Int32) (x5 : Int32) (x6 : Int32) (x7 : Int32) (f : St) : Prop :=
  (((f 99 6) ≤ x7 → K124 x1 x2 x3 x4 x5 x6 f) ∧ (¬ (f 99 6) ≤ x7 → ((x6 = (0 : Int32) → K124 x1 x2 x3 x4 x5 x6 f) ∧ (¬ x6 = (0 : Int32) → (vp_in (((40 : Int32) * x5) + x7) 160 ∧ (wX7_isTown f (f 38 (Int32.toNatClampNeg (((40 : Int32) * x5) + x7))) (fun r_12 f_11 => (∀ x7_13 : Int32, x7_13 = x7 + (1 : Int32) → K85 x1 x2 x3 x4 x5 r_12 x7_13 f_11))))))))
def wlX7_walk_85 (K124 : Int32 → Int32 → Int32 → Int32 → Int32 → Int32 → St → Prop) (Q : Int32 → St → Prop) : Nat → Int32 → Int32 → Int32 → Int32 → Int32 → Int32 → Int32 → St → Prop
  | 0 => fun _ _ _ _ _ _ _ _ => False
  | n + 1 => wbX7_walk_85 (wlX7_walk_85 K124 Q n) K124 Q
def wbX7_walk_152 (K152 : Int32 → Int32 → Int32 → Int32 → Int32 → Int32 → St → Prop) (K225 : Int32 → Int32 → Int32 → St → Prop) (Q : Int32 → St → Prop) (x3 : Int32) (x4 : Int32) (x5 : Int32) (x7 : Int32) (x8 : Int32) (x9 : Int32) (f : St) : Prop :=
  (((f 99 6) ≤ x9 → K225 x3 x7 x8 f) ∧ (¬ (f 99 6) ≤ x9 → (vp_in (((40 : Int32) * x5) + x9) 160 ∧ (∀ x10_16 : Int32, x10_16 = (f 38 (Int32.toNatClampNeg (((40 : Int32) * x5) + x9))) → (vp_in (((6 : Int32) * x7) + x10_16) 36 ∧ (((f 39 (Int32.toNatClampNeg (((6 : Int32) * x7) + x10_16))) ≤ x4 → (wX7_sold f x10_16 x9 x8 (fun r_18 f_17 => (∀ x8_19 : Int32, x8_19 = (x8 - r_18) → (∀ x9_20 : Int32, x9_20 = x9 + (1 : Int32) → K152 x3 x4 x5 x10_16 x8_19 x9_20 f_17))))) ∧ (¬ (f 39 (Int32.toNatClampNeg (((6 : Int32) * x7) + x10_16))) ≤ x4 → Q ((-20 : Int32) - x9) f)))))))
def wlX7_walk_152 (K225 : Int32 → Int32 → Int32 → St → Prop) (Q : Int32 → St → Prop) : Nat → Int32 → Int32 → Int32 → Int32 → Int32 → Int32 → St → Prop
  | 0 => fun _ _ _ _ _ _ _ => False
  | n + 1 => wbX7_walk_152 (wlX7_walk_152 K225 Q n) K225 Q
def wbX7_walk_124  (Q : Int32 → St → Prop) (x1 : Int32) (x2 : Int32) (x3 : Int32) (x4 : Int32) (x5 : Int32) (x6 : Int32) (f : St) : Prop :=
  ((¬ x6 = (0 : Int32) → (wX7_spreads f  (fun f_14 => (wX7_laysNow f_14 x1 x2 (fun f_15 => (∃ n : Nat, wlX7_walk_152 (fun (x3 : Int32) (x7 : Int32) (x8 : Int32) (f : St) => ((¬ x7 = x3 → Q (-100 : Int32) f) ∧ (x7 = x3 → Q ((40 : Int32) - x8) f))) Q n x3 x4 x5 x3 (40 : Int32) (0 : Int32) f_15)))))) ∧ (x6 = (0 : Int32) → Q (-2 : Int32) f))
def wbX7_walk_80  (Q : Int32 → St → Prop) (x1 : Int32) (x2 : Int32) (x3 : Int32) (x4 : Int32) (x5 : Int32) (t0 : Int32) (f : St) : Prop :=
  (∃ n : Nat, wlX7_walk_85 (fun (x1 : Int32) (x2 : Int32) (x3 : Int32) (x4 : Int32) (x5 : Int32) (x6 : Int32) (f : St) => wbX7_walk_124  Q x1 x2 x3 x4 x5 x6 f) Q n x1 x2 x3 x4 x5 t0 (0 : Int32) f)
def wX7_walk (f : St) (x1 : Int32) (x2 : Int32) (x3 : Int32) (x4 : Int32) (x5 : Int32) (Q : Int32 → St → Prop) : Prop :=
  (wX7_isGiving f x1 (fun r_2 f_1 => ((r_2 = (0 : Int32) → Q (-2 : Int32) f_1) ∧ (¬ r_2 = (0 : Int32) → (wX7_isWeek f_1 x2 (fun r_4 f_3 => ((r_4 = (0 : Int32) → Q (-2 : Int32) f_3) ∧ (¬ r_4 = (0 : Int32) → (wX7_isTown f_3 x3 (fun r_6 f_5 => ((r_6 = (0 : Int32) → Q (-2 : Int32) f_5) ∧ (¬ r_6 = (0 : Int32) → (wX7_in f_5 x4 (0 : Int32) (50 : Int32) (fun r_8 f_7 => ((r_8 = (0 : Int32) → Q (-2 : Int32) f_7) ∧ (¬ r_8 = (0 : Int32) → (wX7_in f_7 x5 (0 : Int32) (3 : Int32) (fun r_10 f_9 => ((¬ r_10 = (0 : Int32) → (vp_in x5 4 ∧ ((¬ (f_9 36 (Int32.toNatClampNeg x5)) = (-1 : Int32) → (vp_in x5 4 ∧ ((¬ (f_9 37 (Int32.toNatClampNeg x5)) = (f_9 99 6) → wbX7_walk_80  Q x1 x2 x3 x4 x5 (0 : Int32) f_9) ∧ ((f_9 37 (Int32.toNatClampNeg x5)) = (f_9 99 6) → wbX7_walk_80  Q x1 x2 x3 x4 x5 (1 : Int32) f_9)))) ∧ ((f_9 36 (Int32.toNatClampNeg x5)) = (-1 : Int32) → Q (-11 : Int32) f_9)))) ∧ (r_10 = (0 : Int32) → Q (-2 : Int32) f_9))))))))))))))))))))
def wX7_count (f : St) (x1 : Int32) (Q : Int32 → St → Prop) : Prop :=
  ((x1 = (0 : Int32) → Q (f 99 0) f) ∧ (¬ x1 = (0 : Int32) → ((x1 = (1 : Int32) → Q (f 99 6) f) ∧ (¬ x1 = (1 : Int32) → ((x1 = (2 : Int32) → Q (f 99 7) f) ∧ (¬ x1 = (2 : Int32) → ((x1 = (3 : Int32) → Q (f 99 16) f) ∧ (¬ x1 = (3 : Int32) → ((x1 = (4 : Int32) → Q (f 99 14) f) ∧ (¬ x1 = (4 : Int32) → ((x1 = (5 : Int32) → Q (f 99 15) f) ∧ (¬ x1 = (5 : Int32) → ((x1 = (6 : Int32) → Q (f 99 11) f) ∧ (¬ x1 = (6 : Int32) → Q (-2 : Int32) f))))))))))))))
def wbX7_image_39 (K39 : Int32 → St → Prop) (K87 : St → Prop) (Q : Int32 → St → Prop) (x1 : Int32) (f : St) : Prop :=
  (((6 : Int32) ≤ x1 → K87  f) ∧ (¬ (6 : Int32) ≤ x1 → (vp_in x1 6 ∧ (vp_in x1 6 ∧ (∀ f_6 : St, f_6 = upd2 f 30 (Int32.toNatClampNeg x1) (f 2 (Int32.toNatClampNeg x1)) → (vp_in x1 6 ∧ (vp_in x1 6 ∧ (∀ f_7 : St, f_7 = upd2 f_6 31 (Int32.toNatClampNeg x1) (f_6 3 (Int32.toNatClampNeg x1)) → (vp_in x1 6 ∧ (vp_in x1 6 ∧ (∀ f_8 : St, f_8 = upd2 f_7 32 (Int32.toNatClampNeg x1) (f_7 4 (Int32.toNatClampNeg x1)) → (∀ x1_9 : Int32, x1_9 = x1 + (1 : Int32) → K39 x1_9 f_8))))))))))))
def wlX7_image_39 (K87 : St → Prop) (Q : Int32 → St → Prop) : Nat → Int32 → St → Prop
  | 0 => fun _ _ => False
  | n + 1 => wbX7_image_39 (wlX7_image_39 K87 Q n) K87 Q
def wbX7_image_89 (K89 : Int32 → St → Prop) (K113 : St → Prop) (Q : Int32 → St → Prop) (x1 : Int32) (f : St) : Prop :=
  (((36 : Int32) ≤ x1 → K113  f) ∧ (¬ (36 : Int32) ≤ x1 → (vp_in x1 36 ∧ (vp_in x1 36 ∧ (∀ f_10 : St, f_10 = upd2 f 33 (Int32.toNatClampNeg x1) (f 5 (Int32.toNatClampNeg x1)) → (∀ x1_11 : Int32, x1_11 = x1 + (1 : Int32) → K89 x1_11 f_10))))))
def wlX7_image_89 (K113 : St → Prop) (Q : Int32 → St → Prop) : Nat → Int32 → St → Prop
  | 0 => fun _ _ => False
  | n + 1 => wbX7_image_89 (wlX7_image_89 K113 Q n) K113 Q
def wbX7_image_115 (K115 : Int32 → St → Prop) (Q : Int32 → St → Prop) (x1 : Int32) (f : St) : Prop :=
  (((10 : Int32) ≤ x1 → Q (f 99 0) f) ∧ (¬ (10 : Int32) ≤ x1 → (vp_in x1 10 ∧ (vp_in x1 10 ∧ (∀ f_12 : St, f_12 = upd2 f 34 (Int32.toNatClampNeg x1) (f 8 (Int32.toNatClampNeg x1)) → (vp_in x1 10 ∧ (vp_in x1 10 ∧ (∀ f_13 : St, f_13 = upd2 f_12 35 (Int32.toNatClampNeg x1) (f_12 9 (Int32.toNatClampNeg x1)) → (∀ x1_14 : Int32, x1_14 = x1 + (1 : Int32) → K115 x1_14 f_13)))))))))
def wlX7_image_115  (Q : Int32 → St → Prop) : Nat → Int32 → St → Prop
  | 0 => fun _ _ => False
  | n + 1 => wbX7_image_115 (wlX7_image_115  Q n) Q
def wX7_image (f : St)  (Q : Int32 → St → Prop) : Prop :=
  (∀ f_1 : St, f_1 = upd2 f 99 25 (1 : Int32) → (∀ f_2 : St, f_2 = upd2 f_1 99 26 (f_1 99 0) → (∀ f_3 : St, f_3 = upd2 f_2 99 27 (f_2 99 6) → (∀ f_4 : St, f_4 = upd2 f_3 99 28 (f_3 99 7) → (∀ f_5 : St, f_5 = upd2 f_4 99 29 (f_4 99 15) → (∃ n : Nat, wlX7_image_39 (fun  (f : St) => (∃ n : Nat, wlX7_image_89 (fun  (f : St) => (∃ n : Nat, wlX7_image_115  Q n (0 : Int32) f)) Q n (0 : Int32) f)) Q n (0 : Int32) f_5))))))
def wbX7_back_36 (K36 : Int32 → St → Prop) (K86 : St → Prop) (Q : Int32 → St → Prop) (x1 : Int32) (f : St) : Prop :=
  (((f 99 26) ≤ x1 → K86  f) ∧ (¬ (f 99 26) ≤ x1 → (vp_in x1 6 ∧ (vp_in x1 6 ∧ (∀ f_4 : St, f_4 = upd2 f 2 (Int32.toNatClampNeg x1) (f 30 (Int32.toNatClampNeg x1)) → (vp_in x1 6 ∧ (vp_in x1 6 ∧ (∀ f_5 : St, f_5 = upd2 f_4 3 (Int32.toNatClampNeg x1) (f_4 31 (Int32.toNatClampNeg x1)) → (vp_in x1 6 ∧ (vp_in x1 6 ∧ (∀ f_6 : St, f_6 = upd2 f_5 4 (Int32.toNatClampNeg x1) (f_5 32 (Int32.toNatClampNeg x1)) → (∀ x1_7 : Int32, x1_7 = x1 + (1 : Int32) → K36 x1_7 f_6))))))))))))
def wlX7_back_36 (K86 : St → Prop) (Q : Int32 → St → Prop) : Nat → Int32 → St → Prop
  | 0 => fun _ _ => False
  | n + 1 => wbX7_back_36 (wlX7_back_36 K86 Q n) K86 Q
def wbX7_back_162 (K88 : Int32 → St → Prop) (K169 : St → Prop) (Q : Int32 → St → Prop) (x1 : Int32) (t0 : Int32) (t1 : Int32) (f : St) : Prop :=
  (vp_in t1 36 ∧ (∀ f_9 : St, f_9 = upd2 f 5 (Int32.toNatClampNeg t1) t0 → (∀ x1_10 : Int32, x1_10 = x1 + (1 : Int32) → K88 x1_10 f_9)))
def wbX7_back_126 (K88 : Int32 → St → Prop) (K169 : St → Prop) (Q : Int32 → St → Prop) (x1 : Int32) (t0 : Int32) (t1 : Int32) (f : St) : Prop :=
  (∀ x2_8 : Int32, x2_8 = (t1 + t0) → ((¬ x2_8 = (2 : Int32) → ((¬ x2_8 = (1 : Int32) → (vp_in x1 36 ∧ wbX7_back_162 K88 K169 Q x1 (f 5 (Int32.toNatClampNeg x1)) x1 f)) ∧ (x2_8 = (1 : Int32) → wbX7_back_162 K88 K169 Q x1 (0 : Int32) x1 f))) ∧ (x2_8 = (2 : Int32) → (vp_in x1 36 ∧ wbX7_back_162 K88 K169 Q x1 (f 33 (Int32.toNatClampNeg x1)) x1 f))))
def wbX7_back_110 (K88 : Int32 → St → Prop) (K169 : St → Prop) (Q : Int32 → St → Prop) (x1 : Int32) (t0 : Int32) (f : St) : Prop :=
  (((f 99 26) ≤ (i_rem x1 (6 : Int32)) → wbX7_back_126 K88 K169 Q x1 (0 : Int32) t0 f) ∧ (¬ (f 99 26) ≤ (i_rem x1 (6 : Int32)) → wbX7_back_126 K88 K169 Q x1 (1 : Int32) t0 f))
def wbX7_back_88 (K88 : Int32 → St → Prop) (K169 : St → Prop) (Q : Int32 → St → Prop) (x1 : Int32) (f : St) : Prop :=
  (((36 : Int32) ≤ x1 → K169  f) ∧ (¬ (36 : Int32) ≤ x1 → (((f 99 26) ≤ (x1 / (6 : Int32)) → wbX7_back_110 K88 K169 Q x1 (0 : Int32) f) ∧ (¬ (f 99 26) ≤ (x1 / (6 : Int32)) → wbX7_back_110 K88 K169 Q x1 (1 : Int32) f))))
def wlX7_back_88 (K169 : St → Prop) (Q : Int32 → St → Prop) : Nat → Int32 → St → Prop
  | 0 => fun _ _ => False
  | n + 1 => wbX7_back_88 (wlX7_back_88 K169 Q n) K169 Q
def wbX7_back_171 (K171 : Int32 → St → Prop) (Q : Int32 → St → Prop) (x1 : Int32) (f : St) : Prop :=
  (((10 : Int32) ≤ x1 → Q (f 99 0) f) ∧ (¬ (10 : Int32) ≤ x1 → (vp_in x1 10 ∧ (vp_in x1 10 ∧ (∀ f_11 : St, f_11 = upd2 f 8 (Int32.toNatClampNeg x1) (f 34 (Int32.toNatClampNeg x1)) → (vp_in x1 10 ∧ (vp_in x1 10 ∧ (∀ f_12 : St, f_12 = upd2 f_11 9 (Int32.toNatClampNeg x1) (f_11 35 (Int32.toNatClampNeg x1)) → (∀ x1_13 : Int32, x1_13 = x1 + (1 : Int32) → K171 x1_13 f_12)))))))))
def wlX7_back_171  (Q : Int32 → St → Prop) : Nat → Int32 → St → Prop
  | 0 => fun _ _ => False
  | n + 1 => wbX7_back_171 (wlX7_back_171  Q n) Q
def wX7_back (f : St)  (Q : Int32 → St → Prop) : Prop :=
  ((¬ (f 99 25) = (0 : Int32) → (∀ f_1 : St, f_1 = upd2 f 99 6 (f 99 27) → (∀ f_2 : St, f_2 = upd2 f_1 99 7 (f_1 99 28) → (∀ f_3 : St, f_3 = upd2 f_2 99 15 (f_2 99 29) → (∃ n : Nat, wlX7_back_36 (fun  (f : St) => (∃ n : Nat, wlX7_back_88 (fun  (f : St) => (∃ n : Nat, wlX7_back_171  Q n (0 : Int32) f)) Q n (0 : Int32) f)) Q n (0 : Int32) f_3))))) ∧ ((f 99 25) = (0 : Int32) → Q (-3 : Int32) f))
def wbX7_sheet_70 (K70 : Int32 → Int32 → St → Prop) (Q : Int32 → St → Prop) (x1 : Int32) (x4 : Int32) (f : St) : Prop :=
  (((40 : Int32) ≤ x4 → Q (1 : Int32) f) ∧ (¬ (40 : Int32) ≤ x4 → (vp_in (((40 : Int32) * x1) + x4) 160 ∧ (∀ f_7 : St, f_7 = upd2 f 38 (Int32.toNatClampNeg (((40 : Int32) * x1) + x4)) (0 : Int32) → (∀ x4_8 : Int32, x4_8 = x4 + (1 : Int32) → K70 x1 x4_8 f_7)))))
def wlX7_sheet_70  (Q : Int32 → St → Prop) : Nat → Int32 → Int32 → St → Prop
  | 0 => fun _ _ _ => False
  | n + 1 => wbX7_sheet_70 (wlX7_sheet_70  Q n) Q
def wbX7_sheet_66  (Q : Int32 → St → Prop) (x1 : Int32) (t0 : Int32) (t1 : Int32) (f : St) : Prop :=
  (vp_in t1 4 ∧ (∀ f_6 : St, f_6 = upd2 f 37 (Int32.toNatClampNeg t1) t0 → (∃ n : Nat, wlX7_sheet_70  Q n x1 (0 : Int32) f_6)))
def wbX7_sheet_44  (Q : Int32 → St → Prop) (x1 : Int32) (x2 : Int32) (x3 : Int32) (f : St) : Prop :=
  (vp_in x1 4 ∧ (∀ f_5 : St, f_5 = upd2 f 36 (Int32.toNatClampNeg x1) x2 → ((¬ x2 = (-1 : Int32) → wbX7_sheet_66  Q x1 x3 x1 f_5) ∧ (x2 = (-1 : Int32) → wbX7_sheet_66  Q x1 (0 : Int32) x1 f_5))))
def wbX7_sheet_32  (Q : Int32 → St → Prop) (x1 : Int32) (x2 : Int32) (x3 : Int32) (f : St) : Prop :=
  ((x2 = (-1 : Int32) → wbX7_sheet_44  Q x1 x2 x3 f) ∧ (¬ x2 = (-1 : Int32) → (((0 : Int32) ≤ x3 → wbX7_sheet_44  Q x1 x2 x3 f) ∧ (¬ (0 : Int32) ≤ x3 → Q (-14 : Int32) f))))
def wX7_sheet (f : St) (x1 : Int32) (x2 : Int32) (x3 : Int32) (Q : Int32 → St → Prop) : Prop :=
  (wX7_in f x1 (0 : Int32) (3 : Int32) (fun r_2 f_1 => ((r_2 = (0 : Int32) → Q (-2 : Int32) f_1) ∧ (¬ r_2 = (0 : Int32) → (wX7_in f_1 x2 (-1 : Int32) (2 : Int32) (fun r_4 f_3 => ((r_4 = (0 : Int32) → Q (-2 : Int32) f_3) ∧ (¬ r_4 = (0 : Int32) → ((x2 = (-1 : Int32) → wbX7_sheet_32  Q x1 x2 x3 f_3) ∧ (¬ x2 = (-1 : Int32) → ((x3 ≤ (40 : Int32) → wbX7_sheet_32  Q x1 x2 x3 f_3) ∧ (¬ x3 ≤ (40 : Int32) → Q (-2 : Int32) f_3))))))))))))
def wX7_cell (f : St) (x1 : Int32) (x2 : Int32) (x3 : Int32) (Q : Int32 → St → Prop) : Prop :=
  (wX7_in f x1 (0 : Int32) (3 : Int32) (fun r_2 f_1 => ((¬ r_2 = (0 : Int32) → (vp_in x1 4 ∧ ((¬ (f_1 36 (Int32.toNatClampNeg x1)) = (-1 : Int32) → (vp_in x1 4 ∧ (wX7_in f_1 x2 (0 : Int32) ((f_1 37 (Int32.toNatClampNeg x1)) - (1 : Int32)) (fun r_4 f_3 => ((¬ r_4 = (0 : Int32) → (vp_in x1 4 ∧ ((¬ (f_3 36 (Int32.toNatClampNeg x1)) = (0 : Int32) → (vp_in x1 4 ∧ ((¬ (f_3 36 (Int32.toNatClampNeg x1)) = (1 : Int32) → (vp_in (((40 : Int32) * x1) + x2) 160 ∧ (∀ f_5 : St, f_5 = upd2 f_3 38 (Int32.toNatClampNeg (((40 : Int32) * x1) + x2)) x3 → Q (1 : Int32) f_5))) ∧ ((f_3 36 (Int32.toNatClampNeg x1)) = (1 : Int32) → (vp_in (((40 : Int32) * x1) + x2) 160 ∧ (∀ f_6 : St, f_6 = upd2 f_3 38 (Int32.toNatClampNeg (((40 : Int32) * x1) + x2)) (i_s x3) → Q (1 : Int32) f_6)))))) ∧ ((f_3 36 (Int32.toNatClampNeg x1)) = (0 : Int32) → (vp_in (((40 : Int32) * x1) + x2) 160 ∧ (∀ f_7 : St, f_7 = upd2 f_3 38 (Int32.toNatClampNeg (((40 : Int32) * x1) + x2)) (i_b x3) → Q (1 : Int32) f_7)))))) ∧ (r_4 = (0 : Int32) → Q (-12 : Int32) f_3)))))) ∧ ((f_1 36 (Int32.toNatClampNeg x1)) = (-1 : Int32) → Q (-11 : Int32) f_1)))) ∧ (r_2 = (0 : Int32) → Q (-2 : Int32) f_1))))
def wbX7_copy_173 (K147 : Int32 → Int32 → Int32 → Int32 → St → Prop) (Q : Int32 → St → Prop) (x5 : Int32) (x6 : Int32) (x7 : Int32) (x8 : Int32) (t0 : Int32) (f : St) : Prop :=
  (vp_in (x6 + t0) 160 ∧ (vp_in (x7 + t0) 160 ∧ (∀ f_7 : St, f_7 = upd2 f 38 (Int32.toNatClampNeg (x7 + t0)) (f 38 (Int32.toNatClampNeg (x6 + t0))) → (∀ x8_8 : Int32, x8_8 = x8 + (1 : Int32) → K147 x5 x6 x7 x8_8 f_7))))
def wbX7_copy_147 (K147 : Int32 → Int32 → Int32 → Int32 → St → Prop) (Q : Int32 → St → Prop) (x5 : Int32) (x6 : Int32) (x7 : Int32) (x8 : Int32) (f : St) : Prop :=
  ((x5 ≤ x8 → Q x5 f) ∧ (¬ x5 ≤ x8 → ((x7 ≤ x6 → wbX7_copy_173 K147 Q x5 x6 x7 x8 x8 f) ∧ (¬ x7 ≤ x6 → wbX7_copy_173 K147 Q x5 x6 x7 x8 ((x5 - (1 : Int32)) - x8) f))))
def wlX7_copy_147  (Q : Int32 → St → Prop) : Nat → Int32 → Int32 → Int32 → Int32 → St → Prop
  | 0 => fun _ _ _ _ _ => False
  | n + 1 => wbX7_copy_147 (wlX7_copy_147  Q n) Q
def wX7_copy (f : St) (x1 : Int32) (x2 : Int32) (x3 : Int32) (x4 : Int32) (x5 : Int32) (Q : Int32 → St → Prop) : Prop :=
  (wX7_in f x1 (0 : Int32) (3 : Int32) (fun r_2 f_1 => ((r_2 = (0 : Int32) → Q (-2 : Int32) f_1) ∧ (¬ r_2 = (0 : Int32) → (wX7_in f_1 x3 (0 : Int32) (3 : Int32) (fun r_4 f_3 => ((¬ r_4 = (0 : Int32) → (vp_in x1 4 ∧ (((f_3 36 (Int32.toNatClampNeg x1)) = (-1 : Int32) → Q (-11 : Int32) f_3) ∧ (¬ (f_3 36 (Int32.toNatClampNeg x1)) = (-1 : Int32) → (vp_in x3 4 ∧ ((¬ (f_3 36 (Int32.toNatClampNeg x3)) = (-1 : Int32) → (vp_in x1 4 ∧ (vp_in x3 4 ∧ (((f_3 36 (Int32.toNatClampNeg x1)) = (f_3 36 (Int32.toNatClampNeg x3)) → ((x5 < (0 : Int32) → Q (-12 : Int32) f_3) ∧ (¬ x5 < (0 : Int32) → ((x2 < (0 : Int32) → Q (-12 : Int32) f_3) ∧ (¬ x2 < (0 : Int32) → ((x4 < (0 : Int32) → Q (-12 : Int32) f_3) ∧ (¬ x4 < (0 : Int32) → (vp_in x1 4 ∧ (((f_3 37 (Int32.toNatClampNeg x1)) < x2 → Q (-12 : Int32) f_3) ∧ (¬ (f_3 37 (Int32.toNatClampNeg x1)) < x2 → (vp_in x3 4 ∧ (((f_3 37 (Int32.toNatClampNeg x3)) < x4 → Q (-12 : Int32) f_3) ∧ (¬ (f_3 37 (Int32.toNatClampNeg x3)) < x4 → (vp_in x1 4 ∧ ((((f_3 37 (Int32.toNatClampNeg x1)) - x2) < x5 → Q (-12 : Int32) f_3) ∧ (¬ ((f_3 37 (Int32.toNatClampNeg x1)) - x2) < x5 → (vp_in x3 4 ∧ ((x5 ≤ ((f_3 37 (Int32.toNatClampNeg x3)) - x4) → (∀ x6_5 : Int32, x6_5 = (((40 : Int32) * x1) + x2) → (∀ x7_6 : Int32, x7_6 = (((40 : Int32) * x3) + x4) → (∃ n : Nat, wlX7_copy_147  Q n x5 x6_5 x7_6 (0 : Int32) f_3)))) ∧ (¬ x5 ≤ ((f_3 37 (Int32.toNatClampNeg x3)) - x4) → Q (-12 : Int32) f_3))))))))))))))))))) ∧ (¬ (f_3 36 (Int32.toNatClampNeg x1)) = (f_3 36 (Int32.toNatClampNeg x3)) → Q (-13 : Int32) f_3))))) ∧ ((f_3 36 (Int32.toNatClampNeg x3)) = (-1 : Int32) → Q (-11 : Int32) f_3))))))) ∧ (r_4 = (0 : Int32) → Q (-2 : Int32) f_3))))))))
def wbX7_roads_153 (K64 : Int32 → Int32 → Int32 → Int32 → Int32 → St → Prop) (Q : Int32 → St → Prop) (x1 : Int32) (x3 : Int32) (x4 : Int32) (x6 : Int32) (t0 : Int32) (t1 : Int32) (f : St) : Prop :=
  (∀ x5_11 : Int32, x5_11 = (t1 + t0) → (∀ x6_12 : Int32, x6_12 = x6 + (1 : Int32) → K64 x1 x3 x4 x5_11 x6_12 f))
def wbX7_roads_64 (K64 : Int32 → Int32 → Int32 → Int32 → Int32 → St → Prop) (Q : Int32 → St → Prop) (x1 : Int32) (x3 : Int32) (x4 : Int32) (x5 : Int32) (x6 : Int32) (f : St) : Prop :=
  ((x4 ≤ x6 → Q x5 f) ∧ (¬ x4 ≤ x6 → (∀ x7_7 : Int32, x7_7 = (x3 + ((3 : Int32) * x6)) → ((x3 < (0 : Int32) → Q (-12 : Int32) f) ∧ (¬ x3 < (0 : Int32) → ((x7_7 < x3 → Q (-12 : Int32) f) ∧ (¬ x7_7 < x3 → (vp_in x1 4 ∧ ((x7_7 ≤ ((f 37 (Int32.toNatClampNeg x1)) - (3 : Int32)) → (∀ x8_8 : Int32, x8_8 = (((40 : Int32) * x1) + x7_7) → (vp_in x8_8 160 ∧ (vp_in (x8_8 + (1 : Int32)) 160 ∧ (vp_in (x8_8 + (2 : Int32)) 160 ∧ (wX7_road f (f 38 (Int32.toNatClampNeg x8_8)) (f 38 (Int32.toNatClampNeg (x8_8 + (1 : Int32)))) (f 38 (Int32.toNatClampNeg (x8_8 + (2 : Int32)))) (fun r_10 f_9 => ((r_10 < (0 : Int32) → wbX7_roads_153 K64 Q x1 x3 x4 x6 (0 : Int32) x5 f_9) ∧ (¬ r_10 < (0 : Int32) → wbX7_roads_153 K64 Q x1 x3 x4 x6 (1 : Int32) x5 f_9))))))))) ∧ (¬ x7_7 ≤ ((f 37 (Int32.toNatClampNeg x1)) - (3 : Int32)) → Q (-12 : Int32) f))))))))))
def wlX7_roads_64  (Q : Int32 → St → Prop) : Nat → Int32 → Int32 → Int32 → Int32 → Int32 → St → Prop
  | 0 => fun _ _ _ _ _ _ => False
  | n + 1 => wbX7_roads_64 (wlX7_roads_64  Q n) Q
def wX7_roads (f : St) (x1 : Int32) (x2 : Int32) (x3 : Int32) (x4 : Int32) (Q : Int32 → St → Prop) : Prop :=
  (wX7_in f x1 (0 : Int32) (3 : Int32) (fun r_2 f_1 => ((r_2 = (0 : Int32) → Q (-2 : Int32) f_1) ∧ (¬ r_2 = (0 : Int32) → (wX7_in f_1 x2 (0 : Int32) (2 : Int32) (fun r_4 f_3 => ((r_4 = (0 : Int32) → Q (-2 : Int32) f_3) ∧ (¬ r_4 = (0 : Int32) → (wX7_in f_3 x4 (0 : Int32) (13 : Int32) (fun r_6 f_5 => ((¬ r_6 = (0 : Int32) → (vp_in x1 4 ∧ ((¬ (f_5 36 (Int32.toNatClampNeg x1)) = (-1 : Int32) → (vp_in x1 4 ∧ (((f_5 36 (Int32.toNatClampNeg x1)) = x2 → (∃ n : Nat, wlX7_roads_64  Q n x1 x3 x4 (0 : Int32) (0 : Int32) f_5)) ∧ (¬ (f_5 36 (Int32.toNatClampNeg x1)) = x2 → Q (-13 : Int32) f_5)))) ∧ ((f_5 36 (Int32.toNatClampNeg x1)) = (-1 : Int32) → Q (-11 : Int32) f_5)))) ∧ (r_6 = (0 : Int32) → Q (-2 : Int32) f_5))))))))))))
def wbX7_isUnder_29  (Q : Int32 → St → Prop)  (f : St) : Prop :=
  Q (1 : Int32) f
def wbX7_isUnder_19  (Q : Int32 → St → Prop) (x0 : Int32) (x1 : Int32) (f : St) : Prop :=
  ((¬ x1 = (3 : Int32) → Q (0 : Int32) f) ∧ (x1 = (3 : Int32) → ((¬ x0 = (4 : Int32) → Q (0 : Int32) f) ∧ (x0 = (4 : Int32) → wbX7_isUnder_29  Q  f))))
def wX7_isUnder (f : St) (x0 : Int32) (x1 : Int32) (Q : Int32 → St → Prop) : Prop :=
  ((x1 = (0 : Int32) → wbX7_isUnder_29  Q  f) ∧ (¬ x1 = (0 : Int32) → ((x0 = x1 → wbX7_isUnder_29  Q  f) ∧ (¬ x0 = x1 → ((¬ x1 = (1 : Int32) → wbX7_isUnder_19  Q x0 x1 f) ∧ (x1 = (1 : Int32) → ((x0 = (5 : Int32) → wbX7_isUnder_29  Q  f) ∧ (¬ x0 = (5 : Int32) → wbX7_isUnder_19  Q x0 x1 f))))))))
def wX7_taken (f : St) (x1 : Int32) (x2 : Int32) (Q : Int32 → St → Prop) : Prop :=
  (wX7_in f x2 (0 : Int32) (6 : Int32) (fun r_2 f_1 => ((¬ r_2 = (0 : Int32) → (wX7_in f_1 x1 (0 : Int32) (17 : Int32) (fun r_4 f_3 => ((¬ r_4 = (0 : Int32) → (((6 : Int32) ≤ x1 → (((x1 - (6 : Int32)) < (f_3 99 16) → (((6 : Int32) ≤ x2 → Q (-13 : Int32) f_3) ∧ (¬ (6 : Int32) ≤ x2 → (vp_in (x1 - (6 : Int32)) 12 ∧ (wX7_isUnder f_3 (f_3 17 (Int32.toNatClampNeg (x1 - (6 : Int32)))) x2 (fun r_6 f_5 => ((r_6 = (0 : Int32) → Q (-13 : Int32) f_5) ∧ (¬ r_6 = (0 : Int32) → Q (x1 - (6 : Int32)) f_5)))))))) ∧ (¬ (x1 - (6 : Int32)) < (f_3 99 16) → Q (-11 : Int32) f_3))) ∧ (¬ (6 : Int32) ≤ x1 → ((x1 < (f_3 99 0) → ((¬ x2 = (6 : Int32) → Q (-13 : Int32) f_3) ∧ (x2 = (6 : Int32) → (vp_in x1 6 ∧ Q (f_3 1 (Int32.toNatClampNeg x1)) f_3)))) ∧ (¬ x1 < (f_3 99 0) → Q (-11 : Int32) f_3))))) ∧ (r_4 = (0 : Int32) → Q (-12 : Int32) f_3))))) ∧ (r_2 = (0 : Int32) → Q (-2 : Int32) f_1))))
