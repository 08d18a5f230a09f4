/-! the system's film, seen -/
set_option maxRecDepth 100000
theorem RsW.pfr {h h' : amH} {X : XS} (w : RsW h X) (f : pFr h h') : rsFr h h' ∧ RsW h' X := by
  have hn := w.1.2.2.2
  obtain ⟨f1, f2, f3, f4, f5⟩ := f
  have o : opFr h h' := ⟨f2, fun i hi => ⟨(f5 i hi).1, (f5 i hi).2.1, fun _ => (f5 i hi).2.2, fun a1 a2 a3 a4 => (f3 i hi a1 (by omega)).2.1⟩, fun j hj => f4 j (by omega)⟩
  exact ⟨o.rs hn, w.op o (w.1.2.1.kept (fun i h1 h2 => (f3 i (by omega) (by omega) (by omega)).2.1)) w.1.2.2.1 (w.2.2.2.1.mv (f4 15 (by omega)) (f5 41 (by omega)).2.2 (fun i hi => (f3 i (by unfold pastC at hi; omega) (by unfold pastC at hi; omega) (by unfold pastC at hi; omega)).2.1)) w.2.2.2.2.1⟩
/-- an item of a sheet -/
theorem getS {h : amH} {s k q : Nat} {vs : List Int64} {K : Option Value → amH → Prop} (hs : ShIs1 h s (some (k, vs))) (b5 : h.1 (57 + s) = (0, 5)) (hq : q < vs.length) : tX5_get [.ref (57 + s), .int (nI q)] h K = K (some (.long (vs.getD q 0))) h := by
  obtain ⟨k4, v24, x, x1, x2, x3, x4, x5⟩ := hs
  have ev : (if (h.1 x).1 = 5 then h.2.2.1 x (nI q).toNatClampNeg else (h.2.1 x (nI q).toNatClampNeg).toInt64) = vs.getD q 0 := by
    rw [x5 q hq, x4, amCl_nI (by omega)]
    match k, k4 with
    | 0, _ => rfl
    | 1, _ => rfl
    | 2, _ => rfl
    | 3, _ => rfl
  rw [tX5_get_d]
  apply propext
  constructor
  · rintro ⟨a, a1, a2, a3, a4, kk⟩
    cases x3.symm.trans a2
    rw [ev] at kk
    exact kk
  · intro kk
    refine ⟨x, b5, x3, by rw [x4]; exact (laneKA k4).1, ?_, by rw [ev]; exact kk⟩
    rw [x4]
    exact vp_in_nI hq (by omega)
theorem nI_ofL {y : Int32} (h : lN 0 ≤ y.toInt64 ∧ y.toInt64 ≤ lN 20) : y = nI y.toInt64.toNatClampNeg := by
  obtain ⟨e, l20⟩ := lN_small h
  generalize y.toInt64.toNatClampNeg = n at e l20
  apply Int32.toInt_inj.mp
  have := congrArg Int64.toInt e
  rw [Int32.toInt_toInt64, lN_toInt (by omega)] at this
  rw [this, nI_toInt (by omega)]
theorem lN_eqB {a b : Nat} (ha : a < 2147483648) (hb : b < 2147483648) : (lN a = lN b) = (a = b) := by
  apply propext
  constructor
  · intro h
    have := congrArg Int64.toInt h
    rw [lN_toInt (by omega), lN_toInt (by omega)] at this
    omega
  · intro h; rw [h]
/-- an item of a row that shows numbers -/
theorem rowGet {h : amH} {s r i p : Nat} {vs : List Nat} {K : Option Value → amH → Prop} (b5 : h.1 s = (0, 5)) (hr : h.2.2.2.1 s 0 = some r) (row : rowAt h r i vs) (hp : p < vs.length) (hi : i + p < 2147483648) (hv : vs.getD p 0 < 2147483648) : tX5_get [.ref s, .int (nI (i + p))] h K = K (some (.long (lN (vs.getD p 0)))) h := by
  obtain ⟨r1, r2, r3⟩ := row
  have ev : (if (h.1 r).1 = 5 then h.2.2.1 r (nI (i + p)).toNatClampNeg else (h.2.1 r (nI (i + p)).toNatClampNeg).toInt64) = lN (vs.getD p 0) := by
    rw [amCl_nI hi]
    rcases r3 with ⟨z, z2⟩ | ⟨z, z2⟩
    · rw [if_neg (by omega), z2 p hp, am64 _ hv]
    · rw [if_pos z, z2 p hp]
  rw [tX5_get_d]
  apply propext
  constructor
  · rintro ⟨a, a1, a2, a3, a4, kk⟩
    cases hr.symm.trans a2
    rw [ev] at kk
    exact kk
  · intro kk
    refine ⟨r, b5, hr, ?_, ?_, by rw [ev]; exact kk⟩
    · rcases r3 with ⟨z, -⟩ | ⟨z, -⟩
      · rcases z with z | z | z
        · exact Or.inl z
        · exact Or.inr (Or.inl z)
        · exact Or.inr (Or.inr (Or.inl z))
      · exact Or.inr (Or.inr (Or.inr z))
    · intro y
      rcases y with y | y
      · exact nI_pos (by omega) y
      · rw [amCl_nI hi] at y; omega
/-! ReadingStages.lambda$seen$6(LReadingStages$Sheet;ILReadingStages$Shelf;)Z -/
def kX0_lambda_seen_6 : Nat → Bool := fun pc => pc == 6 || pc == 12
def rX0_lambda_seen_6 : List (Nat × amS) := [(3, 3, 0, 0, (amRecv 0 tX0_go)), (15, 1, 0, 0, (amRecv 2 tX2_size)), (29, 1, 0, 0, amTget 0 4), (35, 1, 0, 0, tJ2_bitCount), (44, 2, 0, 0, (amRecv 5 tX5_get)), (66, 1, 0, 0, amTget 0 12), (80, 2, 0, 0, amTput 0 12)]
def eX0_lambda_seen_6 (ret : Option Value → amH → Nat → Nat → Prop) (F : amX) : Nat → amX := amWp cX0_lambda_seen_6 kX0_lambda_seen_6 (amLk rX0_lambda_seen_6) (some .boolean) 0 0 ret F
def sX0_lambda_seen_6 (ret : Option Value → amH → Nat → Nat → Prop) (F : amX) : Nat → amX := amWs cX0_lambda_seen_6 kX0_lambda_seen_6 (amLk rX0_lambda_seen_6) (some .boolean) 0 0 ret F
theorem wX0_lambda_seen_6_0 {ret F n h} {v0 v1 v2 v3 v4 v5 st} : eX0_lambda_seen_6 ret F (n + 1) 0 [v0, v1, v2, v3, v4, v5] (st) h 0 0 = (amIsR v0 ∧ eX0_lambda_seen_6 ret F n 1 [v0, v1, v2, v3, v4, v5] (v0 :: st) h 0 0) := (amWp_dec rfl dX0_lambda_seen_6_0 rfl).trans rfl
theorem uX0_lambda_seen_6_0 {ret F n h} {v0 v1 v2 v3 v4 v5 st} : sX0_lambda_seen_6 ret F n 0 [v0, v1, v2, v3, v4, v5] (st) h 0 0 = (amIsR v0 ∧ eX0_lambda_seen_6 ret F n 1 [v0, v1, v2, v3, v4, v5] (v0 :: st) h 0 0) := (amWs_dec dX0_lambda_seen_6_0 rfl).trans rfl
theorem wX0_lambda_seen_6_1 {ret F n h} {v0 v1 v2 v3 v4 v5 st} : eX0_lambda_seen_6 ret F (n + 1) 1 [v0, v1, v2, v3, v4, v5] (st) h 0 0 = (amIsR v3 ∧ eX0_lambda_seen_6 ret F n 2 [v0, v1, v2, v3, v4, v5] (v3 :: st) h 0 0) := (amWp_dec rfl dX0_lambda_seen_6_1 rfl).trans rfl
theorem wX0_lambda_seen_6_2 {ret F n h} {v0 v1 v2 v3 v4 v5 st} : eX0_lambda_seen_6 ret F (n + 1) 2 [v0, v1, v2, v3, v4, v5] (st) h 0 0 = (eX0_lambda_seen_6 ret F n 3 [v0, v1, v2, v3, v4, v5] (.int (nI 0) :: st) h 0 0) := (amWp_dec rfl dX0_lambda_seen_6_2 rfl).trans rfl
theorem wX0_lambda_seen_6_3 {ret F n h} {v0 v1 v2 v3 v4 v5 x2 x1 x0} : eX0_lambda_seen_6 ret F (n + 1) 3 [v0, v1, v2, v3, v4, v5] (.int x2 :: .ref x1 :: .ref x0 :: []) h 0 0 = (h.1 x0 = (0, 0) ∧ tX0_go [.ref x0, .ref x1, .int x2] h (fun v h => eX0_lambda_seen_6 ret F n 6 [v0, v1, v2, v3, v4, v5] (v.toList ++ ([])) h 0 0)) := (amWp_dec rfl dX0_lambda_seen_6_3 rfl).trans (amS4 (Nat.le_of_ble_eq_true rfl) (Nat.le_of_ble_eq_true rfl) (Nat.le_of_ble_eq_true rfl) (Nat.le_of_ble_eq_true rfl))
theorem wX0_lambda_seen_6_6 {ret F n ls st h k z} : eX0_lambda_seen_6 ret F (n + 1) 6 ls st h k z = F 6 ls st h k z := amWp_cut rfl
theorem uX0_lambda_seen_6_6 {ret F n h} {v0 v1 v2 v3 v4 v5 st} : sX0_lambda_seen_6 ret F n 6 [v0, v1, v2, v3, v4, v5] (st) h 0 0 = (eX0_lambda_seen_6 ret F n 7 [v0, v1, v2, v3, v4, v5] (.int (nI 1) :: st) h 0 0) := (amWs_dec dX0_lambda_seen_6_6 rfl).trans rfl
theorem wX0_lambda_seen_6_7 {ret F n h} {v0 v1 v2 v3 v4 v5 st x} : eX0_lambda_seen_6 ret F (n + 1) 7 [v0, v1, v2, v3, v4, v5] (.int x :: st) h 0 0 = (eX0_lambda_seen_6 ret F n 9 [v0, v1, v2, amClr v3, .int x, v5] (st) h 0 0) := (amWp_dec rfl dX0_lambda_seen_6_7 rfl).trans (amTrue (Nat.le_of_ble_eq_true rfl))
theorem wX0_lambda_seen_6_9 {ret F n h} {v0 v1 v2 v3 v4 v5 st} : eX0_lambda_seen_6 ret F (n + 1) 9 [v0, v1, v2, v3, v4, v5] (st) h 0 0 = (eX0_lambda_seen_6 ret F n 10 [v0, v1, v2, v3, v4, v5] (.int (nI 0) :: st) h 0 0) := (amWp_dec rfl dX0_lambda_seen_6_9 rfl).trans rfl
theorem wX0_lambda_seen_6_10 {ret F n h} {v0 v1 v2 v3 v4 v5 st x} : eX0_lambda_seen_6 ret F (n + 1) 10 [v0, v1, v2, v3, v4, v5] (.int x :: st) h 0 0 = (eX0_lambda_seen_6 ret F n 12 [v0, v1, v2, v3, amClr v4, .int x] (st) h 0 0) := (amWp_dec rfl dX0_lambda_seen_6_10 rfl).trans (amTrue (Nat.le_of_ble_eq_true rfl))
theorem wX0_lambda_seen_6_12 {ret F n ls st h k z} : eX0_lambda_seen_6 ret F (n + 1) 12 ls st h k z = F 12 ls st h k z := amWp_cut rfl
theorem uX0_lambda_seen_6_12 {ret F n h} {v0 v1 v2 v3 v4 st x} : sX0_lambda_seen_6 ret F n 12 [v0, v1, v2, v3, v4, .int x] (st) h 0 0 = (eX0_lambda_seen_6 ret F n 14 [v0, v1, v2, v3, v4, .int x] (.int x :: st) h 0 0) := (amWs_dec dX0_lambda_seen_6_12 rfl).trans rfl
theorem wX0_lambda_seen_6_14 {ret F n h} {v0 v1 v2 v3 v4 v5 st} : eX0_lambda_seen_6 ret F (n + 1) 14 [v0, v1, v2, v3, v4, v5] (st) h 0 0 = (amIsR v3 ∧ eX0_lambda_seen_6 ret F n 15 [v0, v1, v2, v3, v4, v5] (v3 :: st) h 0 0) := (amWp_dec rfl dX0_lambda_seen_6_14 rfl).trans rfl
theorem wX0_lambda_seen_6_15 {ret F n h} {v0 v1 v2 v3 v4 v5 x0 r0} : eX0_lambda_seen_6 ret F (n + 1) 15 [v0, v1, v2, v3, v4, v5] (.ref x0 :: r0 :: []) h 0 0 = (h.1 x0 = (0, 2) ∧ tX2_size [.ref x0] h (fun v h => eX0_lambda_seen_6 ret F n 20 [v0, v1, v2, v3, v4, v5] (v.toList ++ (r0 :: [])) h 0 0)) := (amWp_dec rfl dX0_lambda_seen_6_15 rfl).trans (amS4 (Nat.le_of_ble_eq_true rfl) (Nat.le_of_ble_eq_true rfl) (Nat.le_of_ble_eq_true rfl) (Nat.le_of_ble_eq_true rfl))
theorem wX0_lambda_seen_6_20 {ret F n h} {v0 v1 v2 v3 v4 v5 st y x} : eX0_lambda_seen_6 ret F (n + 1) 20 [v0, v1, v2, v3, v4, v5] (.int y :: .int x :: st) h 0 0 = ((y ≤ x → eX0_lambda_seen_6 ret F n 64 [v0, v1, v2, v3, v4, v5] (st) h 0 0) ∧ (¬ y ≤ x → eX0_lambda_seen_6 ret F n 23 [v0, v1, v2, v3, v4, v5] (st) h 0 0)) := (amWp_dec rfl dX0_lambda_seen_6_20 rfl).trans rfl
theorem wX0_lambda_seen_6_23 {ret F n h} {v0 v1 v2 v3 v5 st x} : eX0_lambda_seen_6 ret F (n + 1) 23 [v0, v1, v2, v3, .int x, v5] (st) h 0 0 = (eX0_lambda_seen_6 ret F n 25 [v0, v1, v2, v3, .int x, v5] (.int x :: st) h 0 0) := (amWp_dec rfl dX0_lambda_seen_6_23 rfl).trans rfl
theorem wX0_lambda_seen_6_25 {ret F n h} {v0 v1 v2 v3 v4 v5 st x} : eX0_lambda_seen_6 ret F (n + 1) 25 [v0, v1, v2, v3, v4, v5] (.int x :: st) h 0 0 = ((x = 0 → eX0_lambda_seen_6 ret F n 55 [v0, v1, v2, v3, v4, v5] (st) h 0 0) ∧ (¬ x = 0 → eX0_lambda_seen_6 ret F n 28 [v0, v1, v2, v3, v4, v5] (st) h 0 0)) := (amWp_dec rfl dX0_lambda_seen_6_25 rfl).trans rfl
theorem wX0_lambda_seen_6_28 {ret F n h} {v0 v1 v2 v3 v4 v5 st} : eX0_lambda_seen_6 ret F (n + 1) 28 [v0, v1, v2, v3, v4, v5] (st) h 0 0 = (amIsR v0 ∧ eX0_lambda_seen_6 ret F n 29 [v0, v1, v2, v3, v4, v5] (v0 :: st) h 0 0) := (amWp_dec rfl dX0_lambda_seen_6_28 rfl).trans rfl
theorem wX0_lambda_seen_6_29 {ret F n h} {v0 v1 v2 v3 v4 v5 a} : eX0_lambda_seen_6 ret F (n + 1) 29 [v0, v1, v2, v3, v4, v5] (.ref a :: []) h 0 0 = (h.1 a = (0, 0) ∧ eX0_lambda_seen_6 ret F n 32 [v0, v1, v2, v3, v4, v5] (va_rf (h.2.2.2.1 a 4) :: []) h 0 0) := (amWp_dec rfl dX0_lambda_seen_6_29 rfl).trans (amS4 (Nat.le_of_ble_eq_true rfl) (Nat.le_of_ble_eq_true rfl) (Nat.le_of_ble_eq_true rfl) (Nat.le_of_ble_eq_true rfl))
theorem wX0_lambda_seen_6_32 {ret F n h} {v0 v1 v2 v3 v4 st x} : eX0_lambda_seen_6 ret F (n + 1) 32 [v0, v1, v2, v3, v4, .int x] (st) h 0 0 = (eX0_lambda_seen_6 ret F n 34 [v0, v1, v2, v3, v4, .int x] (.int x :: st) h 0 0) := (amWp_dec rfl dX0_lambda_seen_6_32 rfl).trans rfl
theorem wX0_lambda_seen_6_34 {ret F n h} {v0 v1 v2 v3 v4 v5 st x a} : eX0_lambda_seen_6 ret F (n + 1) 34 [v0, v1, v2, v3, v4, v5] (.int x :: .ref a :: st) h 0 0 = ((h.1 a).1 = 1 ∧ vp_in x (h.1 a).2 ∧ eX0_lambda_seen_6 ret F n 35 [v0, v1, v2, v3, v4, v5] (.int (h.2.1 a x.toNatClampNeg) :: st) h 0 0) := (amWp_dec rfl dX0_lambda_seen_6_34 rfl).trans rfl
theorem wX0_lambda_seen_6_35 {ret F n h} {v0 v1 v2 v3 v4 v5 x0} : eX0_lambda_seen_6 ret F (n + 1) 35 [v0, v1, v2, v3, v4, v5] (.int x0 :: []) h 0 0 = (tJ2_bitCount [.int x0] h (fun v h => eX0_lambda_seen_6 ret F n 38 [v0, v1, v2, v3, v4, v5] (v.toList ++ ([])) h 0 0)) := (amWp_dec rfl dX0_lambda_seen_6_35 rfl).trans (amS4 (Nat.le_of_ble_eq_true rfl) (Nat.le_of_ble_eq_true rfl) (Nat.le_of_ble_eq_true rfl) (Nat.le_of_ble_eq_true rfl))
theorem wX0_lambda_seen_6_38 {ret F n h} {v0 v1 v2 v3 v4 v5 st x} : eX0_lambda_seen_6 ret F (n + 1) 38 [v0, v1, v2, v3, v4, v5] (.int x :: st) h 0 0 = (eX0_lambda_seen_6 ret F n 39 [v0, v1, v2, v3, v4, v5] (.long x.toInt64 :: st) h 0 0) := (amWp_dec rfl dX0_lambda_seen_6_38 rfl).trans rfl
theorem wX0_lambda_seen_6_39 {ret F n h} {v0 v1 v2 v3 v4 v5 st} : eX0_lambda_seen_6 ret F (n + 1) 39 [v0, v1, v2, v3, v4, v5] (st) h 0 0 = (amIsR v1 ∧ eX0_lambda_seen_6 ret F n 40 [v0, v1, v2, v3, v4, v5] (v1 :: st) h 0 0) := (amWp_dec rfl dX0_lambda_seen_6_39 rfl).trans rfl
theorem wX0_lambda_seen_6_40 {ret F n h} {v0 v1 v3 v4 v5 st x} : eX0_lambda_seen_6 ret F (n + 1) 40 [v0, v1, .int x, v3, v4, v5] (st) h 0 0 = (eX0_lambda_seen_6 ret F n 41 [v0, v1, .int x, v3, v4, v5] (.int x :: st) h 0 0) := (amWp_dec rfl dX0_lambda_seen_6_40 rfl).trans rfl
theorem wX0_lambda_seen_6_41 {ret F n h} {v0 v1 v2 v3 v4 st x} : eX0_lambda_seen_6 ret F (n + 1) 41 [v0, v1, v2, v3, v4, .int x] (st) h 0 0 = (eX0_lambda_seen_6 ret F n 43 [v0, v1, v2, v3, v4, .int x] (.int x :: st) h 0 0) := (amWp_dec rfl dX0_lambda_seen_6_41 rfl).trans rfl
theorem wX0_lambda_seen_6_43 {ret F n h} {v0 v1 v2 v3 v4 v5 st y x} : eX0_lambda_seen_6 ret F (n + 1) 43 [v0, v1, v2, v3, v4, v5] (.int y :: .int x :: st) h 0 0 = (eX0_lambda_seen_6 ret F n 44 [v0, v1, v2, v3, v4, v5] (.int (x + y) :: st) h 0 0) := (amWp_dec rfl dX0_lambda_seen_6_43 rfl).trans rfl
theorem wX0_lambda_seen_6_44 {ret F n h} {v0 v1 v2 v3 v4 v5 x1 x0 r0} : eX0_lambda_seen_6 ret F (n + 1) 44 [v0, v1, v2, v3, v4, v5] (.int x1 :: .ref x0 :: r0 :: []) h 0 0 = (h.1 x0 = (0, 5) ∧ tX5_get [.ref x0, .int x1] h (fun v h => eX0_lambda_seen_6 ret F n 47 [v0, v1, v2, v3, v4, v5] (v.toList ++ (r0 :: [])) h 0 0)) := (amWp_dec rfl dX0_lambda_seen_6_44 rfl).trans (amS4 (Nat.le_of_ble_eq_true rfl) (Nat.le_of_ble_eq_true rfl) (Nat.le_of_ble_eq_true rfl) (Nat.le_of_ble_eq_true rfl))
theorem wX0_lambda_seen_6_47 {ret F n h} {v0 v1 v2 v3 v4 v5 st y x} : eX0_lambda_seen_6 ret F (n + 1) 47 [v0, v1, v2, v3, v4, v5] (.long y :: .long x :: st) h 0 0 = (eX0_lambda_seen_6 ret F n 48 [v0, v1, v2, v3, v4, v5] (.int (lg_cmp x y) :: st) h 0 0) := (amWp_dec rfl dX0_lambda_seen_6_47 rfl).trans rfl
theorem wX0_lambda_seen_6_48 {ret F n h} {v0 v1 v2 v3 v4 v5 st x} : eX0_lambda_seen_6 ret F (n + 1) 48 [v0, v1, v2, v3, v4, v5] (.int x :: st) h 0 0 = ((¬ x = 0 → eX0_lambda_seen_6 ret F n 55 [v0, v1, v2, v3, v4, v5] (st) h 0 0) ∧ (x = 0 → eX0_lambda_seen_6 ret F n 51 [v0, v1, v2, v3, v4, v5] (st) h 0 0)) := (amWp_dec rfl dX0_lambda_seen_6_48 rfl).trans rfl
theorem wX0_lambda_seen_6_51 {ret F n h} {v0 v1 v2 v3 v4 v5 st} : eX0_lambda_seen_6 ret F (n + 1) 51 [v0, v1, v2, v3, v4, v5] (st) h 0 0 = (eX0_lambda_seen_6 ret F n 52 [v0, v1, v2, v3, v4, v5] (.int (nI 1) :: st) h 0 0) := (amWp_dec rfl dX0_lambda_seen_6_51 rfl).trans rfl
theorem wX0_lambda_seen_6_52 {ret F n h} {v0 v1 v2 v3 v4 v5 st} : eX0_lambda_seen_6 ret F (n + 1) 52 [v0, v1, v2, v3, v4, v5] (st) h 0 0 = (eX0_lambda_seen_6 ret F n 56 [v0, v1, v2, v3, v4, v5] (st) h 0 0) := (amWp_dec rfl dX0_lambda_seen_6_52 rfl).trans rfl
theorem wX0_lambda_seen_6_55 {ret F n h} {v0 v1 v2 v3 v4 v5 st} : eX0_lambda_seen_6 ret F (n + 1) 55 [v0, v1, v2, v3, v4, v5] (st) h 0 0 = (eX0_lambda_seen_6 ret F n 56 [v0, v1, v2, v3, v4, v5] (.int (nI 0) :: st) h 0 0) := (amWp_dec rfl dX0_lambda_seen_6_55 rfl).trans rfl
theorem wX0_lambda_seen_6_56 {ret F n h} {v0 v1 v2 v3 v4 v5 st x} : eX0_lambda_seen_6 ret F (n + 1) 56 [v0, v1, v2, v3, v4, v5] (.int x :: st) h 0 0 = (eX0_lambda_seen_6 ret F n 58 [v0, v1, v2, amClr v3, .int x, v5] (st) h 0 0) := (amWp_dec rfl dX0_lambda_seen_6_56 rfl).trans (amTrue (Nat.le_of_ble_eq_true rfl))
theorem wX0_lambda_seen_6_58 {ret F n h} {v0 v1 v2 v3 v4 st x} : eX0_lambda_seen_6 ret F (n + 1) 58 [v0, v1, v2, v3, v4, .int x] (st) h 0 0 = (eX0_lambda_seen_6 ret F n 61 [v0, v1, v2, v3, amClr v4, .int (x + nI 1)] (st) h 0 0) := (amWp_dec rfl dX0_lambda_seen_6_58 rfl).trans rfl
theorem wX0_lambda_seen_6_61 {ret F n h} {v0 v1 v2 v3 v4 v5 st} : eX0_lambda_seen_6 ret F (n + 1) 61 [v0, v1, v2, v3, v4, v5] (st) h 0 0 = (eX0_lambda_seen_6 ret F n 12 [v0, v1, v2, v3, v4, v5] (st) h 0 0) := (amWp_dec rfl dX0_lambda_seen_6_61 rfl).trans rfl
theorem wX0_lambda_seen_6_64 {ret F n h} {v0 v1 v2 v3 v4 v5 st} : eX0_lambda_seen_6 ret F (n + 1) 64 [v0, v1, v2, v3, v4, v5] (st) h 0 0 = (amIsR v0 ∧ eX0_lambda_seen_6 ret F n 65 [v0, v1, v2, v3, v4, v5] (v0 :: st) h 0 0) := (amWp_dec rfl dX0_lambda_seen_6_64 rfl).trans rfl
theorem wX0_lambda_seen_6_65 {ret F n h} {v0 v1 v2 v3 v4 v5 st b} : eX0_lambda_seen_6 ret F (n + 1) 65 [v0, v1, v2, v3, v4, v5] (.ref b :: st) h 0 0 = (eX0_lambda_seen_6 ret F n 66 [v0, v1, v2, v3, v4, v5] (.ref b :: .ref b :: st) h 0 0) := (amWp_dec rfl dX0_lambda_seen_6_65 rfl).trans (amTrue rfl)
theorem wX0_lambda_seen_6_66 {ret F n h} {v0 v1 v2 v3 v4 v5 r0 a} : eX0_lambda_seen_6 ret F (n + 1) 66 [v0, v1, v2, v3, v4, v5] (.ref a :: r0 :: []) h 0 0 = (h.1 a = (0, 0) ∧ eX0_lambda_seen_6 ret F n 69 [v0, v1, v2, v3, v4, v5] (.int (h.2.1 a 12) :: r0 :: []) h 0 0) := (amWp_dec rfl dX0_lambda_seen_6_66 rfl).trans (amS4 (Nat.le_of_ble_eq_true rfl) (Nat.le_of_ble_eq_true rfl) (Nat.le_of_ble_eq_true rfl) (Nat.le_of_ble_eq_true rfl))
theorem wX0_lambda_seen_6_69 {ret F n h} {v0 v1 v2 v3 v5 st x} : eX0_lambda_seen_6 ret F (n + 1) 69 [v0, v1, v2, v3, .int x, v5] (st) h 0 0 = (eX0_lambda_seen_6 ret F n 71 [v0, v1, v2, v3, .int x, v5] (.int x :: st) h 0 0) := (amWp_dec rfl dX0_lambda_seen_6_69 rfl).trans rfl
theorem wX0_lambda_seen_6_71 {ret F n h} {v0 v1 v2 v3 v4 v5 st x} : eX0_lambda_seen_6 ret F (n + 1) 71 [v0, v1, v2, v3, v4, v5] (.int x :: st) h 0 0 = ((x = 0 → eX0_lambda_seen_6 ret F n 78 [v0, v1, v2, v3, v4, v5] (st) h 0 0) ∧ (¬ x = 0 → eX0_lambda_seen_6 ret F n 74 [v0, v1, v2, v3, v4, v5] (st) h 0 0)) := (amWp_dec rfl dX0_lambda_seen_6_71 rfl).trans rfl
theorem wX0_lambda_seen_6_74 {ret F n h} {v0 v1 v2 v3 v4 v5 st} : eX0_lambda_seen_6 ret F (n + 1) 74 [v0, v1, v2, v3, v4, v5] (st) h 0 0 = (eX0_lambda_seen_6 ret F n 75 [v0, v1, v2, v3, v4, v5] (.int (nI 1) :: st) h 0 0) := (amWp_dec rfl dX0_lambda_seen_6_74 rfl).trans rfl
theorem wX0_lambda_seen_6_75 {ret F n h} {v0 v1 v2 v3 v4 v5 st} : eX0_lambda_seen_6 ret F (n + 1) 75 [v0, v1, v2, v3, v4, v5] (st) h 0 0 = (eX0_lambda_seen_6 ret F n 79 [v0, v1, v2, v3, v4, v5] (st) h 0 0) := (amWp_dec rfl dX0_lambda_seen_6_75 rfl).trans rfl
theorem wX0_lambda_seen_6_78 {ret F n h} {v0 v1 v2 v3 v4 v5 st} : eX0_lambda_seen_6 ret F (n + 1) 78 [v0, v1, v2, v3, v4, v5] (st) h 0 0 = (eX0_lambda_seen_6 ret F n 79 [v0, v1, v2, v3, v4, v5] (.int (nI 0) :: st) h 0 0) := (amWp_dec rfl dX0_lambda_seen_6_78 rfl).trans rfl
theorem wX0_lambda_seen_6_79 {ret F n h} {v0 v1 v2 v3 v4 v5 st y x} : eX0_lambda_seen_6 ret F (n + 1) 79 [v0, v1, v2, v3, v4, v5] (.int y :: .int x :: st) h 0 0 = (eX0_lambda_seen_6 ret F n 80 [v0, v1, v2, v3, v4, v5] (.int (x + y) :: st) h 0 0) := (amWp_dec rfl dX0_lambda_seen_6_79 rfl).trans rfl
theorem wX0_lambda_seen_6_80 {ret F n h} {v0 v1 v2 v3 v4 v5 x a} : eX0_lambda_seen_6 ret F (n + 1) 80 [v0, v1, v2, v3, v4, v5] (.int x :: .ref a :: []) h 0 0 = (h.1 a = (0, 0) ∧ amN0 ≤ a ∧ amFit .int (.int x) ∧ eX0_lambda_seen_6 ret F n 83 [v0, v1, v2, v3, v4, v5] ([]) (amSI h (amU h.2.1 a 12 x)) 0 0) := (amWp_dec rfl dX0_lambda_seen_6_80 rfl).trans (amS4 (Nat.le_of_ble_eq_true rfl) (Nat.le_of_ble_eq_true rfl) (Nat.le_of_ble_eq_true rfl) (Nat.le_of_ble_eq_true rfl))
theorem wX0_lambda_seen_6_83 {ret F n h} {v0 v1 v2 v3 v4 v5 st} : eX0_lambda_seen_6 ret F (n + 1) 83 [v0, v1, v2, v3, v4, v5] (st) h 0 0 = (eX0_lambda_seen_6 ret F n 84 [v0, v1, v2, v3, v4, v5] (.int (nI 1) :: st) h 0 0) := (amWp_dec rfl dX0_lambda_seen_6_83 rfl).trans rfl
theorem wX0_lambda_seen_6_84 {ret F n h} {v0 v1 v2 v3 v4 v5 x} : eX0_lambda_seen_6 ret F (n + 1) 84 [v0, v1, v2, v3, v4, v5] ([.int x]) h 0 0 = (narrow .boolean (.int x) = .int x ∧ ret (some (.int x)) h 0 0) := (amWp_dec rfl dX0_lambda_seen_6_84 rfl).trans (amRetTy)
theorem evX0_lambda_seen_6 (l : Launch) (G : amG) : ∀ pc S i sz, amLk rX0_lambda_seen_6 pc = some S → decode cX0_lambda_seen_6 pc = .ok (i, sz) → amSiteP pc G l yX0_lambda_seen_6.cls yX0_lambda_seen_6.name yX0_lambda_seen_6.desc (amRm 6 0 0) i sz S.1 S.2.1 S.2.2.1 S.2.2.2 := amLk_ok (by
  refine List.forall_mem_cons.mpr ⟨⟨_, _, dX0_lambda_seen_6_3, amSite.P (amSiteV (C := RX0) (metX0_go l G) rfl (by decide) (by decide) (lw_V q423 q425 qs7 q86 q426) ⟨_, rfl, rfl⟩ ⟨rfl, by decide +kernel, by decide +kernel, by decide +kernel⟩)⟩, ?_⟩
  refine List.forall_mem_cons.mpr ⟨⟨_, _, dX0_lambda_seen_6_15, amSite.P (amSiteF (C := RX2) (x := ⟨"ReadingStages$Shelf", "size", "()I"⟩) (metX2_size l G) rfl (by decide) (by decide) (lw_app (by intro w hw; simp only [List.mem_cons, List.not_mem_nil, or_false] at hw; rcases hw with e | e | e | e <;> rw [e] <;> first | exact q432 | exact q409 | exact q411 | exact q88) (lw_meth q413)) (List.mem_of_getElem? (i := 0) rfl) ⟨_, rfl, rfl⟩ ⟨by decide +kernel, by decide +kernel, by decide +kernel⟩)⟩, ?_⟩
  refine List.forall_mem_cons.mpr ⟨⟨_, _, dX0_lambda_seen_6_29, amSite.P (amSiteGet ⟨_, rfl, by decide, Or.inl q305⟩)⟩, ?_⟩
  refine List.forall_mem_cons.mpr ⟨⟨_, _, dX0_lambda_seen_6_35, amSite.P (amSiteS (metJ2_bitCount l G) rfl (by decide) (by decide) (lw_S q454 q455 q97 q456) ⟨by decide +kernel, by decide +kernel, by decide +kernel⟩)⟩, ?_⟩
  refine List.forall_mem_cons.mpr ⟨⟨_, _, dX0_lambda_seen_6_44, amSite.P (amSiteV (C := RX5) (metX5_get l G) rfl (by decide) (by decide) (lw_V q1177 q1178 q1179 q93 q1180) ⟨_, rfl, rfl⟩ ⟨rfl, by decide +kernel, by decide +kernel, by decide +kernel⟩)⟩, ?_⟩
  refine List.forall_mem_cons.mpr ⟨⟨_, _, dX0_lambda_seen_6_66, amSite.P (amSiteGet ⟨_, rfl, by decide, Or.inl q313⟩)⟩, ?_⟩
  refine List.forall_mem_cons.mpr ⟨⟨_, _, dX0_lambda_seen_6_80, amSite.P (amSitePut ⟨_, rfl, by decide, Or.inl q313⟩ (fun q h => by cases h; rfl))⟩, ?_⟩
  exact fun _ h => absurd h List.not_mem_nil)
theorem goX0_lambda_seen_6 {ret F} (hF : amCld cX0_lambda_seen_6 kX0_lambda_seen_6 (amLk rX0_lambda_seen_6) (some .boolean) 0 0 ret F) (n : Nat) {pc ls st h k z} (q : sX0_lambda_seen_6 ret F n pc ls st h k z) : F pc ls st h k z := hF.1 n pc ls st h k z q
theorem metX0_lambda_seen_6 (l : Launch) (G : amG) : amMet l G yX0_lambda_seen_6 (ws_ yX0_lambda_seen_6 cX0_lambda_seen_6 6 (some .boolean)) 6 0 0 tX0_lambda_seen_6 := by
  refine amMet_of (cut := kX0_lambda_seen_6) (by decide +kernel) (evX0_lambda_seen_6 l G) ?_
  intro as h K hT
  match as, hT with
  | [.ref a, .ref s, .int i0, .ref b], ⟨S, l, vs, c, i, r, e, e2, ⟨hR, hS, hB, hX, hbo, hb, hl, ho, hn⟩, f1, s1, s2, e3, i31, row, vl, vb, hK⟩ =>
  refine ⟨Nat.le_of_ble_eq_true rfl, fun F hF => ?_⟩
  show F 0 [.ref a, .ref s, .int i0, .ref b, .retAddr 0, .retAddr 0] [] h 0 0
  obtain ⟨a, rfl⟩ : ∃ i : Nat, i = a := ⟨_, rfl⟩
  obtain ⟨s, rfl⟩ : ∃ i : Nat, i = s := ⟨_, rfl⟩
  obtain ⟨b, rfl⟩ : ∃ i : Nat, i = b := ⟨_, rfl⟩
  subst e; subst e2; subst e3
  have l7 := hl.1
  have len := S.rd_len l 0
  refine goX0_lambda_seen_6 hF 60 ?_
  simp (disch := omega) only [wX0_lambda_seen_6_0, uX0_lambda_seen_6_0, wX0_lambda_seen_6_1, wX0_lambda_seen_6_2, wX0_lambda_seen_6_3, wX0_lambda_seen_6_6, uX0_lambda_seen_6_6, wX0_lambda_seen_6_7, wX0_lambda_seen_6_9, wX0_lambda_seen_6_10, wX0_lambda_seen_6_12, uX0_lambda_seen_6_12, wX0_lambda_seen_6_14, wX0_lambda_seen_6_15, wX0_lambda_seen_6_20, wX0_lambda_seen_6_23, wX0_lambda_seen_6_25, wX0_lambda_seen_6_28, wX0_lambda_seen_6_29, wX0_lambda_seen_6_32, wX0_lambda_seen_6_34, wX0_lambda_seen_6_35, wX0_lambda_seen_6_38, wX0_lambda_seen_6_39, wX0_lambda_seen_6_40, wX0_lambda_seen_6_41, wX0_lambda_seen_6_43, wX0_lambda_seen_6_44, wX0_lambda_seen_6_47, wX0_lambda_seen_6_48, wX0_lambda_seen_6_51, wX0_lambda_seen_6_52, wX0_lambda_seen_6_55, wX0_lambda_seen_6_56, wX0_lambda_seen_6_58, wX0_lambda_seen_6_61, wX0_lambda_seen_6_64, wX0_lambda_seen_6_65, wX0_lambda_seen_6_66, wX0_lambda_seen_6_69, wX0_lambda_seen_6_71, wX0_lambda_seen_6_74, wX0_lambda_seen_6_75, wX0_lambda_seen_6_78, wX0_lambda_seen_6_79, wX0_lambda_seen_6_80, wX0_lambda_seen_6_83, wX0_lambda_seen_6_84, amSI_1, amSI_2, amSI_3, amSI_s, amU_at, amIsR_ref, amIsR_null, amIsR_rf, amRf_some, amRf_none, amClr_int, amClr_ref, amClr_null, amClr_long, amClr_ra, amClr_rf, amFit_int, amFit_oref, amFit_aref, amFit_onull, amFit_anull, amOptSome, amOptNone, List.cons_append, List.nil_append, true_and, and_true, true_implies, not_true_eq_false, not_false_eq_true, false_implies, and_self, Nat.add_zero, Nat.zero_add, ne_eq, Prod.mk.injEq, amC01_0, amC01_1, amC01_nb, amNb0, amNb1, amTcpI_d, Nat.reduceLeDiff, Nat.reduceAdd, Nat.reduceSub, Nat.reduceEqDiff, Nat.le_refl, amN0le, hR.s, hR.r, amLeI, amLtI, amEqI, amLe0, amGt0, amEq0, amNotPosI, amGe0, amVI, amCl_nI, amAdd, amSub, amMul, tX0_go_d]
  refine ⟨S, l, 0, hR, hS, hB, hX, hb, hl, ho, hn, rfl, by decide, fun m' q1 q2 => ?_⟩
  have q1 : RdIs m' (S.rd l 0) := q1
  have m24 : m' 24 = h.2.1 24 := q2 24 (by omega)
  have mb : m' 37 1 = nI l.length := by rw [q2 37 (by omega)]; exact hl.2.2.1
  have mc : m' 24 12 = nI c := by rw [m24]; exact f1
  have row' : rowAt (amSI h m') r i vs := ⟨row.1, row.2.1, row.2.2.imp (fun z => ⟨z.1, fun p hp => by
    show m' r (i + p) = _
    rw [q2 r (by have := row.1; omega)]
    exact z.2 p hp⟩) id⟩
  have fin : ∀ b : Nat, b = (if seenHit S vs l then 1 else 0) → F 12 [.ref 24, .ref s, .int (nI i), .ref 37, .int (nI b), .int (nI l.length)] [] (amSI h m') 0 0 := by
    intro b eb
    have key := hK (amU m' 24 12 (nI (c + b))) (fun i h1 h2 h3 h4 => by
      simp (disch := omega) only [amU_at, amU_ne, amU_nj, amU_neR, up_ne, up_at, amSI_2]
      exact q2 i h2) (fun j hj => by simp (disch := omega) only [amU_at, amU_ne, amU_nj, amU_neR, up_ne, up_at, amSI_2, m24]) (by
      rw [amU_at, eb]
      split <;> rfl)
    have b2 : b = 0 ∨ b = 1 := by rw [eb]; split <;> simp
    rcases b2 with e | e <;> subst e
    · refine goX0_lambda_seen_6 hF 60 ?_
      simp (disch := omega) only [wX0_lambda_seen_6_0, uX0_lambda_seen_6_0, wX0_lambda_seen_6_1, wX0_lambda_seen_6_2, wX0_lambda_seen_6_3, wX0_lambda_seen_6_6, uX0_lambda_seen_6_6, wX0_lambda_seen_6_7, wX0_lambda_seen_6_9, wX0_lambda_seen_6_10, wX0_lambda_seen_6_12, uX0_lambda_seen_6_12, wX0_lambda_seen_6_14, wX0_lambda_seen_6_15, wX0_lambda_seen_6_20, wX0_lambda_seen_6_23, wX0_lambda_seen_6_25, wX0_lambda_seen_6_28, wX0_lambda_seen_6_29, wX0_lambda_seen_6_32, wX0_lambda_seen_6_34, wX0_lambda_seen_6_35, wX0_lambda_seen_6_38, wX0_lambda_seen_6_39, wX0_lambda_seen_6_40, wX0_lambda_seen_6_41, wX0_lambda_seen_6_43, wX0_lambda_seen_6_44, wX0_lambda_seen_6_47, wX0_lambda_seen_6_48, wX0_lambda_seen_6_51, wX0_lambda_seen_6_52, wX0_lambda_seen_6_55, wX0_lambda_seen_6_56, wX0_lambda_seen_6_58, wX0_lambda_seen_6_61, wX0_lambda_seen_6_64, wX0_lambda_seen_6_65, wX0_lambda_seen_6_66, wX0_lambda_seen_6_69, wX0_lambda_seen_6_71, wX0_lambda_seen_6_74, wX0_lambda_seen_6_75, wX0_lambda_seen_6_78, wX0_lambda_seen_6_79, wX0_lambda_seen_6_80, wX0_lambda_seen_6_83, wX0_lambda_seen_6_84, amSI_1, amSI_2, amSI_3, amSI_s, amU_at, amIsR_ref, amIsR_null, amIsR_rf, amRf_some, amRf_none, amClr_int, amClr_ref, amClr_null, amClr_long, amClr_ra, amClr_rf, amFit_int, amFit_oref, amFit_aref, amFit_onull, amFit_anull, amOptSome, amOptNone, List.cons_append, List.nil_append, true_and, and_true, true_implies, not_true_eq_false, not_false_eq_true, false_implies, and_self, Nat.add_zero, Nat.zero_add, ne_eq, Prod.mk.injEq, amC01_0, amC01_1, amC01_nb, amNb0, amNb1, amTcpI_d, Nat.reduceLeDiff, Nat.reduceAdd, Nat.reduceSub, Nat.reduceEqDiff, Nat.le_refl, amN0le, hR.s, hR.r, amLeI, amLtI, amEqI, amLe0, amGt0, amEq0, amNotPosI, amGe0, amVI, amCl_nI, amAdd, amSub, amMul, tX2_size_d, mb, mc]
      exact amRet.of (by decide) (by decide) key
    · refine goX0_lambda_seen_6 hF 60 ?_
      simp (disch := omega) only [wX0_lambda_seen_6_0, uX0_lambda_seen_6_0, wX0_lambda_seen_6_1, wX0_lambda_seen_6_2, wX0_lambda_seen_6_3, wX0_lambda_seen_6_6, uX0_lambda_seen_6_6, wX0_lambda_seen_6_7, wX0_lambda_seen_6_9, wX0_lambda_seen_6_10, wX0_lambda_seen_6_12, uX0_lambda_seen_6_12, wX0_lambda_seen_6_14, wX0_lambda_seen_6_15, wX0_lambda_seen_6_20, wX0_lambda_seen_6_23, wX0_lambda_seen_6_25, wX0_lambda_seen_6_28, wX0_lambda_seen_6_29, wX0_lambda_seen_6_32, wX0_lambda_seen_6_34, wX0_lambda_seen_6_35, wX0_lambda_seen_6_38, wX0_lambda_seen_6_39, wX0_lambda_seen_6_40, wX0_lambda_seen_6_41, wX0_lambda_seen_6_43, wX0_lambda_seen_6_44, wX0_lambda_seen_6_47, wX0_lambda_seen_6_48, wX0_lambda_seen_6_51, wX0_lambda_seen_6_52, wX0_lambda_seen_6_55, wX0_lambda_seen_6_56, wX0_lambda_seen_6_58, wX0_lambda_seen_6_61, wX0_lambda_seen_6_64, wX0_lambda_seen_6_65, wX0_lambda_seen_6_66, wX0_lambda_seen_6_69, wX0_lambda_seen_6_71, wX0_lambda_seen_6_74, wX0_lambda_seen_6_75, wX0_lambda_seen_6_78, wX0_lambda_seen_6_79, wX0_lambda_seen_6_80, wX0_lambda_seen_6_83, wX0_lambda_seen_6_84, amSI_1, amSI_2, amSI_3, amSI_s, amU_at, amIsR_ref, amIsR_null, amIsR_rf, amRf_some, amRf_none, amClr_int, amClr_ref, amClr_null, amClr_long, amClr_ra, amClr_rf, amFit_int, amFit_oref, amFit_aref, amFit_onull, amFit_anull, amOptSome, amOptNone, List.cons_append, List.nil_append, true_and, and_true, true_implies, not_true_eq_false, not_false_eq_true, false_implies, and_self, Nat.add_zero, Nat.zero_add, ne_eq, Prod.mk.injEq, amC01_0, amC01_1, amC01_nb, amNb0, amNb1, amTcpI_d, Nat.reduceLeDiff, Nat.reduceAdd, Nat.reduceSub, Nat.reduceEqDiff, Nat.le_refl, amN0le, hR.s, hR.r, amLeI, amLtI, amEqI, amLe0, amGt0, amEq0, amNotPosI, amGe0, amVI, amCl_nI, amAdd, amSub, amMul, tX2_size_d, mb, mc]
      exact amRet.of (by decide) (by decide) key
  have loop : ∀ t p b, p + t = l.length → b = (if seenTo S vs l p then 1 else 0) → F 12 [.ref 24, .ref s, .int (nI i), .ref 37, .int (nI b), .int (nI p)] [] (amSI h m') 0 0 := by
    intro t
    induction t with
    | zero =>
      intro p b e eb
      have e : p = l.length := by omega
      subst e
      rw [seenTo_hit vl] at eb
      exact fin b eb
    | succ t ih =>
      intro p b e eb
      have q : (l.length ≤ p) = False := eq_false (by omega)
      obtain ⟨r2, r3⟩ := q1.pk p (by rw [len]; omega)
      have pl := pop_le ((S.rd l 0).2.getD p PL0).1
      have gv := vb _ (getD_mem (l := vs) (p := p) (by omega))
      have gt : ∀ K, tX5_get [.ref s, .int (nI (i + p))] (amSI h m') K = K (some (.long (lN (vs.getD p 0)))) (amSI h m') := fun K => rowGet s1 s2 row' (by omega) (by omega) gv
      have n1 := ih (p + 1) 1 (by omega)
      have n0 := ih (p + 1) 0 (by omega)
      rw [seenTo] at n1 n0
      by_cases y : seenTo S vs l p = true
      · rw [if_pos y] at eb
        subst eb
        rw [y] at n1 n0
        refine goX0_lambda_seen_6 hF 60 ?_
        simp (disch := omega) only [wX0_lambda_seen_6_0, uX0_lambda_seen_6_0, wX0_lambda_seen_6_1, wX0_lambda_seen_6_2, wX0_lambda_seen_6_3, wX0_lambda_seen_6_6, uX0_lambda_seen_6_6, wX0_lambda_seen_6_7, wX0_lambda_seen_6_9, wX0_lambda_seen_6_10, wX0_lambda_seen_6_12, uX0_lambda_seen_6_12, wX0_lambda_seen_6_14, wX0_lambda_seen_6_15, wX0_lambda_seen_6_20, wX0_lambda_seen_6_23, wX0_lambda_seen_6_25, wX0_lambda_seen_6_28, wX0_lambda_seen_6_29, wX0_lambda_seen_6_32, wX0_lambda_seen_6_34, wX0_lambda_seen_6_35, wX0_lambda_seen_6_38, wX0_lambda_seen_6_39, wX0_lambda_seen_6_40, wX0_lambda_seen_6_41, wX0_lambda_seen_6_43, wX0_lambda_seen_6_44, wX0_lambda_seen_6_47, wX0_lambda_seen_6_48, wX0_lambda_seen_6_51, wX0_lambda_seen_6_52, wX0_lambda_seen_6_55, wX0_lambda_seen_6_56, wX0_lambda_seen_6_58, wX0_lambda_seen_6_61, wX0_lambda_seen_6_64, wX0_lambda_seen_6_65, wX0_lambda_seen_6_66, wX0_lambda_seen_6_69, wX0_lambda_seen_6_71, wX0_lambda_seen_6_74, wX0_lambda_seen_6_75, wX0_lambda_seen_6_78, wX0_lambda_seen_6_79, wX0_lambda_seen_6_80, wX0_lambda_seen_6_83, wX0_lambda_seen_6_84, amSI_1, amSI_2, amSI_3, amSI_s, amU_at, amIsR_ref, amIsR_null, amIsR_rf, amRf_some, amRf_none, amClr_int, amClr_ref, amClr_null, amClr_long, amClr_ra, amClr_rf, amFit_int, amFit_oref, amFit_aref, amFit_onull, amFit_anull, amOptSome, amOptNone, List.cons_append, List.nil_append, true_and, and_true, true_implies, not_true_eq_false, not_false_eq_true, false_implies, and_self, Nat.add_zero, Nat.zero_add, ne_eq, Prod.mk.injEq, amC01_0, amC01_1, amC01_nb, amNb0, amNb1, amTcpI_d, Nat.reduceLeDiff, Nat.reduceAdd, Nat.reduceSub, Nat.reduceEqDiff, Nat.le_refl, amN0le, hR.s, hR.r, amLeI, amLtI, amEqI, amLe0, amGt0, amEq0, amNotPosI, amGe0, amVI, amCl_nI, amAdd, amSub, amMul, tX2_size_d, mb, q, r2, bitCountN r3, am64, s1]
        rw [gt]
        simp (disch := omega) only [wX0_lambda_seen_6_0, uX0_lambda_seen_6_0, wX0_lambda_seen_6_1, wX0_lambda_seen_6_2, wX0_lambda_seen_6_3, wX0_lambda_seen_6_6, uX0_lambda_seen_6_6, wX0_lambda_seen_6_7, wX0_lambda_seen_6_9, wX0_lambda_seen_6_10, wX0_lambda_seen_6_12, uX0_lambda_seen_6_12, wX0_lambda_seen_6_14, wX0_lambda_seen_6_15, wX0_lambda_seen_6_20, wX0_lambda_seen_6_23, wX0_lambda_seen_6_25, wX0_lambda_seen_6_28, wX0_lambda_seen_6_29, wX0_lambda_seen_6_32, wX0_lambda_seen_6_34, wX0_lambda_seen_6_35, wX0_lambda_seen_6_38, wX0_lambda_seen_6_39, wX0_lambda_seen_6_40, wX0_lambda_seen_6_41, wX0_lambda_seen_6_43, wX0_lambda_seen_6_44, wX0_lambda_seen_6_47, wX0_lambda_seen_6_48, wX0_lambda_seen_6_51, wX0_lambda_seen_6_52, wX0_lambda_seen_6_55, wX0_lambda_seen_6_56, wX0_lambda_seen_6_58, wX0_lambda_seen_6_61, wX0_lambda_seen_6_64, wX0_lambda_seen_6_65, wX0_lambda_seen_6_66, wX0_lambda_seen_6_69, wX0_lambda_seen_6_71, wX0_lambda_seen_6_74, wX0_lambda_seen_6_75, wX0_lambda_seen_6_78, wX0_lambda_seen_6_79, wX0_lambda_seen_6_80, wX0_lambda_seen_6_83, wX0_lambda_seen_6_84, amSI_1, amSI_2, amSI_3, amSI_s, amU_at, amIsR_ref, amIsR_null, amIsR_rf, amRf_some, amRf_none, amClr_int, amClr_ref, amClr_null, amClr_long, amClr_ra, amClr_rf, amFit_int, amFit_oref, amFit_aref, amFit_onull, amFit_anull, amOptSome, amOptNone, List.cons_append, List.nil_append, true_and, and_true, true_implies, not_true_eq_false, not_false_eq_true, false_implies, and_self, Nat.add_zero, Nat.zero_add, ne_eq, Prod.mk.injEq, amC01_0, amC01_1, amC01_nb, amNb0, amNb1, amTcpI_d, Nat.reduceLeDiff, Nat.reduceAdd, Nat.reduceSub, Nat.reduceEqDiff, Nat.le_refl, amN0le, hR.s, hR.r, amLeI, amLtI, amEqI, amLe0, amGt0, amEq0, amNotPosI, amGe0, amVI, amCl_nI, amAdd, amSub, amMul, amCmpEq, lN_eqB]
        refine ⟨fun z => n0 ?_, fun z => n1 ?_⟩
        · rw [Bool.true_and, if_neg (by simpa using z)]
        · rw [Bool.true_and, if_pos (by simpa using z)]
      · have y2 : seenTo S vs l p = false := by simpa using y
        rw [if_neg y] at eb
        subst eb
        rw [y2] at n0
        refine goX0_lambda_seen_6 hF 60 ?_
        simp (disch := omega) only [wX0_lambda_seen_6_0, uX0_lambda_seen_6_0, wX0_lambda_seen_6_1, wX0_lambda_seen_6_2, wX0_lambda_seen_6_3, wX0_lambda_seen_6_6, uX0_lambda_seen_6_6, wX0_lambda_seen_6_7, wX0_lambda_seen_6_9, wX0_lambda_seen_6_10, wX0_lambda_seen_6_12, uX0_lambda_seen_6_12, wX0_lambda_seen_6_14, wX0_lambda_seen_6_15, wX0_lambda_seen_6_20, wX0_lambda_seen_6_23, wX0_lambda_seen_6_25, wX0_lambda_seen_6_28, wX0_lambda_seen_6_29, wX0_lambda_seen_6_32, wX0_lambda_seen_6_34, wX0_lambda_seen_6_35, wX0_lambda_seen_6_38, wX0_lambda_seen_6_39, wX0_lambda_seen_6_40, wX0_lambda_seen_6_41, wX0_lambda_seen_6_43, wX0_lambda_seen_6_44, wX0_lambda_seen_6_47, wX0_lambda_seen_6_48, wX0_lambda_seen_6_51, wX0_lambda_seen_6_52, wX0_lambda_seen_6_55, wX0_lambda_seen_6_56, wX0_lambda_seen_6_58, wX0_lambda_seen_6_61, wX0_lambda_seen_6_64, wX0_lambda_seen_6_65, wX0_lambda_seen_6_66, wX0_lambda_seen_6_69, wX0_lambda_seen_6_71, wX0_lambda_seen_6_74, wX0_lambda_seen_6_75, wX0_lambda_seen_6_78, wX0_lambda_seen_6_79, wX0_lambda_seen_6_80, wX0_lambda_seen_6_83, wX0_lambda_seen_6_84, amSI_1, amSI_2, amSI_3, amSI_s, amU_at, amIsR_ref, amIsR_null, amIsR_rf, amRf_some, amRf_none, amClr_int, amClr_ref, amClr_null, amClr_long, amClr_ra, amClr_rf, amFit_int, amFit_oref, amFit_aref, amFit_onull, amFit_anull, amOptSome, amOptNone, List.cons_append, List.nil_append, true_and, and_true, true_implies, not_true_eq_false, not_false_eq_true, false_implies, and_self, Nat.add_zero, Nat.zero_add, ne_eq, Prod.mk.injEq, amC01_0, amC01_1, amC01_nb, amNb0, amNb1, amTcpI_d, Nat.reduceLeDiff, Nat.reduceAdd, Nat.reduceSub, Nat.reduceEqDiff, Nat.le_refl, amN0le, hR.s, hR.r, amLeI, amLtI, amEqI, amLe0, amGt0, amEq0, amNotPosI, amGe0, amVI, amCl_nI, amAdd, amSub, amMul, tX2_size_d, mb, q]
        exact n0 rfl
  refine goX0_lambda_seen_6 hF 60 ?_
  simp (disch := omega) only [wX0_lambda_seen_6_0, uX0_lambda_seen_6_0, wX0_lambda_seen_6_1, wX0_lambda_seen_6_2, wX0_lambda_seen_6_3, wX0_lambda_seen_6_6, uX0_lambda_seen_6_6, wX0_lambda_seen_6_7, wX0_lambda_seen_6_9, wX0_lambda_seen_6_10, wX0_lambda_seen_6_12, uX0_lambda_seen_6_12, wX0_lambda_seen_6_14, wX0_lambda_seen_6_15, wX0_lambda_seen_6_20, wX0_lambda_seen_6_23, wX0_lambda_seen_6_25, wX0_lambda_seen_6_28, wX0_lambda_seen_6_29, wX0_lambda_seen_6_32, wX0_lambda_seen_6_34, wX0_lambda_seen_6_35, wX0_lambda_seen_6_38, wX0_lambda_seen_6_39, wX0_lambda_seen_6_40, wX0_lambda_seen_6_41, wX0_lambda_seen_6_43, wX0_lambda_seen_6_44, wX0_lambda_seen_6_47, wX0_lambda_seen_6_48, wX0_lambda_seen_6_51, wX0_lambda_seen_6_52, wX0_lambda_seen_6_55, wX0_lambda_seen_6_56, wX0_lambda_seen_6_58, wX0_lambda_seen_6_61, wX0_lambda_seen_6_64, wX0_lambda_seen_6_65, wX0_lambda_seen_6_66, wX0_lambda_seen_6_69, wX0_lambda_seen_6_71, wX0_lambda_seen_6_74, wX0_lambda_seen_6_75, wX0_lambda_seen_6_78, wX0_lambda_seen_6_79, wX0_lambda_seen_6_80, wX0_lambda_seen_6_83, wX0_lambda_seen_6_84, amSI_1, amSI_2, amSI_3, amSI_s, amU_at, amIsR_ref, amIsR_null, amIsR_rf, amRf_some, amRf_none, amClr_int, amClr_ref, amClr_null, amClr_long, amClr_ra, amClr_rf, amFit_int, amFit_oref, amFit_aref, amFit_onull, amFit_anull, amOptSome, amOptNone, List.cons_append, List.nil_append, true_and, and_true, true_implies, not_true_eq_false, not_false_eq_true, false_implies, and_self, Nat.add_zero, Nat.zero_add, ne_eq, Prod.mk.injEq, amC01_0, amC01_1, amC01_nb, amNb0, amNb1, amTcpI_d, Nat.reduceLeDiff, Nat.reduceAdd, Nat.reduceSub, Nat.reduceEqDiff, Nat.le_refl, amN0le, hR.s, hR.r]
  exact loop l.length 0 1 (by omega) rfl
theorem tX0_lambda_seen_6_d {a s b : Nat} {i0 : Int32} {h : amH} {K : Option Value → amH → Prop} : tX0_lambda_seen_6 [.ref a, .ref s, .int i0, .ref b] h K = ∃ (S : HS) (l vs : List Nat) (c i r : Nat), a = (24 : Nat) ∧ b = (37 : Nat) ∧ rdPre h S 37 l ∧ h.2.1 24 12 = nI c ∧ h.1 s = (0, 5) ∧ h.2.2.2.1 s 0 = some r ∧ i0 = nI i ∧ i < 2147483000 ∧ rowAt h r i vs ∧ vs.length = l.length ∧ (∀ x ∈ vs, x < 2147483648) ∧ ∀ m', asFr h.2.1 m' → (∀ j : Nat, j ≠ 12 → m' 24 j = h.2.1 24 j) → m' 24 12 = nI (if seenHit S vs l then c + 1 else c) → K (some (.int (nI 1))) (amSI h m') := rfl
def tX0_seen : amT := fun as h K => match as with
  | [.ref a, .int s0, .int lane, .int i] => ∃ X : XS, a = (24 : Nat) ∧ RsW h X ∧ ∀ h', rsFr h h' → RsW h' X → K (some (.int (seenR X s0 lane i))) h'
  | _ => False
/-! ReadingStages.seen(III)I -/
def kX0_seen : Nat → Bool := fun pc => pc == 49 || pc == 84 || pc == 105
def rX0_seen : List (Nat × amS) := [(2, 2, 0, 0, tX0_isSheet), (11, 1, 0, 0, amTget 0 0), (14, 1, 0, 0, (amRecv 1 tX1_many)), (25, 5, 0, 0, (amRecv 0 tX0_lacks)), (39, 1, 0, 0, amTget 0 24), (62, 2, 0, 0, (amRecv 5 tX5_get)), (66, 0, 0, 0, amTcon (.long (20))), (69, 3, 0, 0, tX0_isIn), (97, 3, 1, 3, amTdyn3 26), (102, 2, 0, 0, (amRecv 0 tX0_askAll)), (106, 1, 0, 0, amTget 0 12)]
def eX0_seen (ret : Option Value → amH → Nat → Nat → Prop) (F : amX) : Nat → amX := amWp cX0_seen kX0_seen (amLk rX0_seen) (some .int) 1 3 ret F
def sX0_seen (ret : Option Value → amH → Nat → Nat → Prop) (F : amX) : Nat → amX := amWs cX0_seen kX0_seen (amLk rX0_seen) (some .int) 1 3 ret F
theorem wX0_seen_0 {ret F n h k z} {v0 v2 v3 v4 v5 v6 v7 st x} : eX0_seen ret F (n + 1) 0 [v0, .int x, v2, v3, v4, v5, v6, v7] (st) h k z = (eX0_seen ret F n 1 [v0, .int x, v2, v3, v4, v5, v6, v7] (.int x :: st) h k z) := (amWp_dec rfl dX0_seen_0 rfl).trans rfl
theorem uX0_seen_0 {ret F n h k z} {v0 v2 v3 v4 v5 v6 v7 st x} : sX0_seen ret F n 0 [v0, .int x, v2, v3, v4, v5, v6, v7] (st) h k z = (eX0_seen ret F n 1 [v0, .int x, v2, v3, v4, v5, v6, v7] (.int x :: st) h k z) := (amWs_dec dX0_seen_0 rfl).trans rfl
theorem wX0_seen_1 {ret F n h k z} {v0 v1 v3 v4 v5 v6 v7 st x} : eX0_seen ret F (n + 1) 1 [v0, v1, .int x, v3, v4, v5, v6, v7] (st) h k z = (eX0_seen ret F n 2 [v0, v1, .int x, v3, v4, v5, v6, v7] (.int x :: st) h k z) := (amWp_dec rfl dX0_seen_1 rfl).trans rfl
theorem wX0_seen_2 {ret F n h k z} {v0 v1 v2 v3 v4 v5 v6 v7 x1 x0} : eX0_seen ret F (n + 1) 2 [v0, v1, v2, v3, v4, v5, v6, v7] (.int x1 :: .int x0 :: []) h k z = (k + 0 ≤ 1 ∧ z + 0 ≤ 3 ∧ tX0_isSheet [.int x0, .int x1] h (fun v h => eX0_seen ret F n 5 [v0, v1, v2, v3, v4, v5, v6, v7] (v.toList ++ ([])) h (k + 0) (z + 0))) := (amWp_dec rfl dX0_seen_2 rfl).trans (amS2 (Nat.le_of_ble_eq_true rfl) (Nat.le_of_ble_eq_true rfl))
theorem wX0_seen_5 {ret F n h k z} {v0 v1 v2 v3 v4 v5 v6 v7 st x} : eX0_seen ret F (n + 1) 5 [v0, v1, v2, v3, v4, v5, v6, v7] (.int x :: st) h k z = ((¬ x = 0 → eX0_seen ret F n 10 [v0, v1, v2, v3, v4, v5, v6, v7] (st) h k z) ∧ (x = 0 → eX0_seen ret F n 8 [v0, v1, v2, v3, v4, v5, v6, v7] (st) h k z)) := (amWp_dec rfl dX0_seen_5 rfl).trans rfl
theorem wX0_seen_8 {ret F n h k z} {v0 v1 v2 v3 v4 v5 v6 v7 st} : eX0_seen ret F (n + 1) 8 [v0, v1, v2, v3, v4, v5, v6, v7] (st) h k z = (eX0_seen ret F n 9 [v0, v1, v2, v3, v4, v5, v6, v7] (.int (-1) :: st) h k z) := (amWp_dec rfl dX0_seen_8 rfl).trans rfl
theorem wX0_seen_9 {ret F n h k z} {v0 v1 v2 v3 v4 v5 v6 v7 x} : eX0_seen ret F (n + 1) 9 [v0, v1, v2, v3, v4, v5, v6, v7] ([.int x]) h k z = (ret (some (.int x)) h k z) := (amWp_dec rfl dX0_seen_9 rfl).trans (amTrue ⟨_, rfl, rfl⟩)
theorem wX0_seen_10 {ret F n h k z} {v0 v1 v2 v3 v4 v5 v6 v7 st} : eX0_seen ret F (n + 1) 10 [v0, v1, v2, v3, v4, v5, v6, v7] (st) h k z = (amIsR v0 ∧ eX0_seen ret F n 11 [v0, v1, v2, v3, v4, v5, v6, v7] (v0 :: st) h k z) := (amWp_dec rfl dX0_seen_10 rfl).trans rfl
theorem wX0_seen_11 {ret F n h k z} {v0 v1 v2 v3 v4 v5 v6 v7 a} : eX0_seen ret F (n + 1) 11 [v0, v1, v2, v3, v4, v5, v6, v7] (.ref a :: []) h k z = (k + 0 ≤ 1 ∧ z + 0 ≤ 3 ∧ h.1 a = (0, 0) ∧ eX0_seen ret F n 14 [v0, v1, v2, v3, v4, v5, v6, v7] (va_rf (h.2.2.2.1 a 0) :: []) h (k + 0) (z + 0)) := (amWp_dec rfl dX0_seen_11 rfl).trans (amS2 (Nat.le_of_ble_eq_true rfl) (Nat.le_of_ble_eq_true rfl))
theorem wX0_seen_14 {ret F n h k z} {v0 v1 v2 v3 v4 v5 v6 v7 x0} : eX0_seen ret F (n + 1) 14 [v0, v1, v2, v3, v4, v5, v6, v7] (.ref x0 :: []) h k z = (k + 0 ≤ 1 ∧ z + 0 ≤ 3 ∧ h.1 x0 = (0, 1) ∧ tX1_many [.ref x0] h (fun v h => eX0_seen ret F n 17 [v0, v1, v2, v3, v4, v5, v6, v7] (v.toList ++ ([])) h (k + 0) (z + 0))) := (amWp_dec rfl dX0_seen_14 rfl).trans (amS2 (Nat.le_of_ble_eq_true rfl) (Nat.le_of_ble_eq_true rfl))
theorem wX0_seen_17 {ret F n h k z} {v0 v1 v2 v3 v4 v5 v6 v7 st x} : eX0_seen ret F (n + 1) 17 [v0, v1, v2, v3, v4, v5, v6, v7] (.int x :: st) h k z = (eX0_seen ret F n 19 [v0, v1, v2, amClr v3, .int x, v5, v6, v7] (st) h k z) := (amWp_dec rfl dX0_seen_17 rfl).trans (amTrue (Nat.le_of_ble_eq_true rfl))
theorem wX0_seen_19 {ret F n h k z} {v0 v1 v2 v3 v4 v5 v6 v7 st} : eX0_seen ret F (n + 1) 19 [v0, v1, v2, v3, v4, v5, v6, v7] (st) h k z = (amIsR v0 ∧ eX0_seen ret F n 20 [v0, v1, v2, v3, v4, v5, v6, v7] (v0 :: st) h k z) := (amWp_dec rfl dX0_seen_19 rfl).trans rfl
theorem wX0_seen_20 {ret F n h k z} {v0 v2 v3 v4 v5 v6 v7 st x} : eX0_seen ret F (n + 1) 20 [v0, .int x, v2, v3, v4, v5, v6, v7] (st) h k z = (eX0_seen ret F n 21 [v0, .int x, v2, v3, v4, v5, v6, v7] (.int x :: st) h k z) := (amWp_dec rfl dX0_seen_20 rfl).trans rfl
theorem wX0_seen_21 {ret F n h k z} {v0 v1 v3 v4 v5 v6 v7 st x} : eX0_seen ret F (n + 1) 21 [v0, v1, .int x, v3, v4, v5, v6, v7] (st) h k z = (eX0_seen ret F n 22 [v0, v1, .int x, v3, v4, v5, v6, v7] (.int x :: st) h k z) := (amWp_dec rfl dX0_seen_21 rfl).trans rfl
theorem wX0_seen_22 {ret F n h k z} {v0 v1 v2 v4 v5 v6 v7 st x} : eX0_seen ret F (n + 1) 22 [v0, v1, v2, .int x, v4, v5, v6, v7] (st) h k z = (eX0_seen ret F n 23 [v0, v1, v2, .int x, v4, v5, v6, v7] (.int x :: st) h k z) := (amWp_dec rfl dX0_seen_22 rfl).trans rfl
theorem wX0_seen_23 {ret F n h k z} {v0 v1 v2 v3 v5 v6 v7 st x} : eX0_seen ret F (n + 1) 23 [v0, v1, v2, v3, .int x, v5, v6, v7] (st) h k z = (eX0_seen ret F n 25 [v0, v1, v2, v3, .int x, v5, v6, v7] (.int x :: st) h k z) := (amWp_dec rfl dX0_seen_23 rfl).trans rfl
theorem wX0_seen_25 {ret F n h k z} {v0 v1 v2 v3 v4 v5 v6 v7 x4 x3 x2 x1 x0} : eX0_seen ret F (n + 1) 25 [v0, v1, v2, v3, v4, v5, v6, v7] (.int x4 :: .int x3 :: .int x2 :: .int x1 :: .ref x0 :: []) h k z = (k + 0 ≤ 1 ∧ z + 0 ≤ 3 ∧ h.1 x0 = (0, 0) ∧ tX0_lacks [.ref x0, .int x1, .int x2, .int x3, .int x4] h (fun v h => eX0_seen ret F n 28 [v0, v1, v2, v3, v4, v5, v6, v7] (v.toList ++ ([])) h (k + 0) (z + 0))) := (amWp_dec rfl dX0_seen_25 rfl).trans (amS2 (Nat.le_of_ble_eq_true rfl) (Nat.le_of_ble_eq_true rfl))
theorem wX0_seen_28 {ret F n h k z} {v0 v1 v2 v3 v4 v5 v6 v7 st x} : eX0_seen ret F (n + 1) 28 [v0, v1, v2, v3, v4, v5, v6, v7] (.int x :: st) h k z = (eX0_seen ret F n 30 [v0, v1, v2, v3, amClr v4, .int x, v6, v7] (st) h k z) := (amWp_dec rfl dX0_seen_28 rfl).trans (amTrue (Nat.le_of_ble_eq_true rfl))
theorem wX0_seen_30 {ret F n h k z} {v0 v1 v2 v3 v4 v6 v7 st x} : eX0_seen ret F (n + 1) 30 [v0, v1, v2, v3, v4, .int x, v6, v7] (st) h k z = (eX0_seen ret F n 32 [v0, v1, v2, v3, v4, .int x, v6, v7] (.int x :: st) h k z) := (amWp_dec rfl dX0_seen_30 rfl).trans rfl
theorem wX0_seen_32 {ret F n h k z} {v0 v1 v2 v3 v4 v5 v6 v7 st x} : eX0_seen ret F (n + 1) 32 [v0, v1, v2, v3, v4, v5, v6, v7] (.int x :: st) h k z = ((0 ≤ x → eX0_seen ret F n 38 [v0, v1, v2, v3, v4, v5, v6, v7] (st) h k z) ∧ (¬ 0 ≤ x → eX0_seen ret F n 35 [v0, v1, v2, v3, v4, v5, v6, v7] (st) h k z)) := (amWp_dec rfl dX0_seen_32 rfl).trans rfl
theorem wX0_seen_35 {ret F n h k z} {v0 v1 v2 v3 v4 v6 v7 st x} : eX0_seen ret F (n + 1) 35 [v0, v1, v2, v3, v4, .int x, v6, v7] (st) h k z = (eX0_seen ret F n 37 [v0, v1, v2, v3, v4, .int x, v6, v7] (.int x :: st) h k z) := (amWp_dec rfl dX0_seen_35 rfl).trans rfl
theorem wX0_seen_37 {ret F n h k z} {v0 v1 v2 v3 v4 v5 v6 v7 x} : eX0_seen ret F (n + 1) 37 [v0, v1, v2, v3, v4, v5, v6, v7] ([.int x]) h k z = (ret (some (.int x)) h k z) := (amWp_dec rfl dX0_seen_37 rfl).trans (amTrue ⟨_, rfl, rfl⟩)
theorem wX0_seen_38 {ret F n h k z} {v0 v1 v2 v3 v4 v5 v6 v7 st} : eX0_seen ret F (n + 1) 38 [v0, v1, v2, v3, v4, v5, v6, v7] (st) h k z = (amIsR v0 ∧ eX0_seen ret F n 39 [v0, v1, v2, v3, v4, v5, v6, v7] (v0 :: st) h k z) := (amWp_dec rfl dX0_seen_38 rfl).trans rfl
theorem wX0_seen_39 {ret F n h k z} {v0 v1 v2 v3 v4 v5 v6 v7 a} : eX0_seen ret F (n + 1) 39 [v0, v1, v2, v3, v4, v5, v6, v7] (.ref a :: []) h k z = (k + 0 ≤ 1 ∧ z + 0 ≤ 3 ∧ h.1 a = (0, 0) ∧ eX0_seen ret F n 42 [v0, v1, v2, v3, v4, v5, v6, v7] (va_rf (h.2.2.2.1 a 24) :: []) h (k + 0) (z + 0)) := (amWp_dec rfl dX0_seen_39 rfl).trans (amS2 (Nat.le_of_ble_eq_true rfl) (Nat.le_of_ble_eq_true rfl))
theorem wX0_seen_42 {ret F n h k z} {v0 v2 v3 v4 v5 v6 v7 st x} : eX0_seen ret F (n + 1) 42 [v0, .int x, v2, v3, v4, v5, v6, v7] (st) h k z = (eX0_seen ret F n 43 [v0, .int x, v2, v3, v4, v5, v6, v7] (.int x :: st) h k z) := (amWp_dec rfl dX0_seen_42 rfl).trans rfl
theorem wX0_seen_43 {ret F n h k z} {v0 v1 v2 v3 v4 v5 v6 v7 st x a} : eX0_seen ret F (n + 1) 43 [v0, v1, v2, v3, v4, v5, v6, v7] (.int x :: .ref a :: st) h k z = (6 ≤ (h.1 a).1 ∧ (h.1 a).1 ≤ 8 ∧ vp_in x (h.1 a).2 ∧ eX0_seen ret F n 44 [v0, v1, v2, v3, v4, v5, v6, v7] (va_rf (h.2.2.2.1 a x.toNatClampNeg) :: st) h k z) := (amWp_dec rfl dX0_seen_43 rfl).trans rfl
theorem wX0_seen_44 {ret F n h k z} {v0 v1 v2 v3 v4 v5 v6 v7 w st} : eX0_seen ret F (n + 1) 44 [v0, v1, v2, v3, v4, v5, v6, v7] (w :: st) h k z = (amIsR w ∧ eX0_seen ret F n 46 [v0, v1, v2, v3, v4, amClr v5, w, v7] (st) h k z) := (amWp_dec rfl dX0_seen_44 rfl).trans (amTrue2 (Nat.le_of_ble_eq_true rfl))
theorem wX0_seen_46 {ret F n h k z} {v0 v1 v2 v3 v4 v5 v6 v7 st} : eX0_seen ret F (n + 1) 46 [v0, v1, v2, v3, v4, v5, v6, v7] (st) h k z = (eX0_seen ret F n 47 [v0, v1, v2, v3, v4, v5, v6, v7] (.int (nI 0) :: st) h k z) := (amWp_dec rfl dX0_seen_46 rfl).trans rfl
theorem wX0_seen_47 {ret F n h k z} {v0 v1 v2 v3 v4 v5 v6 v7 st x} : eX0_seen ret F (n + 1) 47 [v0, v1, v2, v3, v4, v5, v6, v7] (.int x :: st) h k z = (eX0_seen ret F n 49 [v0, v1, v2, v3, v4, v5, amClr v6, .int x] (st) h k z) := (amWp_dec rfl dX0_seen_47 rfl).trans (amTrue (Nat.le_of_ble_eq_true rfl))
theorem wX0_seen_49 {ret F n ls st h k z} : eX0_seen ret F (n + 1) 49 ls st h k z = F 49 ls st h k z := amWp_cut rfl
theorem uX0_seen_49 {ret F n h k z} {v0 v1 v2 v3 v4 v5 v6 st x} : sX0_seen ret F n 49 [v0, v1, v2, v3, v4, v5, v6, .int x] (st) h k z = (eX0_seen ret F n 51 [v0, v1, v2, v3, v4, v5, v6, .int x] (.int x :: st) h k z) := (amWs_dec dX0_seen_49 rfl).trans rfl
theorem wX0_seen_51 {ret F n h k z} {v0 v1 v2 v3 v5 v6 v7 st x} : eX0_seen ret F (n + 1) 51 [v0, v1, v2, v3, .int x, v5, v6, v7] (st) h k z = (eX0_seen ret F n 53 [v0, v1, v2, v3, .int x, v5, v6, v7] (.int x :: st) h k z) := (amWp_dec rfl dX0_seen_51 rfl).trans rfl
theorem wX0_seen_53 {ret F n h k z} {v0 v1 v2 v3 v4 v5 v6 v7 st y x} : eX0_seen ret F (n + 1) 53 [v0, v1, v2, v3, v4, v5, v6, v7] (.int y :: .int x :: st) h k z = ((y ≤ x → eX0_seen ret F n 84 [v0, v1, v2, v3, v4, v5, v6, v7] (st) h k z) ∧ (¬ y ≤ x → eX0_seen ret F n 56 [v0, v1, v2, v3, v4, v5, v6, v7] (st) h k z)) := (amWp_dec rfl dX0_seen_53 rfl).trans rfl
theorem wX0_seen_56 {ret F n h k z} {v0 v1 v2 v3 v4 v5 v6 v7 st} : eX0_seen ret F (n + 1) 56 [v0, v1, v2, v3, v4, v5, v6, v7] (st) h k z = (amIsR v6 ∧ eX0_seen ret F n 58 [v0, v1, v2, v3, v4, v5, v6, v7] (v6 :: st) h k z) := (amWp_dec rfl dX0_seen_56 rfl).trans rfl
theorem wX0_seen_58 {ret F n h k z} {v0 v1 v2 v4 v5 v6 v7 st x} : eX0_seen ret F (n + 1) 58 [v0, v1, v2, .int x, v4, v5, v6, v7] (st) h k z = (eX0_seen ret F n 59 [v0, v1, v2, .int x, v4, v5, v6, v7] (.int x :: st) h k z) := (amWp_dec rfl dX0_seen_58 rfl).trans rfl
theorem wX0_seen_59 {ret F n h k z} {v0 v1 v2 v3 v4 v5 v6 st x} : eX0_seen ret F (n + 1) 59 [v0, v1, v2, v3, v4, v5, v6, .int x] (st) h k z = (eX0_seen ret F n 61 [v0, v1, v2, v3, v4, v5, v6, .int x] (.int x :: st) h k z) := (amWp_dec rfl dX0_seen_59 rfl).trans rfl
theorem wX0_seen_61 {ret F n h k z} {v0 v1 v2 v3 v4 v5 v6 v7 st y x} : eX0_seen ret F (n + 1) 61 [v0, v1, v2, v3, v4, v5, v6, v7] (.int y :: .int x :: st) h k z = (eX0_seen ret F n 62 [v0, v1, v2, v3, v4, v5, v6, v7] (.int (x + y) :: st) h k z) := (amWp_dec rfl dX0_seen_61 rfl).trans rfl
theorem wX0_seen_62 {ret F n h k z} {v0 v1 v2 v3 v4 v5 v6 v7 x1 x0} : eX0_seen ret F (n + 1) 62 [v0, v1, v2, v3, v4, v5, v6, v7] (.int x1 :: .ref x0 :: []) h k z = (k + 0 ≤ 1 ∧ z + 0 ≤ 3 ∧ h.1 x0 = (0, 5) ∧ tX5_get [.ref x0, .int x1] h (fun v h => eX0_seen ret F n 65 [v0, v1, v2, v3, v4, v5, v6, v7] (v.toList ++ ([])) h (k + 0) (z + 0))) := (amWp_dec rfl dX0_seen_62 rfl).trans (amS2 (Nat.le_of_ble_eq_true rfl) (Nat.le_of_ble_eq_true rfl))
theorem wX0_seen_65 {ret F n h k z} {v0 v1 v2 v3 v4 v5 v6 v7 st} : eX0_seen ret F (n + 1) 65 [v0, v1, v2, v3, v4, v5, v6, v7] (st) h k z = (eX0_seen ret F n 66 [v0, v1, v2, v3, v4, v5, v6, v7] (.long (lN 0) :: st) h k z) := (amWp_dec rfl dX0_seen_65 rfl).trans rfl
theorem wX0_seen_66 {ret F n h k z} {v0 v1 v2 v3 v4 v5 v6 v7 r0 r1} : eX0_seen ret F (n + 1) 66 [v0, v1, v2, v3, v4, v5, v6, v7] (r0 :: r1 :: []) h k z = (k + 0 ≤ 1 ∧ z + 0 ≤ 3 ∧ eX0_seen ret F n 69 [v0, v1, v2, v3, v4, v5, v6, v7] (.long (lN 20) :: r0 :: r1 :: []) h (k + 0) (z + 0)) := (amWp_dec rfl dX0_seen_66 rfl).trans (amS2 (Nat.le_of_ble_eq_true rfl) (Nat.le_of_ble_eq_true rfl))
theorem wX0_seen_69 {ret F n h k z} {v0 v1 v2 v3 v4 v5 v6 v7 x2 x1 x0} : eX0_seen ret F (n + 1) 69 [v0, v1, v2, v3, v4, v5, v6, v7] (.long x2 :: .long x1 :: .long x0 :: []) h k z = (k + 0 ≤ 1 ∧ z + 0 ≤ 3 ∧ tX0_isIn [.long x0, .long x1, .long x2] h (fun v h => eX0_seen ret F n 72 [v0, v1, v2, v3, v4, v5, v6, v7] (v.toList ++ ([])) h (k + 0) (z + 0))) := (amWp_dec rfl dX0_seen_69 rfl).trans (amS2 (Nat.le_of_ble_eq_true rfl) (Nat.le_of_ble_eq_true rfl))
theorem wX0_seen_72 {ret F n h k z} {v0 v1 v2 v3 v4 v5 v6 v7 st x} : eX0_seen ret F (n + 1) 72 [v0, v1, v2, v3, v4, v5, v6, v7] (.int x :: st) h k z = ((¬ x = 0 → eX0_seen ret F n 78 [v0, v1, v2, v3, v4, v5, v6, v7] (st) h k z) ∧ (x = 0 → eX0_seen ret F n 75 [v0, v1, v2, v3, v4, v5, v6, v7] (st) h k z)) := (amWp_dec rfl dX0_seen_72 rfl).trans rfl
theorem wX0_seen_75 {ret F n h k z} {v0 v1 v2 v3 v4 v5 v6 v7 st} : eX0_seen ret F (n + 1) 75 [v0, v1, v2, v3, v4, v5, v6, v7] (st) h k z = (eX0_seen ret F n 77 [v0, v1, v2, v3, v4, v5, v6, v7] (.int (-2) :: st) h k z) := (amWp_dec rfl dX0_seen_75 rfl).trans rfl
theorem wX0_seen_77 {ret F n h k z} {v0 v1 v2 v3 v4 v5 v6 v7 x} : eX0_seen ret F (n + 1) 77 [v0, v1, v2, v3, v4, v5, v6, v7] ([.int x]) h k z = (ret (some (.int x)) h k z) := (amWp_dec rfl dX0_seen_77 rfl).trans (amTrue ⟨_, rfl, rfl⟩)
theorem wX0_seen_78 {ret F n h k z} {v0 v1 v2 v3 v4 v5 v6 st x} : eX0_seen ret F (n + 1) 78 [v0, v1, v2, v3, v4, v5, v6, .int x] (st) h k z = (eX0_seen ret F n 81 [v0, v1, v2, v3, v4, v5, amClr v6, .int (x + nI 1)] (st) h k z) := (amWp_dec rfl dX0_seen_78 rfl).trans rfl
theorem wX0_seen_81 {ret F n h k z} {v0 v1 v2 v3 v4 v5 v6 v7 st} : eX0_seen ret F (n + 1) 81 [v0, v1, v2, v3, v4, v5, v6, v7] (st) h k z = (eX0_seen ret F n 49 [v0, v1, v2, v3, v4, v5, v6, v7] (st) h k z) := (amWp_dec rfl dX0_seen_81 rfl).trans rfl
theorem wX0_seen_84 {ret F n ls st h k z} : eX0_seen ret F (n + 1) 84 ls st h k z = F 84 ls st h k z := amWp_cut rfl
theorem uX0_seen_84 {ret F n h k z} {v0 v1 v2 v3 v5 v6 v7 st x} : sX0_seen ret F n 84 [v0, v1, v2, v3, .int x, v5, v6, v7] (st) h k z = (eX0_seen ret F n 86 [v0, v1, v2, v3, .int x, v5, v6, v7] (.int x :: st) h k z) := (amWs_dec dX0_seen_84 rfl).trans rfl
theorem wX0_seen_86 {ret F n h k z} {v0 v1 v2 v3 v4 v5 v6 v7 st x} : eX0_seen ret F (n + 1) 86 [v0, v1, v2, v3, v4, v5, v6, v7] (.int x :: st) h k z = ((¬ x = 0 → eX0_seen ret F n 92 [v0, v1, v2, v3, v4, v5, v6, v7] (st) h k z) ∧ (x = 0 → eX0_seen ret F n 89 [v0, v1, v2, v3, v4, v5, v6, v7] (st) h k z)) := (amWp_dec rfl dX0_seen_86 rfl).trans rfl
theorem wX0_seen_89 {ret F n h k z} {v0 v1 v2 v3 v4 v5 v6 v7 st} : eX0_seen ret F (n + 1) 89 [v0, v1, v2, v3, v4, v5, v6, v7] (st) h k z = (eX0_seen ret F n 91 [v0, v1, v2, v3, v4, v5, v6, v7] (.int (-2) :: st) h k z) := (amWp_dec rfl dX0_seen_89 rfl).trans rfl
theorem wX0_seen_91 {ret F n h k z} {v0 v1 v2 v3 v4 v5 v6 v7 x} : eX0_seen ret F (n + 1) 91 [v0, v1, v2, v3, v4, v5, v6, v7] ([.int x]) h k z = (ret (some (.int x)) h k z) := (amWp_dec rfl dX0_seen_91 rfl).trans (amTrue ⟨_, rfl, rfl⟩)
theorem wX0_seen_92 {ret F n h k z} {v0 v1 v2 v3 v4 v5 v6 v7 st} : eX0_seen ret F (n + 1) 92 [v0, v1, v2, v3, v4, v5, v6, v7] (st) h k z = (amIsR v0 ∧ eX0_seen ret F n 93 [v0, v1, v2, v3, v4, v5, v6, v7] (v0 :: st) h k z) := (amWp_dec rfl dX0_seen_92 rfl).trans rfl
theorem wX0_seen_93 {ret F n h k z} {v0 v1 v2 v3 v4 v5 v6 v7 st} : eX0_seen ret F (n + 1) 93 [v0, v1, v2, v3, v4, v5, v6, v7] (st) h k z = (amIsR v0 ∧ eX0_seen ret F n 94 [v0, v1, v2, v3, v4, v5, v6, v7] (v0 :: st) h k z) := (amWp_dec rfl dX0_seen_93 rfl).trans rfl
theorem wX0_seen_94 {ret F n h k z} {v0 v1 v2 v3 v4 v5 v6 v7 st} : eX0_seen ret F (n + 1) 94 [v0, v1, v2, v3, v4, v5, v6, v7] (st) h k z = (amIsR v6 ∧ eX0_seen ret F n 96 [v0, v1, v2, v3, v4, v5, v6, v7] (v6 :: st) h k z) := (amWp_dec rfl dX0_seen_94 rfl).trans rfl
theorem wX0_seen_96 {ret F n h k z} {v0 v1 v2 v4 v5 v6 v7 st x} : eX0_seen ret F (n + 1) 96 [v0, v1, v2, .int x, v4, v5, v6, v7] (st) h k z = (eX0_seen ret F n 97 [v0, v1, v2, .int x, v4, v5, v6, v7] (.int x :: st) h k z) := (amWp_dec rfl dX0_seen_96 rfl).trans rfl
theorem wX0_seen_97 {ret F n h k z} {v0 v1 v2 v3 v4 v5 v6 v7 x2 x1 x0 r0} : eX0_seen ret F (n + 1) 97 [v0, v1, v2, v3, v4, v5, v6, v7] (.int x2 :: .ref x1 :: .ref x0 :: r0 :: []) h k z = (k + 1 ≤ 1 ∧ z + 3 ≤ 3 ∧ amTdyn3 26 [.ref x0, .ref x1, .int x2] h (fun v h => eX0_seen ret F n 102 [v0, v1, v2, v3, v4, v5, v6, v7] (v.toList ++ (r0 :: [])) h (k + 1) (z + 3))) := (amWp_dec rfl dX0_seen_97 rfl).trans (amS2 (Nat.le_of_ble_eq_true rfl) (Nat.le_of_ble_eq_true rfl))
theorem wX0_seen_102 {ret F n h k z} {v0 v1 v2 v3 v4 v5 v6 v7 x1 x0} : eX0_seen ret F (n + 1) 102 [v0, v1, v2, v3, v4, v5, v6, v7] (.ref x1 :: .ref x0 :: []) h k z = (k + 0 ≤ 1 ∧ z + 0 ≤ 3 ∧ h.1 x0 = (0, 0) ∧ tX0_askAll [.ref x0, .ref x1] h (fun v h => eX0_seen ret F n 105 [v0, v1, v2, v3, v4, v5, v6, v7] (v.toList ++ ([])) h (k + 0) (z + 0))) := (amWp_dec rfl dX0_seen_102 rfl).trans (amS2 (Nat.le_of_ble_eq_true rfl) (Nat.le_of_ble_eq_true rfl))
theorem wX0_seen_105 {ret F n ls st h k z} : eX0_seen ret F (n + 1) 105 ls st h k z = F 105 ls st h k z := amWp_cut rfl
theorem uX0_seen_105 {ret F n h k z} {v0 v1 v2 v3 v4 v5 v6 v7 st} : sX0_seen ret F n 105 [v0, v1, v2, v3, v4, v5, v6, v7] (st) h k z = (amIsR v0 ∧ eX0_seen ret F n 106 [v0, v1, v2, v3, v4, v5, v6, v7] (v0 :: st) h k z) := (amWs_dec dX0_seen_105 rfl).trans rfl
theorem wX0_seen_106 {ret F n h k z} {v0 v1 v2 v3 v4 v5 v6 v7 a} : eX0_seen ret F (n + 1) 106 [v0, v1, v2, v3, v4, v5, v6, v7] (.ref a :: []) h k z = (k + 0 ≤ 1 ∧ z + 0 ≤ 3 ∧ h.1 a = (0, 0) ∧ eX0_seen ret F n 109 [v0, v1, v2, v3, v4, v5, v6, v7] (.int (h.2.1 a 12) :: []) h (k + 0) (z + 0)) := (amWp_dec rfl dX0_seen_106 rfl).trans (amS2 (Nat.le_of_ble_eq_true rfl) (Nat.le_of_ble_eq_true rfl))
theorem wX0_seen_109 {ret F n h k z} {v0 v1 v2 v3 v4 v5 v6 v7 x} : eX0_seen ret F (n + 1) 109 [v0, v1, v2, v3, v4, v5, v6, v7] ([.int x]) h k z = (ret (some (.int x)) h k z) := (amWp_dec rfl dX0_seen_109 rfl).trans (amTrue ⟨_, rfl, rfl⟩)
theorem evX0_seen (l : Launch) (G : amG) : ∀ pc S i sz, amLk rX0_seen pc = some S → decode cX0_seen pc = .ok (i, sz) → amSiteP pc G l yX0_seen.cls yX0_seen.name yX0_seen.desc (amRm 21 1 3) i sz S.1 S.2.1 S.2.2.1 S.2.2.2 := amLk_ok (by
  refine List.forall_mem_cons.mpr ⟨⟨_, _, dX0_seen_2, amSite.P (amSiteS (metX0_isSheet l G) rfl (by decide) (by decide) (lw_S q1157 q1158 q86 q1159) ⟨by decide +kernel, by decide +kernel, by decide +kernel⟩)⟩, ?_⟩
  refine List.forall_mem_cons.mpr ⟨⟨_, _, dX0_seen_11, amSite.P (amSiteGet ⟨_, rfl, by decide, Or.inl q301⟩)⟩, ?_⟩
  refine List.forall_mem_cons.mpr ⟨⟨_, _, dX0_seen_14, amSite.P (amSiteV (C := RX1) (metX1_many l G) rfl (by decide) (by decide) (lw_V q478 q479 q480 q87 q481) ⟨_, rfl, rfl⟩ ⟨rfl, by decide +kernel, by decide +kernel, by decide +kernel⟩)⟩, ?_⟩
  refine List.forall_mem_cons.mpr ⟨⟨_, _, dX0_seen_25, amSite.P (amSiteV (C := RX0) (metX0_lacks l G) rfl (by decide) (by decide) (lw_V q1161 q1163 qs38 q86 q1164) ⟨_, rfl, rfl⟩ ⟨rfl, by decide +kernel, by decide +kernel, by decide +kernel⟩)⟩, ?_⟩
  refine List.forall_mem_cons.mpr ⟨⟨_, _, dX0_seen_39, amSite.P (amSiteGet ⟨_, rfl, by decide, Or.inl q325⟩)⟩, ?_⟩
  refine List.forall_mem_cons.mpr ⟨⟨_, _, dX0_seen_62, amSite.P (amSiteV (C := RX5) (metX5_get l G) rfl (by decide) (by decide) (lw_V q1177 q1178 q1179 q93 q1180) ⟨_, rfl, rfl⟩ ⟨rfl, by decide +kernel, by decide +kernel, by decide +kernel⟩)⟩, ?_⟩
  refine List.forall_mem_cons.mpr ⟨⟨_, _, dX0_seen_66, amSite.P (amSiteLdc2 q938)⟩, ?_⟩
  refine List.forall_mem_cons.mpr ⟨⟨_, _, dX0_seen_69, amSite.P (amSiteS (metX0_isIn l G) rfl (by decide) (by decide) (lw_S q382 q383 q86 q384) ⟨by decide +kernel, by decide +kernel, by decide +kernel⟩)⟩, ?_⟩
  refine List.forall_mem_cons.mpr ⟨⟨_, _, dX0_seen_97, amSiteDyn460 rfl⟩, ?_⟩
  refine List.forall_mem_cons.mpr ⟨⟨_, _, dX0_seen_102, amSite.P (amSiteV (C := RX0) (metX0_askAll l G) rfl (by decide) (by decide) (lw_V q474 q476 qs13 q86 q477) ⟨_, rfl, rfl⟩ ⟨rfl, by decide +kernel, by decide +kernel, by decide +kernel⟩)⟩, ?_⟩
  refine List.forall_mem_cons.mpr ⟨⟨_, _, dX0_seen_106, amSite.P (amSiteGet ⟨_, rfl, by decide, Or.inl q313⟩)⟩, ?_⟩
  exact fun _ h => absurd h List.not_mem_nil)
theorem goX0_seen {ret F} (hF : amCld cX0_seen kX0_seen (amLk rX0_seen) (some .int) 1 3 ret F) (n : Nat) {pc ls st h k z} (q : sX0_seen ret F n pc ls st h k z) : F pc ls st h k z := hF.1 n pc ls st h k z q
theorem metX0_seen (l : Launch) (G : amG) : amMet l G yX0_seen (ws_ yX0_seen cX0_seen 8 (some .int)) 21 1 3 tX0_seen := by
  refine amMet_of (cut := kX0_seen) (by decide +kernel) (evX0_seen l G) ?_
  intro as h K hT
  match as, hT with
  | [.ref a, .int s0, .int lane, .int i], ⟨X, e1, w, hK⟩ =>
  refine ⟨Nat.le_of_ble_eq_true rfl, fun F hF => ?_⟩
  show F 0 [.ref a, .int s0, .int lane, .int i, .retAddr 0, .retAddr 0, .retAddr 0, .retAddr 0] [] h 0 0
  obtain ⟨a, rfl⟩ : ∃ i : Nat, i = a := ⟨_, rfl⟩
  subst e1
  have hR := w.1.1
  have hO := w.1.2.2.1
  have hS := w.1.2.1
  have wn := w.1.2.2.2
  have n7 := hS.n7
  have hm := hS.many
  have hsh := w.2.2.2.2.2.2.2
  have key0 : ∀ c, seenR X s0 lane i = c → amRet 1 3 K (some (.int c)) h 0 0 := fun c e => by
    have := hK h (rsFr.rf h) w
    rw [e] at this
    exact amRet.of (by decide) (by decide) this
  by_cases ok : okS s0 lane
  · obtain ⟨s, s4, rfl⟩ := in3.mp ok.1
    have ec : (nI s).toNatClampNeg = s := amCl_nI (by omega)
    obtain ⟨b1, b2, b3, b4, b5⟩ := hR.sheet s4
    by_cases c : lackR (X.2.2.2.2 s) lane i X.1.ord.length < 0
    · have key := key0 _ (by rw [seenR, if_neg (fun z => z ok), ec, if_pos c])
      have c' : (0 ≤ lackR (X.2.2.2.2 s) lane i X.1.ord.length) = False := eq_false (by rw [Int32.not_le]; exact c)
      refine goX0_seen hF 60 ?_
      simp (disch := omega) only [wX0_seen_0, uX0_seen_0, wX0_seen_1, wX0_seen_2, wX0_seen_5, wX0_seen_8, wX0_seen_9, wX0_seen_10, wX0_seen_11, wX0_seen_14, wX0_seen_17, wX0_seen_19, wX0_seen_20, wX0_seen_21, wX0_seen_22, wX0_seen_23, wX0_seen_25, wX0_seen_28, wX0_seen_30, wX0_seen_32, wX0_seen_35, wX0_seen_37, wX0_seen_38, wX0_seen_39, wX0_seen_42, wX0_seen_43, wX0_seen_44, wX0_seen_46, wX0_seen_47, wX0_seen_49, uX0_seen_49, wX0_seen_51, wX0_seen_53, wX0_seen_56, wX0_seen_58, wX0_seen_59, wX0_seen_61, wX0_seen_62, wX0_seen_65, wX0_seen_66, wX0_seen_69, wX0_seen_72, wX0_seen_75, wX0_seen_77, wX0_seen_78, wX0_seen_81, wX0_seen_84, uX0_seen_84, wX0_seen_86, wX0_seen_89, wX0_seen_91, wX0_seen_92, wX0_seen_93, wX0_seen_94, wX0_seen_96, wX0_seen_97, wX0_seen_102, wX0_seen_105, uX0_seen_105, wX0_seen_106, wX0_seen_109, amSI_1, amSI_2, amSI_3, amSI_s, amU_at, amIsR_ref, amIsR_null, amIsR_rf, amRf_some, amRf_none, amClr_int, amClr_ref, amClr_null, amClr_long, amClr_ra, amClr_rf, amFit_int, amFit_oref, amFit_aref, amFit_onull, amFit_anull, amOptSome, amOptNone, List.cons_append, List.nil_append, true_and, and_true, true_implies, not_true_eq_false, not_false_eq_true, false_implies, and_self, Nat.add_zero, Nat.zero_add, ne_eq, Prod.mk.injEq, amC01_0, amC01_1, amC01_nb, amNb0, amNb1, amTcpI_d, Nat.reduceLeDiff, Nat.reduceAdd, Nat.reduceSub, Nat.reduceEqDiff, Nat.le_refl, amN0le, hR.s, hR.r, tX0_isSheet_d, ok, tX1_many_d, hm, tX0_lacks_d]
      refine ⟨fun _ => ⟨X.2.2.2.2, s, X.1.ord.length, hR, hsh, rfl, s4, rfl, n7, ?_⟩, fun z => absurd ok z⟩
      simp (disch := omega) only [wX0_seen_0, uX0_seen_0, wX0_seen_1, wX0_seen_2, wX0_seen_5, wX0_seen_8, wX0_seen_9, wX0_seen_10, wX0_seen_11, wX0_seen_14, wX0_seen_17, wX0_seen_19, wX0_seen_20, wX0_seen_21, wX0_seen_22, wX0_seen_23, wX0_seen_25, wX0_seen_28, wX0_seen_30, wX0_seen_32, wX0_seen_35, wX0_seen_37, wX0_seen_38, wX0_seen_39, wX0_seen_42, wX0_seen_43, wX0_seen_44, wX0_seen_46, wX0_seen_47, wX0_seen_49, uX0_seen_49, wX0_seen_51, wX0_seen_53, wX0_seen_56, wX0_seen_58, wX0_seen_59, wX0_seen_61, wX0_seen_62, wX0_seen_65, wX0_seen_66, wX0_seen_69, wX0_seen_72, wX0_seen_75, wX0_seen_77, wX0_seen_78, wX0_seen_81, wX0_seen_84, uX0_seen_84, wX0_seen_86, wX0_seen_89, wX0_seen_91, wX0_seen_92, wX0_seen_93, wX0_seen_94, wX0_seen_96, wX0_seen_97, wX0_seen_102, wX0_seen_105, uX0_seen_105, wX0_seen_106, wX0_seen_109, amSI_1, amSI_2, amSI_3, amSI_s, amU_at, amIsR_ref, amIsR_null, amIsR_rf, amRf_some, amRf_none, amClr_int, amClr_ref, amClr_null, amClr_long, amClr_ra, amClr_rf, amFit_int, amFit_oref, amFit_aref, amFit_onull, amFit_anull, amOptSome, amOptNone, List.cons_append, List.nil_append, true_and, and_true, true_implies, not_true_eq_false, not_false_eq_true, false_implies, and_self, Nat.add_zero, Nat.zero_add, ne_eq, Prod.mk.injEq, amC01_0, amC01_1, amC01_nb, amNb0, amNb1, amTcpI_d, Nat.reduceLeDiff, Nat.reduceAdd, Nat.reduceSub, Nat.reduceEqDiff, Nat.le_refl, amN0le, hR.s, hR.r, c']
      exact key
    · have eR : seenR X (nI s) lane i = (match X.2.2.2.2 s with
        | none => -11
        | some (_, vs) => if X.1.ord.length = 0 ∨ ¬ winP vs i.toNatClampNeg X.1.ord.length then -2 else nI (X.1.seenN (winL vs i.toNatClampNeg X.1.ord.length))) := by rw [seenR, if_neg (fun z => z ok), ec, if_neg c]; rfl
      obtain ⟨l0, k, vs, j, eo, rfl, rfl, j31, jl⟩ := lack_ok c
      rw [eo] at eR l0
      replace eR : seenR X (nI s) (nI k) (nI j) = if X.1.ord.length = 0 ∨ ¬ winP vs (nI j).toNatClampNeg X.1.ord.length then -2 else nI (X.1.seenN (winL vs (nI j).toNatClampNeg X.1.ord.length)) := eR
      rw [amCl_nI j31] at eR
      have hs := hsh.1 s s4
      rw [eo] at hs
      have hs0 := hs
      obtain ⟨k4, v24, x, x1, x2, x3, x4, x5⟩ := hs0
      have n00 : (0 ≤ nI 0) = True := eq_true (by decide)
      have fin : winP vs j X.1.ord.length → F 84 [.ref 24, .int (nI s), .int (nI k), .int (nI j), .int (nI X.1.ord.length), .int (nI 0), .ref (57 + s), .int (nI X.1.ord.length)] [] h 0 0 := by
        intro hw
        by_cases z : X.1.ord.length = 0
        · have key := key0 (-2) (by rw [eR, if_pos (Or.inl z)])
          have z' : (X.1.ord.length = 0) = True := eq_true z
          refine goX0_seen hF 60 ?_
          simp (disch := omega) only [wX0_seen_0, uX0_seen_0, wX0_seen_1, wX0_seen_2, wX0_seen_5, wX0_seen_8, wX0_seen_9, wX0_seen_10, wX0_seen_11, wX0_seen_14, wX0_seen_17, wX0_seen_19, wX0_seen_20, wX0_seen_21, wX0_seen_22, wX0_seen_23, wX0_seen_25, wX0_seen_28, wX0_seen_30, wX0_seen_32, wX0_seen_35, wX0_seen_37, wX0_seen_38, wX0_seen_39, wX0_seen_42, wX0_seen_43, wX0_seen_44, wX0_seen_46, wX0_seen_47, wX0_seen_49, uX0_seen_49, wX0_seen_51, wX0_seen_53, wX0_seen_56, wX0_seen_58, wX0_seen_59, wX0_seen_61, wX0_seen_62, wX0_seen_65, wX0_seen_66, wX0_seen_69, wX0_seen_72, wX0_seen_75, wX0_seen_77, wX0_seen_78, wX0_seen_81, wX0_seen_84, uX0_seen_84, wX0_seen_86, wX0_seen_89, wX0_seen_91, wX0_seen_92, wX0_seen_93, wX0_seen_94, wX0_seen_96, wX0_seen_97, wX0_seen_102, wX0_seen_105, uX0_seen_105, wX0_seen_106, wX0_seen_109, amSI_1, amSI_2, amSI_3, amSI_s, amU_at, amIsR_ref, amIsR_null, amIsR_rf, amRf_some, amRf_none, amClr_int, amClr_ref, amClr_null, amClr_long, amClr_ra, amClr_rf, amFit_int, amFit_oref, amFit_aref, amFit_onull, amFit_anull, amOptSome, amOptNone, List.cons_append, List.nil_append, true_and, and_true, true_implies, not_true_eq_false, not_false_eq_true, false_implies, and_self, Nat.add_zero, Nat.zero_add, ne_eq, Prod.mk.injEq, amC01_0, amC01_1, amC01_nb, amNb0, amNb1, amTcpI_d, Nat.reduceLeDiff, Nat.reduceAdd, Nat.reduceSub, Nat.reduceEqDiff, Nat.le_refl, amN0le, hR.s, hR.r, amLeI, amLtI, amEqI, amLe0, amGt0, amEq0, amNotPosI, amGe0, amVI, amCl_nI, amAdd, amSub, amMul, z']
          exact key
        · have z' : (X.1.ord.length = 0) = False := eq_false z
          rw [eR, if_neg (fun y => by rcases y with y | y; exact z y; exact y hw)] at hK
          refine goX0_seen hF 60 ?_
          simp (disch := omega) only [wX0_seen_0, uX0_seen_0, wX0_seen_1, wX0_seen_2, wX0_seen_5, wX0_seen_8, wX0_seen_9, wX0_seen_10, wX0_seen_11, wX0_seen_14, wX0_seen_17, wX0_seen_19, wX0_seen_20, wX0_seen_21, wX0_seen_22, wX0_seen_23, wX0_seen_25, wX0_seen_28, wX0_seen_30, wX0_seen_32, wX0_seen_35, wX0_seen_37, wX0_seen_38, wX0_seen_39, wX0_seen_42, wX0_seen_43, wX0_seen_44, wX0_seen_46, wX0_seen_47, wX0_seen_49, uX0_seen_49, wX0_seen_51, wX0_seen_53, wX0_seen_56, wX0_seen_58, wX0_seen_59, wX0_seen_61, wX0_seen_62, wX0_seen_65, wX0_seen_66, wX0_seen_69, wX0_seen_72, wX0_seen_75, wX0_seen_77, wX0_seen_78, wX0_seen_81, wX0_seen_84, uX0_seen_84, wX0_seen_86, wX0_seen_89, wX0_seen_91, wX0_seen_92, wX0_seen_93, wX0_seen_94, wX0_seen_96, wX0_seen_97, wX0_seen_102, wX0_seen_105, uX0_seen_105, wX0_seen_106, wX0_seen_109, amSI_1, amSI_2, amSI_3, amSI_s, amU_at, amIsR_ref, amIsR_null, amIsR_rf, amRf_some, amRf_none, amClr_int, amClr_ref, amClr_null, amClr_long, amClr_ra, amClr_rf, amFit_int, amFit_oref, amFit_aref, amFit_onull, amFit_anull, amOptSome, amOptNone, List.cons_append, List.nil_append, true_and, and_true, true_implies, not_true_eq_false, not_false_eq_true, false_implies, and_self, Nat.add_zero, Nat.zero_add, ne_eq, Prod.mk.injEq, amC01_0, amC01_1, amC01_nb, amNb0, amNb1, amTcpI_d, Nat.reduceLeDiff, Nat.reduceAdd, Nat.reduceSub, Nat.reduceEqDiff, Nat.le_refl, amN0le, hR.s, hR.r, amLeI, amLtI, amEqI, amLe0, amGt0, amEq0, amNotPosI, amGe0, amVI, amCl_nI, amAdd, amSub, amMul, z', amTdyn3_d]
          have sm : ∀ i : Nat, i < h.2.2.2.2 → amSame h (amWr (amWr (amWr (amNew h (26, 3)) h.2.2.2.2 0 (.ref 24)) h.2.2.2.2 1 (.ref (57 + s))) h.2.2.2.2 2 (.int (nI j))) i := fun i hi => amDyn3_same hi
          have da := dyn3_at h 26 24 (57 + s) (nI j)
          have dn : (amWr (amWr (amWr (amNew h (26, 3)) h.2.2.2.2 0 (.ref 24)) h.2.2.2.2 1 (.ref (57 + s))) h.2.2.2.2 2 (.int (nI j))).2.2.2.2 = h.2.2.2.2 + 1 := rfl
          generalize hhh : amWr (amWr (amWr (amNew h (26, 3)) h.2.2.2.2 0 (.ref 24)) h.2.2.2.2 1 (.ref (57 + s))) h.2.2.2.2 2 (.int (nI j)) = hh at sm da dn
          have hsi : ∀ i : Nat, i < 124 → hh.1 i = h.1 i ∧ hh.2.2.2.1 i = h.2.2.2.1 i := fun i hi => ⟨(sm i (by omega)).1, (sm i (by omega)).2.2.2⟩
          have hmm : ∀ i : Nat, i < h.2.2.2.2 → hh.2.1 i = h.2.1 i := fun i hi => (sm i hi).2.1
          have hR' : rsAt hh := hR.mv (fun i hi => (hsi i hi).1) (fun i hi _ _ _ => (hsi i hi).2)
          have hS' : HsIs hh.2.1 25 X.1 := hS.kept (fun i i1 i2 => hmm i (by omega))
          have wl : (winL vs j X.1.ord.length).length = X.1.ord.length := by simp [winL]
          refine ⟨by rw [(hsi 24 (by decide)).1]; exact hR.s.1, ?_⟩
          refine askAll_of (P := fun c m => m 24 12 = nI c ∧ m h.2.2.2.2 2 = nI j ∧ m x = h.2.1 x) (f := seenF X.1 (winL vs j X.1.ord.length)) (S := X.1) (s0 := 0) hR' hS' hO.1 hO.2.1 (by have := hO.2.2.1; omega) ?_ ?_ ?_ ?_
          · intro s m m' q eF
            rw [eF 24 (by decide) (by decide), eF h.2.2.2.2 (by omega) (by omega), eF x (by omega) (by omega)]; exact q
          · refine ⟨?_, ?_, ?_⟩
            · simp (disch := omega) only [amU_at, amU_ne, amU_nj, amU_neR, up_ne, up_at, amSI_2]
            · simp (disch := omega) only [amU_at, amU_ne, amU_nj, amU_neR, up_ne, up_at, amSI_2]
              exact da.2.2.2
            · simp (disch := omega) only [amU_at, amU_ne, amU_nj, amU_neR, up_ne, up_at, amSI_2]
              exact hmm x x2
          · intro l c m K' hl hp q kk
            have row : rowAt (amSI hh m) x j (winL vs j X.1.ord.length) := by
              refine ⟨x1, by rw [wl]; show _ ≤ (hh.1 x).2; rw [(sm x x2).1, x4]; exact jl, ?_⟩
              have hk1 : (hh.1 x).1 = laneK k := by rw [(sm x x2).1, x4]
              by_cases k3 : k = 3
              · refine Or.inr ⟨by show (hh.1 x).1 = 5; rw [hk1, k3]; rfl, fun p hp => ?_⟩
                rw [wl] at hp
                show hh.2.2.1 x (j + p) = _
                have := x5 (j + p) (by omega)
                rw [if_pos k3] at this
                rw [(sm x x2).2.2.1, ← this, winL_at hp]
                exact (lN_small (hw p hp)).1
              · refine Or.inl ⟨?_, fun p hp => ?_⟩
                · show (hh.1 x).1 = 1 ∨ (hh.1 x).1 = 2 ∨ (hh.1 x).1 = 4
                  rw [hk1]
                  rcases (show k = 0 ∨ k = 1 ∨ k = 2 by omega) with e | e | e <;> subst e <;> decide
                · rw [wl] at hp
                  show m x (j + p) = _
                  have := x5 (j + p) (by omega)
                  rw [if_neg k3] at this
                  rw [q.2.2, winL_at hp, this]
                  exact nI_ofL (by rw [← this]; exact hw p hp)
            refine Or.inr (Or.inr (Or.inr ⟨da.1, 24, 57 + s, da.2.1, da.2.2.1, X.1, l, winL vs j X.1.ord.length, c, j, x, rfl, rfl, hp, q.1, (hsi (57 + s) (by omega)).1.trans b5, (congrFun (hsi (57 + s) (by omega)).2 0).trans x3, q.2.1, by omega, row, by rw [wl, hl], fun y hy => ?_, fun m' f1 f2 f3 => ?_⟩))
            · obtain ⟨p, hp, rfl⟩ := List.mem_map.mp hy
              have := (lN_small (hw p (List.mem_range.mp hp))).2
              omega
            · have := kk m' f1 (fun j hj => f2 j (by omega)) ⟨f3, by rw [f1 h.2.2.2.2 (by omega) (by omega) (by omega) (by omega)]; exact q.2.1, by rw [f1 x (by omega) (by omega) (by omega) (by omega)]; exact q.2.2⟩
              have e1 : amC01 ((seenF X.1 (winL vs j X.1.ord.length) l c).2 = true) = nI 1 := amC01_t rfl
              rw [e1] at this
              exact this
          · intro m' q1 q2
            have q2 : m' 24 12 = nI (X.1.seenN (winL vs j X.1.ord.length)) := q2.1
            refine goX0_seen hF 60 ?_
            simp (disch := omega) only [wX0_seen_0, uX0_seen_0, wX0_seen_1, wX0_seen_2, wX0_seen_5, wX0_seen_8, wX0_seen_9, wX0_seen_10, wX0_seen_11, wX0_seen_14, wX0_seen_17, wX0_seen_19, wX0_seen_20, wX0_seen_21, wX0_seen_22, wX0_seen_23, wX0_seen_25, wX0_seen_28, wX0_seen_30, wX0_seen_32, wX0_seen_35, wX0_seen_37, wX0_seen_38, wX0_seen_39, wX0_seen_42, wX0_seen_43, wX0_seen_44, wX0_seen_46, wX0_seen_47, wX0_seen_49, uX0_seen_49, wX0_seen_51, wX0_seen_53, wX0_seen_56, wX0_seen_58, wX0_seen_59, wX0_seen_61, wX0_seen_62, wX0_seen_65, wX0_seen_66, wX0_seen_69, wX0_seen_72, wX0_seen_75, wX0_seen_77, wX0_seen_78, wX0_seen_81, wX0_seen_84, uX0_seen_84, wX0_seen_86, wX0_seen_89, wX0_seen_91, wX0_seen_92, wX0_seen_93, wX0_seen_94, wX0_seen_96, wX0_seen_97, wX0_seen_102, wX0_seen_105, uX0_seen_105, wX0_seen_106, wX0_seen_109, amSI_1, amSI_2, amSI_3, amSI_s, amU_at, amIsR_ref, amIsR_null, amIsR_rf, amRf_some, amRf_none, amClr_int, amClr_ref, amClr_null, amClr_long, amClr_ra, amClr_rf, amFit_int, amFit_oref, amFit_aref, amFit_onull, amFit_anull, amOptSome, amOptNone, List.cons_append, List.nil_append, true_and, and_true, true_implies, not_true_eq_false, not_false_eq_true, false_implies, and_self, Nat.add_zero, Nat.zero_add, ne_eq, Prod.mk.injEq, amC01_0, amC01_1, amC01_nb, amNb0, amNb1, amTcpI_d, Nat.reduceLeDiff, Nat.reduceAdd, Nat.reduceSub, Nat.reduceEqDiff, Nat.le_refl, amN0le, hR.s, hR.r, hR'.s, q2]
            have f : pFr h (amSI hh m') := q1.pFr hR wn (fun i h1 h2 h3 => sm i h1) hsi (fun j hj => by rw [hmm 24 (by omega)]) (by omega) (fun i hi => ⟨(sm i hi).1, (sm i hi).2.2.1, (sm i hi).2.2.2⟩)
            exact amRet.of (by decide) (by decide) (hK _ (w.pfr f).1 (w.pfr f).2)
      have loop : ∀ t p, p + t = X.1.ord.length → (∀ q, q < p → (lN 0 ≤ vs.getD (j + q) 0 ∧ vs.getD (j + q) 0 ≤ lN 20)) → F 49 [.ref 24, .int (nI s), .int (nI k), .int (nI j), .int (nI X.1.ord.length), .int (nI 0), .ref (57 + s), .int (nI p)] [] h 0 0 := by
        intro t
        induction t with
        | zero =>
          intro p e hw
          have e : p = X.1.ord.length := by omega
          subst e
          have nx := fin hw
          refine goX0_seen hF 60 ?_
          simp (disch := omega) only [wX0_seen_0, uX0_seen_0, wX0_seen_1, wX0_seen_2, wX0_seen_5, wX0_seen_8, wX0_seen_9, wX0_seen_10, wX0_seen_11, wX0_seen_14, wX0_seen_17, wX0_seen_19, wX0_seen_20, wX0_seen_21, wX0_seen_22, wX0_seen_23, wX0_seen_25, wX0_seen_28, wX0_seen_30, wX0_seen_32, wX0_seen_35, wX0_seen_37, wX0_seen_38, wX0_seen_39, wX0_seen_42, wX0_seen_43, wX0_seen_44, wX0_seen_46, wX0_seen_47, wX0_seen_49, uX0_seen_49, wX0_seen_51, wX0_seen_53, wX0_seen_56, wX0_seen_58, wX0_seen_59, wX0_seen_61, wX0_seen_62, wX0_seen_65, wX0_seen_66, wX0_seen_69, wX0_seen_72, wX0_seen_75, wX0_seen_77, wX0_seen_78, wX0_seen_81, wX0_seen_84, uX0_seen_84, wX0_seen_86, wX0_seen_89, wX0_seen_91, wX0_seen_92, wX0_seen_93, wX0_seen_94, wX0_seen_96, wX0_seen_97, wX0_seen_102, wX0_seen_105, uX0_seen_105, wX0_seen_106, wX0_seen_109, amSI_1, amSI_2, amSI_3, amSI_s, amU_at, amIsR_ref, amIsR_null, amIsR_rf, amRf_some, amRf_none, amClr_int, amClr_ref, amClr_null, amClr_long, amClr_ra, amClr_rf, amFit_int, amFit_oref, amFit_aref, amFit_onull, amFit_anull, amOptSome, amOptNone, List.cons_append, List.nil_append, true_and, and_true, true_implies, not_true_eq_false, not_false_eq_true, false_implies, and_self, Nat.add_zero, Nat.zero_add, ne_eq, Prod.mk.injEq, amC01_0, amC01_1, amC01_nb, amNb0, amNb1, amTcpI_d, Nat.reduceLeDiff, Nat.reduceAdd, Nat.reduceSub, Nat.reduceEqDiff, Nat.le_refl, amN0le, hR.s, hR.r, amLeI, amLtI, amEqI, amLe0, amGt0, amEq0, amNotPosI, amGe0, amVI, amCl_nI, amAdd, amSub, amMul]
          exact nx
        | succ t ih =>
          intro p e hw
          have q : (X.1.ord.length ≤ p) = False := eq_false (by omega)
          have gt : ∀ K, tX5_get [.ref (57 + s), .int (nI (j + p))] h K = K (some (.long (vs.getD (j + p) 0))) h := fun K => getS hs b5 (by omega)
          refine goX0_seen hF 60 ?_
          simp (disch := omega) only [wX0_seen_0, uX0_seen_0, wX0_seen_1, wX0_seen_2, wX0_seen_5, wX0_seen_8, wX0_seen_9, wX0_seen_10, wX0_seen_11, wX0_seen_14, wX0_seen_17, wX0_seen_19, wX0_seen_20, wX0_seen_21, wX0_seen_22, wX0_seen_23, wX0_seen_25, wX0_seen_28, wX0_seen_30, wX0_seen_32, wX0_seen_35, wX0_seen_37, wX0_seen_38, wX0_seen_39, wX0_seen_42, wX0_seen_43, wX0_seen_44, wX0_seen_46, wX0_seen_47, wX0_seen_49, uX0_seen_49, wX0_seen_51, wX0_seen_53, wX0_seen_56, wX0_seen_58, wX0_seen_59, wX0_seen_61, wX0_seen_62, wX0_seen_65, wX0_seen_66, wX0_seen_69, wX0_seen_72, wX0_seen_75, wX0_seen_77, wX0_seen_78, wX0_seen_81, wX0_seen_84, uX0_seen_84, wX0_seen_86, wX0_seen_89, wX0_seen_91, wX0_seen_92, wX0_seen_93, wX0_seen_94, wX0_seen_96, wX0_seen_97, wX0_seen_102, wX0_seen_105, uX0_seen_105, wX0_seen_106, wX0_seen_109, amSI_1, amSI_2, amSI_3, amSI_s, amU_at, amIsR_ref, amIsR_null, amIsR_rf, amRf_some, amRf_none, amClr_int, amClr_ref, amClr_null, amClr_long, amClr_ra, amClr_rf, amFit_int, amFit_oref, amFit_aref, amFit_onull, amFit_anull, amOptSome, amOptNone, List.cons_append, List.nil_append, true_and, and_true, true_implies, not_true_eq_false, not_false_eq_true, false_implies, and_self, Nat.add_zero, Nat.zero_add, ne_eq, Prod.mk.injEq, amC01_0, amC01_1, amC01_nb, amNb0, amNb1, amTcpI_d, Nat.reduceLeDiff, Nat.reduceAdd, Nat.reduceSub, Nat.reduceEqDiff, Nat.le_refl, amN0le, hR.s, hR.r, amLeI, amLtI, amEqI, amLe0, amGt0, amEq0, amNotPosI, amGe0, amVI, amCl_nI, amAdd, amSub, amMul, q, b5]
          rw [gt]
          simp (disch := omega) only [wX0_seen_0, uX0_seen_0, wX0_seen_1, wX0_seen_2, wX0_seen_5, wX0_seen_8, wX0_seen_9, wX0_seen_10, wX0_seen_11, wX0_seen_14, wX0_seen_17, wX0_seen_19, wX0_seen_20, wX0_seen_21, wX0_seen_22, wX0_seen_23, wX0_seen_25, wX0_seen_28, wX0_seen_30, wX0_seen_32, wX0_seen_35, wX0_seen_37, wX0_seen_38, wX0_seen_39, wX0_seen_42, wX0_seen_43, wX0_seen_44, wX0_seen_46, wX0_seen_47, wX0_seen_49, uX0_seen_49, wX0_seen_51, wX0_seen_53, wX0_seen_56, wX0_seen_58, wX0_seen_59, wX0_seen_61, wX0_seen_62, wX0_seen_65, wX0_seen_66, wX0_seen_69, wX0_seen_72, wX0_seen_75, wX0_seen_77, wX0_seen_78, wX0_seen_81, wX0_seen_84, uX0_seen_84, wX0_seen_86, wX0_seen_89, wX0_seen_91, wX0_seen_92, wX0_seen_93, wX0_seen_94, wX0_seen_96, wX0_seen_97, wX0_seen_102, wX0_seen_105, uX0_seen_105, wX0_seen_106, wX0_seen_109, amSI_1, amSI_2, amSI_3, amSI_s, amU_at, amIsR_ref, amIsR_null, amIsR_rf, amRf_some, amRf_none, amClr_int, amClr_ref, amClr_null, amClr_long, amClr_ra, amClr_rf, amFit_int, amFit_oref, amFit_aref, amFit_onull, amFit_anull, amOptSome, amOptNone, List.cons_append, List.nil_append, true_and, and_true, true_implies, not_true_eq_false, not_false_eq_true, false_implies, and_self, Nat.add_zero, Nat.zero_add, ne_eq, Prod.mk.injEq, amC01_0, amC01_1, amC01_nb, amNb0, amNb1, amTcpI_d, Nat.reduceLeDiff, Nat.reduceAdd, Nat.reduceSub, Nat.reduceEqDiff, Nat.le_refl, amN0le, hR.s, hR.r, amLeI, amLtI, amEqI, amLe0, amGt0, amEq0, amNotPosI, amGe0, amVI, amCl_nI, amAdd, amSub, amMul, tX0_isIn_d]
          by_cases y : lN 0 ≤ vs.getD (j + p) 0 ∧ vs.getD (j + p) 0 ≤ lN 20
          · have nx := ih (p + 1) (by omega) (fun q hq => by
              by_cases e : q = p
              · subst e; exact y
              · exact hw q (by omega))
            exact ⟨fun _ => nx, fun z => absurd y z⟩
          · have key := key0 (-2) (by rw [eR, if_pos (Or.inr (fun z => y (z p (by omega))))])
            exact ⟨fun z => absurd y z, fun _ => key⟩
      have nx := loop X.1.ord.length 0 (by omega) (fun q hq => absurd hq (Nat.not_lt_zero q))
      refine goX0_seen hF 60 ?_
      simp (disch := omega) only [wX0_seen_0, uX0_seen_0, wX0_seen_1, wX0_seen_2, wX0_seen_5, wX0_seen_8, wX0_seen_9, wX0_seen_10, wX0_seen_11, wX0_seen_14, wX0_seen_17, wX0_seen_19, wX0_seen_20, wX0_seen_21, wX0_seen_22, wX0_seen_23, wX0_seen_25, wX0_seen_28, wX0_seen_30, wX0_seen_32, wX0_seen_35, wX0_seen_37, wX0_seen_38, wX0_seen_39, wX0_seen_42, wX0_seen_43, wX0_seen_44, wX0_seen_46, wX0_seen_47, wX0_seen_49, uX0_seen_49, wX0_seen_51, wX0_seen_53, wX0_seen_56, wX0_seen_58, wX0_seen_59, wX0_seen_61, wX0_seen_62, wX0_seen_65, wX0_seen_66, wX0_seen_69, wX0_seen_72, wX0_seen_75, wX0_seen_77, wX0_seen_78, wX0_seen_81, wX0_seen_84, uX0_seen_84, wX0_seen_86, wX0_seen_89, wX0_seen_91, wX0_seen_92, wX0_seen_93, wX0_seen_94, wX0_seen_96, wX0_seen_97, wX0_seen_102, wX0_seen_105, uX0_seen_105, wX0_seen_106, wX0_seen_109, amSI_1, amSI_2, amSI_3, amSI_s, amU_at, amIsR_ref, amIsR_null, amIsR_rf, amRf_some, amRf_none, amClr_int, amClr_ref, amClr_null, amClr_long, amClr_ra, amClr_rf, amFit_int, amFit_oref, amFit_aref, amFit_onull, amFit_anull, amOptSome, amOptNone, List.cons_append, List.nil_append, true_and, and_true, true_implies, not_true_eq_false, not_false_eq_true, false_implies, and_self, Nat.add_zero, Nat.zero_add, ne_eq, Prod.mk.injEq, amC01_0, amC01_1, amC01_nb, amNb0, amNb1, amTcpI_d, Nat.reduceLeDiff, Nat.reduceAdd, Nat.reduceSub, Nat.reduceEqDiff, Nat.le_refl, amN0le, hR.s, hR.r, tX0_isSheet_d, ok, tX1_many_d, hm, tX0_lacks_d]
      refine ⟨fun _ => ⟨X.2.2.2.2, s, X.1.ord.length, hR, hsh, rfl, s4, rfl, n7, ?_⟩, fun z => absurd ok z⟩
      rw [eo, l0]
      simp (disch := omega) only [wX0_seen_0, uX0_seen_0, wX0_seen_1, wX0_seen_2, wX0_seen_5, wX0_seen_8, wX0_seen_9, wX0_seen_10, wX0_seen_11, wX0_seen_14, wX0_seen_17, wX0_seen_19, wX0_seen_20, wX0_seen_21, wX0_seen_22, wX0_seen_23, wX0_seen_25, wX0_seen_28, wX0_seen_30, wX0_seen_32, wX0_seen_35, wX0_seen_37, wX0_seen_38, wX0_seen_39, wX0_seen_42, wX0_seen_43, wX0_seen_44, wX0_seen_46, wX0_seen_47, wX0_seen_49, uX0_seen_49, wX0_seen_51, wX0_seen_53, wX0_seen_56, wX0_seen_58, wX0_seen_59, wX0_seen_61, wX0_seen_62, wX0_seen_65, wX0_seen_66, wX0_seen_69, wX0_seen_72, wX0_seen_75, wX0_seen_77, wX0_seen_78, wX0_seen_81, wX0_seen_84, uX0_seen_84, wX0_seen_86, wX0_seen_89, wX0_seen_91, wX0_seen_92, wX0_seen_93, wX0_seen_94, wX0_seen_96, wX0_seen_97, wX0_seen_102, wX0_seen_105, uX0_seen_105, wX0_seen_106, wX0_seen_109, amSI_1, amSI_2, amSI_3, amSI_s, amU_at, amIsR_ref, amIsR_null, amIsR_rf, amRf_some, amRf_none, amClr_int, amClr_ref, amClr_null, amClr_long, amClr_ra, amClr_rf, amFit_int, amFit_oref, amFit_aref, amFit_onull, amFit_anull, amOptSome, amOptNone, List.cons_append, List.nil_append, true_and, and_true, true_implies, not_true_eq_false, not_false_eq_true, false_implies, and_self, Nat.add_zero, Nat.zero_add, ne_eq, Prod.mk.injEq, amC01_0, amC01_1, amC01_nb, amNb0, amNb1, amTcpI_d, Nat.reduceLeDiff, Nat.reduceAdd, Nat.reduceSub, Nat.reduceEqDiff, Nat.le_refl, amN0le, hR.s, hR.r, amLeI, amLtI, amEqI, amLe0, amGt0, amEq0, amNotPosI, amGe0, amVI, amCl_nI, amAdd, amSub, amMul, n00, b4]
      exact nx
  · have key := key0 (-1) (by rw [seenR, if_pos ok])
    refine goX0_seen hF 60 ?_
    simp (disch := omega) only [wX0_seen_0, uX0_seen_0, wX0_seen_1, wX0_seen_2, wX0_seen_5, wX0_seen_8, wX0_seen_9, wX0_seen_10, wX0_seen_11, wX0_seen_14, wX0_seen_17, wX0_seen_19, wX0_seen_20, wX0_seen_21, wX0_seen_22, wX0_seen_23, wX0_seen_25, wX0_seen_28, wX0_seen_30, wX0_seen_32, wX0_seen_35, wX0_seen_37, wX0_seen_38, wX0_seen_39, wX0_seen_42, wX0_seen_43, wX0_seen_44, wX0_seen_46, wX0_seen_47, wX0_seen_49, uX0_seen_49, wX0_seen_51, wX0_seen_53, wX0_seen_56, wX0_seen_58, wX0_seen_59, wX0_seen_61, wX0_seen_62, wX0_seen_65, wX0_seen_66, wX0_seen_69, wX0_seen_72, wX0_seen_75, wX0_seen_77, wX0_seen_78, wX0_seen_81, wX0_seen_84, uX0_seen_84, wX0_seen_86, wX0_seen_89, wX0_seen_91, wX0_seen_92, wX0_seen_93, wX0_seen_94, wX0_seen_96, wX0_seen_97, wX0_seen_102, wX0_seen_105, uX0_seen_105, wX0_seen_106, wX0_seen_109, amSI_1, amSI_2, amSI_3, amSI_s, amU_at, amIsR_ref, amIsR_null, amIsR_rf, amRf_some, amRf_none, amClr_int, amClr_ref, amClr_null, amClr_long, amClr_ra, amClr_rf, amFit_int, amFit_oref, amFit_aref, amFit_onull, amFit_anull, amOptSome, amOptNone, List.cons_append, List.nil_append, true_and, and_true, true_implies, not_true_eq_false, not_false_eq_true, false_implies, and_self, Nat.add_zero, Nat.zero_add, ne_eq, Prod.mk.injEq, amC01_0, amC01_1, amC01_nb, amNb0, amNb1, amTcpI_d, Nat.reduceLeDiff, Nat.reduceAdd, Nat.reduceSub, Nat.reduceEqDiff, Nat.le_refl, amN0le, hR.s, hR.r, tX0_isSheet_d, ok]
    exact key
theorem tX0_seen_d {a : Nat} {s0 lane i : Int32} {h : amH} {K : Option Value → amH → Prop} : tX0_seen [.ref a, .int s0, .int lane, .int i] h K = ∃ X : XS, a = (24 : Nat) ∧ RsW h X ∧ ∀ h', rsFr h h' → RsW h' X → K (some (.int (seenR X s0 lane i))) h' := rfl
