/-! the system's film -/
set_option maxRecDepth 100000
theorem filmL_set {S : HS} {vs : List Int64} {j p : Nat} (h : j + p < vs.length) : (filmL S vs j p).set (j + p) (lN (pop ((S.rd S.ord 0).2.getD p PL0).1)) = filmL S vs j (p + 1) := by
  apply List.ext_getElem
  · simp [filmL]
  · intro q h1 h2
    simp only [filmL, List.getElem_set, List.getElem_map, List.getElem_range]
    by_cases e : j + p = q
    · subst e
      rw [if_pos rfl, if_pos (by omega), Nat.add_sub_cancel_left]
    · rw [if_neg e]
      by_cases y : j ≤ q ∧ q < j + p
      · rw [if_pos y, if_pos (by omega)]
      · rw [if_neg y, if_neg (by omega)]
theorem filmL_0 {S : HS} {vs : List Int64} {j : Nat} : filmL S vs j 0 = vs := by
  apply List.ext_getElem
  · simp [filmL]
  · intro q h1 h2
    simp only [filmL, List.getElem_map, List.getElem_range]
    rw [if_neg (by omega), List.getD_eq_getElem?_getD, List.getElem?_eq_getElem h2]
    rfl
theorem setSh_2 {X : XS} {s : Nat} {a b : Option (Nat × List Int64)} : (X.setSh s a).setSh s b = X.setSh s b := by
  unfold XS.setSh
  congr 4
  funext t
  show (if t = s then b else (if t = s then a else X.2.2.2.2 t)) = if t = s then b else X.2.2.2.2 t
  split <;> rfl
theorem setSh_id {X : XS} {s : Nat} {o : Option (Nat × List Int64)} (h : X.2.2.2.2 s = o) : X.setSh s o = X := by
  have : setS X.2.2.2.2 s o = X.2.2.2.2 := by
    funext t
    unfold setS
    split
    · next e => rw [e, h]
    · rfl
  unfold XS.setSh
  rw [this]
theorem setSh_at {X : XS} {s : Nat} {o : Option (Nat × List Int64)} : (X.setSh s o).2.2.2.2 s = o := if_pos rfl
theorem cut20 : ∀ v, v < 21 → ∀ k, k < 4 → cutL k (lN v) = lN v := by decide +kernel
/-- an item laid where it may be -/
theorem layOk {h : amH} {s k j : Nat} {v : Int64} {vs : List Int64} {K : Option Value → amH → Prop} {KX : Nat → Nat → amH → Prop} (hs : ShIs1 h s (some (k, vs))) (b5 : h.1 (57 + s) = (0, 5)) (hj : j < vs.length) (kk : ∀ x, h.2.2.2.1 (57 + s) 0 = some x → K none (amWr h x j (layV k v))) : tX5_lay [.ref (57 + s), .int (nI k), .int (nI j), .long v] h K KX := by
  obtain ⟨k4, v24, x, x1, x2, x3, x4, x5⟩ := hs
  have e1 : (h.1 x).1 = laneK k := by rw [x4]
  have e2 : (h.1 x).2 = vs.length := by rw [x4]
  have hin : vp_in (nI j) (h.1 x).2 := by rw [e2]; exact vp_in_nI hj (by omega)
  rw [tX5_lay_d]
  refine ⟨k, rfl, k4, b5, fun z => (by rw [x3] at z; cases z), fun a ha => ?_⟩
  cases x3.symm.trans ha
  refine ⟨by rw [e1]; exact (laneKA k4).1, by rw [e2]; omega, (show 24 ≤ x by omega), fun z => absurd e1 z, fun _ => ⟨fun _ => ?_, fun z => absurd hin z⟩⟩
  rw [amCl_nI (by omega)]
  exact kk x x3
def tX0_film : amXT := fun as h K KX => match as with
  | [.ref a, .int s0, .int lane, .int i] => ∃ X : XS, a = (24 : Nat) ∧ RsW h X ∧ ∀ h', rsFr h h' → RsW h' (filmR X s0 lane i).1 → K (some (.int (filmR X s0 lane i).2)) h'
  | _ => False
/-! ReadingStages.film(III)I -/
def kX0_film : Nat → Bool := fun pc => pc == 46 || pc == 49
def rX0_film : List (Nat × amS) := [(2, 2, 0, 0, tX0_isSheet), (15, 1, 0, 0, amTget 0 0), (18, 1, 0, 0, (amRecv 1 tX1_many)), (21, 5, 0, 0, (amRecv 0 tX0_lacks)), (36, 1, 0, 0, amTget 0 0), (39, 1, 0, 0, amTget 1 2), (43, 3, 0, 0, (amRecv 0 tX0_go)), (52, 1, 0, 0, amTget 0 0), (55, 1, 0, 0, (amRecv 1 tX1_many)), (62, 1, 0, 0, amTget 0 24), (73, 1, 0, 0, amTget 0 4), (79, 1, 0, 0, tJ2_bitCount), (93, 1, 0, 0, amTget 0 0), (96, 1, 0, 0, (amRecv 1 tX1_many))]
def rxX0_film : List (Nat × amXS) := [(83, 4, 6, 832, (amRecvX 5 tX5_lay))]
def hdX0_film : List (Nat × Nat × Nat) := []
def eX0_film (retX : amXR) (ret : Option Value → amH → Nat → Nat → Prop) (F : amX) : Nat → amX := amWpX cX0_film kX0_film (amLkX rxX0_film) (amHd hdX0_film) (amLk rX0_film) (some .int) 42 5824 retX ret F
def sX0_film (retX : amXR) (ret : Option Value → amH → Nat → Nat → Prop) (F : amX) : Nat → amX := amWsX cX0_film kX0_film (amLkX rxX0_film) (amHd hdX0_film) (amLk rX0_film) (some .int) 42 5824 retX ret F
theorem hX0_film_83_1 {retX X ls q h k z} : amCat (amHd hdX0_film 83 1) retX X ls 1 q h k z = retX 1 q h k z := rfl
theorem hX0_film_83_2 {retX X ls q h k z} : amCat (amHd hdX0_film 83 2) retX X ls 2 q h k z = retX 2 q h k z := rfl
theorem hX0_film_83_3 {retX X ls q h k z} : amCat (amHd hdX0_film 83 3) retX X ls 3 q h k z = retX 3 q h k z := rfl
theorem evxX0_film (l : Launch) (G : amG) (hl : l.stackTraces = false) : ∀ pc S i sz, amLkX rxX0_film pc = some S → decode cX0_film pc = .ok (i, sz) → amSiteX pc G l yX0_film.cls yX0_film.name yX0_film.desc (amRm 10 42 5824) i sz S.1 S.2.1 S.2.2.1 S.2.2.2 := amLkX_ok (by
  refine List.forall_mem_cons.mpr ⟨⟨_, _, dX0_film_83, amSiteVX (C := RX5) (metX5_lay l G hl) rfl (by decide) (by decide) (lw_V q1188 q1189 q1190 q93 q1191) ⟨_, rfl, rfl⟩ ⟨rfl, by decide +kernel, by decide +kernel, by decide +kernel⟩⟩, ?_⟩
  exact fun _ h => absurd h List.not_mem_nil)
theorem wX0_film_0 {ret F n h k z} {retX : amXR} {v0 v2 v3 v4 v5 st x} : eX0_film retX ret F (n + 1) 0 [v0, .int x, v2, v3, v4, v5] (st) h k z = (eX0_film retX ret F n 1 [v0, .int x, v2, v3, v4, v5] (.int x :: st) h k z) := (amWpX_dec rfl rfl dX0_film_0 rfl).trans rfl
theorem uX0_film_0 {ret F n h k z} {retX : amXR} {v0 v2 v3 v4 v5 st x} : sX0_film retX ret F n 0 [v0, .int x, v2, v3, v4, v5] (st) h k z = (eX0_film retX ret F n 1 [v0, .int x, v2, v3, v4, v5] (.int x :: st) h k z) := (amWsX_dec rfl dX0_film_0 rfl).trans rfl
theorem wX0_film_1 {ret F n h k z} {retX : amXR} {v0 v1 v3 v4 v5 st x} : eX0_film retX ret F (n + 1) 1 [v0, v1, .int x, v3, v4, v5] (st) h k z = (eX0_film retX ret F n 2 [v0, v1, .int x, v3, v4, v5] (.int x :: st) h k z) := (amWpX_dec rfl rfl dX0_film_1 rfl).trans rfl
theorem wX0_film_2 {ret F n h k z} {retX : amXR} {v0 v1 v2 v3 v4 v5 x1 x0} : eX0_film retX ret F (n + 1) 2 [v0, v1, v2, v3, v4, v5] (.int x1 :: .int x0 :: []) h k z = (k + 0 ≤ 42 ∧ z + 0 ≤ 5824 ∧ tX0_isSheet [.int x0, .int x1] h (fun v h => eX0_film retX ret F n 5 [v0, v1, v2, v3, v4, v5] (v.toList ++ ([])) h (k + 0) (z + 0))) := (amWpX_dec rfl rfl dX0_film_2 rfl).trans (amS2 (Nat.le_of_ble_eq_true rfl) (Nat.le_of_ble_eq_true rfl))
theorem wX0_film_5 {ret F n h k z} {retX : amXR} {v0 v1 v2 v3 v4 v5 st x} : eX0_film retX ret F (n + 1) 5 [v0, v1, v2, v3, v4, v5] (.int x :: st) h k z = ((¬ x = 0 → eX0_film retX ret F n 10 [v0, v1, v2, v3, v4, v5] (st) h k z) ∧ (x = 0 → eX0_film retX ret F n 8 [v0, v1, v2, v3, v4, v5] (st) h k z)) := (amWpX_dec rfl rfl dX0_film_5 rfl).trans rfl
theorem wX0_film_8 {ret F n h k z} {retX : amXR} {v0 v1 v2 v3 v4 v5 st} : eX0_film retX ret F (n + 1) 8 [v0, v1, v2, v3, v4, v5] (st) h k z = (eX0_film retX ret F n 9 [v0, v1, v2, v3, v4, v5] (.int (-1) :: st) h k z) := (amWpX_dec rfl rfl dX0_film_8 rfl).trans rfl
theorem wX0_film_9 {ret F n h k z} {retX : amXR} {v0 v1 v2 v3 v4 v5 x} : eX0_film retX ret F (n + 1) 9 [v0, v1, v2, v3, v4, v5] ([.int x]) h k z = (ret (some (.int x)) h k z) := (amWpX_dec rfl rfl dX0_film_9 rfl).trans (amTrue ⟨_, rfl, rfl⟩)
theorem wX0_film_10 {ret F n h k z} {retX : amXR} {v0 v1 v2 v3 v4 v5 st} : eX0_film retX ret F (n + 1) 10 [v0, v1, v2, v3, v4, v5] (st) h k z = (amIsR v0 ∧ eX0_film retX ret F n 11 [v0, v1, v2, v3, v4, v5] (v0 :: st) h k z) := (amWpX_dec rfl rfl dX0_film_10 rfl).trans rfl
theorem wX0_film_11 {ret F n h k z} {retX : amXR} {v0 v2 v3 v4 v5 st x} : eX0_film retX ret F (n + 1) 11 [v0, .int x, v2, v3, v4, v5] (st) h k z = (eX0_film retX ret F n 12 [v0, .int x, v2, v3, v4, v5] (.int x :: st) h k z) := (amWpX_dec rfl rfl dX0_film_11 rfl).trans rfl
theorem wX0_film_12 {ret F n h k z} {retX : amXR} {v0 v1 v3 v4 v5 st x} : eX0_film retX ret F (n + 1) 12 [v0, v1, .int x, v3, v4, v5] (st) h k z = (eX0_film retX ret F n 13 [v0, v1, .int x, v3, v4, v5] (.int x :: st) h k z) := (amWpX_dec rfl rfl dX0_film_12 rfl).trans rfl
theorem wX0_film_13 {ret F n h k z} {retX : amXR} {v0 v1 v2 v4 v5 st x} : eX0_film retX ret F (n + 1) 13 [v0, v1, v2, .int x, v4, v5] (st) h k z = (eX0_film retX ret F n 14 [v0, v1, v2, .int x, v4, v5] (.int x :: st) h k z) := (amWpX_dec rfl rfl dX0_film_13 rfl).trans rfl
theorem wX0_film_14 {ret F n h k z} {retX : amXR} {v0 v1 v2 v3 v4 v5 st} : eX0_film retX ret F (n + 1) 14 [v0, v1, v2, v3, v4, v5] (st) h k z = (amIsR v0 ∧ eX0_film retX ret F n 15 [v0, v1, v2, v3, v4, v5] (v0 :: st) h k z) := (amWpX_dec rfl rfl dX0_film_14 rfl).trans rfl
theorem wX0_film_15 {ret F n h k z} {retX : amXR} {v0 v1 v2 v3 v4 v5 r0 r1 r2 r3 a} : eX0_film retX ret F (n + 1) 15 [v0, v1, v2, v3, v4, v5] (.ref a :: r0 :: r1 :: r2 :: r3 :: []) h k z = (k + 0 ≤ 42 ∧ z + 0 ≤ 5824 ∧ h.1 a = (0, 0) ∧ eX0_film retX ret F n 18 [v0, v1, v2, v3, v4, v5] (va_rf (h.2.2.2.1 a 0) :: r0 :: r1 :: r2 :: r3 :: []) h (k + 0) (z + 0)) := (amWpX_dec rfl rfl dX0_film_15 rfl).trans (amS2 (Nat.le_of_ble_eq_true rfl) (Nat.le_of_ble_eq_true rfl))
theorem wX0_film_18 {ret F n h k z} {retX : amXR} {v0 v1 v2 v3 v4 v5 x0 r0 r1 r2 r3} : eX0_film retX ret F (n + 1) 18 [v0, v1, v2, v3, v4, v5] (.ref x0 :: r0 :: r1 :: r2 :: r3 :: []) h k z = (k + 0 ≤ 42 ∧ z + 0 ≤ 5824 ∧ h.1 x0 = (0, 1) ∧ tX1_many [.ref x0] h (fun v h => eX0_film retX ret F n 21 [v0, v1, v2, v3, v4, v5] (v.toList ++ (r0 :: r1 :: r2 :: r3 :: [])) h (k + 0) (z + 0))) := (amWpX_dec rfl rfl dX0_film_18 rfl).trans (amS2 (Nat.le_of_ble_eq_true rfl) (Nat.le_of_ble_eq_true rfl))
theorem wX0_film_21 {ret F n h k z} {retX : amXR} {v0 v1 v2 v3 v4 v5 x4 x3 x2 x1 x0} : eX0_film retX ret F (n + 1) 21 [v0, v1, v2, v3, v4, v5] (.int x4 :: .int x3 :: .int x2 :: .int x1 :: .ref x0 :: []) h k z = (k + 0 ≤ 42 ∧ z + 0 ≤ 5824 ∧ h.1 x0 = (0, 0) ∧ tX0_lacks [.ref x0, .int x1, .int x2, .int x3, .int x4] h (fun v h => eX0_film retX ret F n 24 [v0, v1, v2, v3, v4, v5] (v.toList ++ ([])) h (k + 0) (z + 0))) := (amWpX_dec rfl rfl dX0_film_21 rfl).trans (amS2 (Nat.le_of_ble_eq_true rfl) (Nat.le_of_ble_eq_true rfl))
theorem wX0_film_24 {ret F n h k z} {retX : amXR} {v0 v1 v2 v3 v4 v5 st x} : eX0_film retX ret F (n + 1) 24 [v0, v1, v2, v3, v4, v5] (.int x :: st) h k z = (eX0_film retX ret F n 26 [v0, v1, v2, amClr v3, .int x, v5] (st) h k z) := (amWpX_dec rfl rfl dX0_film_24 rfl).trans (amTrue (Nat.le_of_ble_eq_true rfl))
theorem wX0_film_26 {ret F n h k z} {retX : amXR} {v0 v1 v2 v3 v5 st x} : eX0_film retX ret F (n + 1) 26 [v0, v1, v2, v3, .int x, v5] (st) h k z = (eX0_film retX ret F n 28 [v0, v1, v2, v3, .int x, v5] (.int x :: st) h k z) := (amWpX_dec rfl rfl dX0_film_26 rfl).trans rfl
theorem wX0_film_28 {ret F n h k z} {retX : amXR} {v0 v1 v2 v3 v4 v5 st x} : eX0_film retX ret F (n + 1) 28 [v0, v1, v2, v3, v4, v5] (.int x :: st) h k z = ((0 ≤ x → eX0_film retX ret F n 34 [v0, v1, v2, v3, v4, v5] (st) h k z) ∧ (¬ 0 ≤ x → eX0_film retX ret F n 31 [v0, v1, v2, v3, v4, v5] (st) h k z)) := (amWpX_dec rfl rfl dX0_film_28 rfl).trans rfl
theorem wX0_film_31 {ret F n h k z} {retX : amXR} {v0 v1 v2 v3 v5 st x} : eX0_film retX ret F (n + 1) 31 [v0, v1, v2, v3, .int x, v5] (st) h k z = (eX0_film retX ret F n 33 [v0, v1, v2, v3, .int x, v5] (.int x :: st) h k z) := (amWpX_dec rfl rfl dX0_film_31 rfl).trans rfl
theorem wX0_film_33 {ret F n h k z} {retX : amXR} {v0 v1 v2 v3 v4 v5 x} : eX0_film retX ret F (n + 1) 33 [v0, v1, v2, v3, v4, v5] ([.int x]) h k z = (ret (some (.int x)) h k z) := (amWpX_dec rfl rfl dX0_film_33 rfl).trans (amTrue ⟨_, rfl, rfl⟩)
theorem wX0_film_34 {ret F n h k z} {retX : amXR} {v0 v1 v2 v3 v4 v5 st} : eX0_film retX ret F (n + 1) 34 [v0, v1, v2, v3, v4, v5] (st) h k z = (amIsR v0 ∧ eX0_film retX ret F n 35 [v0, v1, v2, v3, v4, v5] (v0 :: st) h k z) := (amWpX_dec rfl rfl dX0_film_34 rfl).trans rfl
theorem wX0_film_35 {ret F n h k z} {retX : amXR} {v0 v1 v2 v3 v4 v5 st} : eX0_film retX ret F (n + 1) 35 [v0, v1, v2, v3, v4, v5] (st) h k z = (amIsR v0 ∧ eX0_film retX ret F n 36 [v0, v1, v2, v3, v4, v5] (v0 :: st) h k z) := (amWpX_dec rfl rfl dX0_film_35 rfl).trans rfl
theorem wX0_film_36 {ret F n h k z} {retX : amXR} {v0 v1 v2 v3 v4 v5 r0 a} : eX0_film retX ret F (n + 1) 36 [v0, v1, v2, v3, v4, v5] (.ref a :: r0 :: []) h k z = (k + 0 ≤ 42 ∧ z + 0 ≤ 5824 ∧ h.1 a = (0, 0) ∧ eX0_film retX ret F n 39 [v0, v1, v2, v3, v4, v5] (va_rf (h.2.2.2.1 a 0) :: r0 :: []) h (k + 0) (z + 0)) := (amWpX_dec rfl rfl dX0_film_36 rfl).trans (amS2 (Nat.le_of_ble_eq_true rfl) (Nat.le_of_ble_eq_true rfl))
theorem wX0_film_39 {ret F n h k z} {retX : amXR} {v0 v1 v2 v3 v4 v5 r0 a} : eX0_film retX ret F (n + 1) 39 [v0, v1, v2, v3, v4, v5] (.ref a :: r0 :: []) h k z = (k + 0 ≤ 42 ∧ z + 0 ≤ 5824 ∧ h.1 a = (0, 1) ∧ eX0_film retX ret F n 42 [v0, v1, v2, v3, v4, v5] (va_rf (h.2.2.2.1 a 2) :: r0 :: []) h (k + 0) (z + 0)) := (amWpX_dec rfl rfl dX0_film_39 rfl).trans (amS2 (Nat.le_of_ble_eq_true rfl) (Nat.le_of_ble_eq_true rfl))
theorem wX0_film_42 {ret F n h k z} {retX : amXR} {v0 v1 v2 v3 v4 v5 st} : eX0_film retX ret F (n + 1) 42 [v0, v1, v2, v3, v4, v5] (st) h k z = (eX0_film retX ret F n 43 [v0, v1, v2, v3, v4, v5] (.int (nI 0) :: st) h k z) := (amWpX_dec rfl rfl dX0_film_42 rfl).trans rfl
theorem wX0_film_43 {ret F n h k z} {retX : amXR} {v0 v1 v2 v3 v4 v5 x2 x1 x0} : eX0_film retX ret F (n + 1) 43 [v0, v1, v2, v3, v4, v5] (.int x2 :: .ref x1 :: .ref x0 :: []) h k z = (k + 0 ≤ 42 ∧ z + 0 ≤ 5824 ∧ h.1 x0 = (0, 0) ∧ tX0_go [.ref x0, .ref x1, .int x2] h (fun v h => eX0_film retX ret F n 46 [v0, v1, v2, v3, v4, v5] (v.toList ++ ([])) h (k + 0) (z + 0))) := (amWpX_dec rfl rfl dX0_film_43 rfl).trans (amS2 (Nat.le_of_ble_eq_true rfl) (Nat.le_of_ble_eq_true rfl))
theorem wX0_film_46 {ret F n ls st h k z} {retX : amXR} : eX0_film retX ret F (n + 1) 46 ls st h k z = F 46 ls st h k z := amWpX_cut rfl
theorem uX0_film_46 {ret F n h k z} {retX : amXR} {v0 v1 v2 v3 v4 v5 st} : sX0_film retX ret F n 46 [v0, v1, v2, v3, v4, v5] (st) h k z = (eX0_film retX ret F n 47 [v0, v1, v2, v3, v4, v5] (.int (nI 0) :: st) h k z) := (amWsX_dec rfl dX0_film_46 rfl).trans rfl
theorem wX0_film_47 {ret F n h k z} {retX : amXR} {v0 v1 v2 v3 v4 v5 st x} : eX0_film retX ret F (n + 1) 47 [v0, v1, v2, v3, v4, v5] (.int x :: st) h k z = (eX0_film retX ret F n 49 [v0, v1, v2, v3, amClr v4, .int x] (st) h k z) := (amWpX_dec rfl rfl dX0_film_47 rfl).trans (amTrue (Nat.le_of_ble_eq_true rfl))
theorem wX0_film_49 {ret F n ls st h k z} {retX : amXR} : eX0_film retX ret F (n + 1) 49 ls st h k z = F 49 ls st h k z := amWpX_cut rfl
theorem uX0_film_49 {ret F n h k z} {retX : amXR} {v0 v1 v2 v3 v4 st x} : sX0_film retX ret F n 49 [v0, v1, v2, v3, v4, .int x] (st) h k z = (eX0_film retX ret F n 51 [v0, v1, v2, v3, v4, .int x] (.int x :: st) h k z) := (amWsX_dec rfl dX0_film_49 rfl).trans rfl
theorem wX0_film_51 {ret F n h k z} {retX : amXR} {v0 v1 v2 v3 v4 v5 st} : eX0_film retX ret F (n + 1) 51 [v0, v1, v2, v3, v4, v5] (st) h k z = (amIsR v0 ∧ eX0_film retX ret F n 52 [v0, v1, v2, v3, v4, v5] (v0 :: st) h k z) := (amWpX_dec rfl rfl dX0_film_51 rfl).trans rfl
theorem wX0_film_52 {ret F n h k z} {retX : amXR} {v0 v1 v2 v3 v4 v5 r0 a} : eX0_film retX ret F (n + 1) 52 [v0, v1, v2, v3, v4, v5] (.ref a :: r0 :: []) h k z = (k + 0 ≤ 42 ∧ z + 0 ≤ 5824 ∧ h.1 a = (0, 0) ∧ eX0_film retX ret F n 55 [v0, v1, v2, v3, v4, v5] (va_rf (h.2.2.2.1 a 0) :: r0 :: []) h (k + 0) (z + 0)) := (amWpX_dec rfl rfl dX0_film_52 rfl).trans (amS2 (Nat.le_of_ble_eq_true rfl) (Nat.le_of_ble_eq_true rfl))
theorem wX0_film_55 {ret F n h k z} {retX : amXR} {v0 v1 v2 v3 v4 v5 x0 r0} : eX0_film retX ret F (n + 1) 55 [v0, v1, v2, v3, v4, v5] (.ref x0 :: r0 :: []) h k z = (k + 0 ≤ 42 ∧ z + 0 ≤ 5824 ∧ h.1 x0 = (0, 1) ∧ tX1_many [.ref x0] h (fun v h => eX0_film retX ret F n 58 [v0, v1, v2, v3, v4, v5] (v.toList ++ (r0 :: [])) h (k + 0) (z + 0))) := (amWpX_dec rfl rfl dX0_film_55 rfl).trans (amS2 (Nat.le_of_ble_eq_true rfl) (Nat.le_of_ble_eq_true rfl))
theorem wX0_film_58 {ret F n h k z} {retX : amXR} {v0 v1 v2 v3 v4 v5 st y x} : eX0_film retX ret F (n + 1) 58 [v0, v1, v2, v3, v4, v5] (.int y :: .int x :: st) h k z = ((y ≤ x → eX0_film retX ret F n 92 [v0, v1, v2, v3, v4, v5] (st) h k z) ∧ (¬ y ≤ x → eX0_film retX ret F n 61 [v0, v1, v2, v3, v4, v5] (st) h k z)) := (amWpX_dec rfl rfl dX0_film_58 rfl).trans rfl
theorem wX0_film_61 {ret F n h k z} {retX : amXR} {v0 v1 v2 v3 v4 v5 st} : eX0_film retX ret F (n + 1) 61 [v0, v1, v2, v3, v4, v5] (st) h k z = (amIsR v0 ∧ eX0_film retX ret F n 62 [v0, v1, v2, v3, v4, v5] (v0 :: st) h k z) := (amWpX_dec rfl rfl dX0_film_61 rfl).trans rfl
theorem wX0_film_62 {ret F n h k z} {retX : amXR} {v0 v1 v2 v3 v4 v5 a} : eX0_film retX ret F (n + 1) 62 [v0, v1, v2, v3, v4, v5] (.ref a :: []) h k z = (k + 0 ≤ 42 ∧ z + 0 ≤ 5824 ∧ h.1 a = (0, 0) ∧ eX0_film retX ret F n 65 [v0, v1, v2, v3, v4, v5] (va_rf (h.2.2.2.1 a 24) :: []) h (k + 0) (z + 0)) := (amWpX_dec rfl rfl dX0_film_62 rfl).trans (amS2 (Nat.le_of_ble_eq_true rfl) (Nat.le_of_ble_eq_true rfl))
theorem wX0_film_65 {ret F n h k z} {retX : amXR} {v0 v2 v3 v4 v5 st x} : eX0_film retX ret F (n + 1) 65 [v0, .int x, v2, v3, v4, v5] (st) h k z = (eX0_film retX ret F n 66 [v0, .int x, v2, v3, v4, v5] (.int x :: st) h k z) := (amWpX_dec rfl rfl dX0_film_65 rfl).trans rfl
theorem wX0_film_66 {ret F n h k z} {retX : amXR} {v0 v1 v2 v3 v4 v5 st x a} : eX0_film retX ret F (n + 1) 66 [v0, v1, v2, v3, v4, v5] (.int x :: .ref a :: st) h k z = (6 ≤ (h.1 a).1 ∧ (h.1 a).1 ≤ 8 ∧ vp_in x (h.1 a).2 ∧ eX0_film retX ret F n 67 [v0, v1, v2, v3, v4, v5] (va_rf (h.2.2.2.1 a x.toNatClampNeg) :: st) h k z) := (amWpX_dec rfl rfl dX0_film_66 rfl).trans rfl
theorem wX0_film_67 {ret F n h k z} {retX : amXR} {v0 v1 v3 v4 v5 st x} : eX0_film retX ret F (n + 1) 67 [v0, v1, .int x, v3, v4, v5] (st) h k z = (eX0_film retX ret F n 68 [v0, v1, .int x, v3, v4, v5] (.int x :: st) h k z) := (amWpX_dec rfl rfl dX0_film_67 rfl).trans rfl
theorem wX0_film_68 {ret F n h k z} {retX : amXR} {v0 v1 v2 v4 v5 st x} : eX0_film retX ret F (n + 1) 68 [v0, v1, v2, .int x, v4, v5] (st) h k z = (eX0_film retX ret F n 69 [v0, v1, v2, .int x, v4, v5] (.int x :: st) h k z) := (amWpX_dec rfl rfl dX0_film_68 rfl).trans rfl
theorem wX0_film_69 {ret F n h k z} {retX : amXR} {v0 v1 v2 v3 v4 st x} : eX0_film retX ret F (n + 1) 69 [v0, v1, v2, v3, v4, .int x] (st) h k z = (eX0_film retX ret F n 71 [v0, v1, v2, v3, v4, .int x] (.int x :: st) h k z) := (amWpX_dec rfl rfl dX0_film_69 rfl).trans rfl
theorem wX0_film_71 {ret F n h k z} {retX : amXR} {v0 v1 v2 v3 v4 v5 st y x} : eX0_film retX ret F (n + 1) 71 [v0, v1, v2, v3, v4, v5] (.int y :: .int x :: st) h k z = (eX0_film retX ret F n 72 [v0, v1, v2, v3, v4, v5] (.int (x + y) :: st) h k z) := (amWpX_dec rfl rfl dX0_film_71 rfl).trans rfl
theorem wX0_film_72 {ret F n h k z} {retX : amXR} {v0 v1 v2 v3 v4 v5 st} : eX0_film retX ret F (n + 1) 72 [v0, v1, v2, v3, v4, v5] (st) h k z = (amIsR v0 ∧ eX0_film retX ret F n 73 [v0, v1, v2, v3, v4, v5] (v0 :: st) h k z) := (amWpX_dec rfl rfl dX0_film_72 rfl).trans rfl
theorem wX0_film_73 {ret F n h k z} {retX : amXR} {v0 v1 v2 v3 v4 v5 r0 r1 r2 a} : eX0_film retX ret F (n + 1) 73 [v0, v1, v2, v3, v4, v5] (.ref a :: r0 :: r1 :: r2 :: []) h k z = (k + 0 ≤ 42 ∧ z + 0 ≤ 5824 ∧ h.1 a = (0, 0) ∧ eX0_film retX ret F n 76 [v0, v1, v2, v3, v4, v5] (va_rf (h.2.2.2.1 a 4) :: r0 :: r1 :: r2 :: []) h (k + 0) (z + 0)) := (amWpX_dec rfl rfl dX0_film_73 rfl).trans (amS2 (Nat.le_of_ble_eq_true rfl) (Nat.le_of_ble_eq_true rfl))
theorem wX0_film_76 {ret F n h k z} {retX : amXR} {v0 v1 v2 v3 v4 st x} : eX0_film retX ret F (n + 1) 76 [v0, v1, v2, v3, v4, .int x] (st) h k z = (eX0_film retX ret F n 78 [v0, v1, v2, v3, v4, .int x] (.int x :: st) h k z) := (amWpX_dec rfl rfl dX0_film_76 rfl).trans rfl
theorem wX0_film_78 {ret F n h k z} {retX : amXR} {v0 v1 v2 v3 v4 v5 st x a} : eX0_film retX ret F (n + 1) 78 [v0, v1, v2, v3, v4, v5] (.int x :: .ref a :: st) h k z = ((h.1 a).1 = 1 ∧ vp_in x (h.1 a).2 ∧ eX0_film retX ret F n 79 [v0, v1, v2, v3, v4, v5] (.int (h.2.1 a x.toNatClampNeg) :: st) h k z) := (amWpX_dec rfl rfl dX0_film_78 rfl).trans rfl
theorem wX0_film_79 {ret F n h k z} {retX : amXR} {v0 v1 v2 v3 v4 v5 x0 r0 r1 r2} : eX0_film retX ret F (n + 1) 79 [v0, v1, v2, v3, v4, v5] (.int x0 :: r0 :: r1 :: r2 :: []) h k z = (k + 0 ≤ 42 ∧ z + 0 ≤ 5824 ∧ tJ2_bitCount [.int x0] h (fun v h => eX0_film retX ret F n 82 [v0, v1, v2, v3, v4, v5] (v.toList ++ (r0 :: r1 :: r2 :: [])) h (k + 0) (z + 0))) := (amWpX_dec rfl rfl dX0_film_79 rfl).trans (amS2 (Nat.le_of_ble_eq_true rfl) (Nat.le_of_ble_eq_true rfl))
theorem wX0_film_82 {ret F n h k z} {retX : amXR} {v0 v1 v2 v3 v4 v5 st x} : eX0_film retX ret F (n + 1) 82 [v0, v1, v2, v3, v4, v5] (.int x :: st) h k z = (eX0_film retX ret F n 83 [v0, v1, v2, v3, v4, v5] (.long x.toInt64 :: st) h k z) := (amWpX_dec rfl rfl dX0_film_82 rfl).trans rfl
theorem wX0_film_83 {ret F n h k z} {retX : amXR} {v0 v1 v2 v3 v4 v5 x3 x2 x1 x0} : eX0_film retX ret F (n + 1) 83 [v0, v1, v2, v3, v4, v5] (.long x3 :: .int x2 :: .int x1 :: .ref x0 :: []) h k z = (k + 6 ≤ 42 ∧ z + 832 ≤ 5824 ∧ h.1 x0 = (0, 5) ∧ tX5_lay [.ref x0, .int x1, .int x2, .long x3] h (fun v h => eX0_film retX ret F n 86 [v0, v1, v2, v3, v4, v5] (v.toList ++ ([])) h (k + 6) (z + 832)) (fun ex q h => amCat (amHd hdX0_film 83 ex) retX (eX0_film retX ret F n) [v0, v1, v2, v3, v4, v5] ex q h (k + 6) (z + 832))) := (amWpX_thr rfl rfl dX0_film_83 rfl).trans (amS2 (Nat.le_of_ble_eq_true rfl) (Nat.le_of_ble_eq_true rfl))
theorem wX0_film_86 {ret F n h k z} {retX : amXR} {v0 v1 v2 v3 v4 st x} : eX0_film retX ret F (n + 1) 86 [v0, v1, v2, v3, v4, .int x] (st) h k z = (eX0_film retX ret F n 89 [v0, v1, v2, v3, amClr v4, .int (x + nI 1)] (st) h k z) := (amWpX_dec rfl rfl dX0_film_86 rfl).trans rfl
theorem wX0_film_89 {ret F n h k z} {retX : amXR} {v0 v1 v2 v3 v4 v5 st} : eX0_film retX ret F (n + 1) 89 [v0, v1, v2, v3, v4, v5] (st) h k z = (eX0_film retX ret F n 49 [v0, v1, v2, v3, v4, v5] (st) h k z) := (amWpX_dec rfl rfl dX0_film_89 rfl).trans rfl
theorem wX0_film_92 {ret F n h k z} {retX : amXR} {v0 v1 v2 v3 v4 v5 st} : eX0_film retX ret F (n + 1) 92 [v0, v1, v2, v3, v4, v5] (st) h k z = (amIsR v0 ∧ eX0_film retX ret F n 93 [v0, v1, v2, v3, v4, v5] (v0 :: st) h k z) := (amWpX_dec rfl rfl dX0_film_92 rfl).trans rfl
theorem wX0_film_93 {ret F n h k z} {retX : amXR} {v0 v1 v2 v3 v4 v5 a} : eX0_film retX ret F (n + 1) 93 [v0, v1, v2, v3, v4, v5] (.ref a :: []) h k z = (k + 0 ≤ 42 ∧ z + 0 ≤ 5824 ∧ h.1 a = (0, 0) ∧ eX0_film retX ret F n 96 [v0, v1, v2, v3, v4, v5] (va_rf (h.2.2.2.1 a 0) :: []) h (k + 0) (z + 0)) := (amWpX_dec rfl rfl dX0_film_93 rfl).trans (amS2 (Nat.le_of_ble_eq_true rfl) (Nat.le_of_ble_eq_true rfl))
theorem wX0_film_96 {ret F n h k z} {retX : amXR} {v0 v1 v2 v3 v4 v5 x0} : eX0_film retX ret F (n + 1) 96 [v0, v1, v2, v3, v4, v5] (.ref x0 :: []) h k z = (k + 0 ≤ 42 ∧ z + 0 ≤ 5824 ∧ h.1 x0 = (0, 1) ∧ tX1_many [.ref x0] h (fun v h => eX0_film retX ret F n 99 [v0, v1, v2, v3, v4, v5] (v.toList ++ ([])) h (k + 0) (z + 0))) := (amWpX_dec rfl rfl dX0_film_96 rfl).trans (amS2 (Nat.le_of_ble_eq_true rfl) (Nat.le_of_ble_eq_true rfl))
theorem wX0_film_99 {ret F n h k z} {retX : amXR} {v0 v1 v2 v3 v4 v5 x} : eX0_film retX ret F (n + 1) 99 [v0, v1, v2, v3, v4, v5] ([.int x]) h k z = (ret (some (.int x)) h k z) := (amWpX_dec rfl rfl dX0_film_99 rfl).trans (amTrue ⟨_, rfl, rfl⟩)
theorem evX0_film (l : Launch) (G : amG) (hl : l.stackTraces = false) : ∀ pc S i sz, amLk rX0_film pc = some S → decode cX0_film pc = .ok (i, sz) → amSiteP pc G l yX0_film.cls yX0_film.name yX0_film.desc (amRm 10 42 5824) i sz S.1 S.2.1 S.2.2.1 S.2.2.2 := amLk_ok (by
  refine List.forall_mem_cons.mpr ⟨⟨_, _, dX0_film_2, amSite.P (amSiteS (metX0_isSheet l G) rfl (by decide) (by decide) (lw_S q1157 q1158 q86 q1159) ⟨by decide +kernel, by decide +kernel, by decide +kernel⟩)⟩, ?_⟩
  refine List.forall_mem_cons.mpr ⟨⟨_, _, dX0_film_15, amSite.P (amSiteGet ⟨_, rfl, by decide, Or.inl q301⟩)⟩, ?_⟩
  refine List.forall_mem_cons.mpr ⟨⟨_, _, dX0_film_18, amSite.P (amSiteV (C := RX1) (metX1_many l G) rfl (by decide) (by decide) (lw_V q478 q479 q480 q87 q481) ⟨_, rfl, rfl⟩ ⟨rfl, by decide +kernel, by decide +kernel, by decide +kernel⟩)⟩, ?_⟩
  refine List.forall_mem_cons.mpr ⟨⟨_, _, dX0_film_21, amSite.P (amSiteV (C := RX0) (metX0_lacks l G) rfl (by decide) (by decide) (lw_V q1161 q1163 qs38 q86 q1164) ⟨_, rfl, rfl⟩ ⟨rfl, by decide +kernel, by decide +kernel, by decide +kernel⟩)⟩, ?_⟩
  refine List.forall_mem_cons.mpr ⟨⟨_, _, dX0_film_36, amSite.P (amSiteGet ⟨_, rfl, by decide, Or.inl q301⟩)⟩, ?_⟩
  refine List.forall_mem_cons.mpr ⟨⟨_, _, dX0_film_39, amSite.P (amSiteGet ⟨_, rfl, by decide, Or.inr ⟨"ReadingStages", List.mem_of_getElem? (i := 4) rfl⟩⟩)⟩, ?_⟩
  refine List.forall_mem_cons.mpr ⟨⟨_, _, dX0_film_43, amSite.P (amSiteV (C := RX0) (metX0_go l G) rfl (by decide) (by decide) (lw_V q423 q425 qs7 q86 q426) ⟨_, rfl, rfl⟩ ⟨rfl, by decide +kernel, by decide +kernel, by decide +kernel⟩)⟩, ?_⟩
  refine List.forall_mem_cons.mpr ⟨⟨_, _, dX0_film_52, amSite.P (amSiteGet ⟨_, rfl, by decide, Or.inl q301⟩)⟩, ?_⟩
  refine List.forall_mem_cons.mpr ⟨⟨_, _, dX0_film_55, amSite.P (amSiteV (C := RX1) (metX1_many l G) rfl (by decide) (by decide) (lw_V q478 q479 q480 q87 q481) ⟨_, rfl, rfl⟩ ⟨rfl, by decide +kernel, by decide +kernel, by decide +kernel⟩)⟩, ?_⟩
  refine List.forall_mem_cons.mpr ⟨⟨_, _, dX0_film_62, amSite.P (amSiteGet ⟨_, rfl, by decide, Or.inl q325⟩)⟩, ?_⟩
  refine List.forall_mem_cons.mpr ⟨⟨_, _, dX0_film_73, amSite.P (amSiteGet ⟨_, rfl, by decide, Or.inl q305⟩)⟩, ?_⟩
  refine List.forall_mem_cons.mpr ⟨⟨_, _, dX0_film_79, amSite.P (amSiteS (metJ2_bitCount l G) rfl (by decide) (by decide) (lw_S q454 q455 q97 q456) ⟨by decide +kernel, by decide +kernel, by decide +kernel⟩)⟩, ?_⟩
  refine List.forall_mem_cons.mpr ⟨⟨_, _, dX0_film_93, amSite.P (amSiteGet ⟨_, rfl, by decide, Or.inl q301⟩)⟩, ?_⟩
  refine List.forall_mem_cons.mpr ⟨⟨_, _, dX0_film_96, amSite.P (amSiteV (C := RX1) (metX1_many l G) rfl (by decide) (by decide) (lw_V q478 q479 q480 q87 q481) ⟨_, rfl, rfl⟩ ⟨rfl, by decide +kernel, by decide +kernel, by decide +kernel⟩)⟩, ?_⟩
  exact fun _ h => absurd h List.not_mem_nil)
theorem goX0_film {retX ret F} (hF : amCldX cX0_film kX0_film (amLkX rxX0_film) (amHd hdX0_film) (amLk rX0_film) (some .int) 42 5824 retX ret F) (n : Nat) {pc ls st h k z} (q : sX0_film retX ret F n pc ls st h k z) : F pc ls st h k z := hF.1 n pc ls st h k z q
theorem metX0_film (l : Launch) (G : amG) (hl : l.stackTraces = false) : amMetX l G yX0_film (ws_ yX0_film cX0_film 6 (some .int)) 10 42 5824 tX0_film := by
  refine amMetX_of (cut := kX0_film) (by decide +kernel) (evX0_film l G hl) (evxX0_film l G hl) ?_
  intro as h K KX hT
  match as, hT with
  | [.ref a, .int s0, .int lane, .int i], ⟨X, e1, w, hK⟩ =>
  refine ⟨Nat.le_of_ble_eq_true rfl, fun F hF => ?_⟩
  show F 0 [.ref a, .int s0, .int lane, .int i, .retAddr 0, .retAddr 0] [] h 0 0
  obtain ⟨a, rfl⟩ : ∃ i : Nat, i = a := ⟨_, rfl⟩
  subst e1
  have hR := w.1.1
  have hO := w.1.2.2.1
  have hS := w.1.2.1
  have wn := w.1.2.2.2
  have n7 := hS.n7
  have hm := hS.many
  have hsh := w.2.2.2.2.2.2.2
  have key0 : ∀ c, filmR X s0 lane i = (X, c) → amRet 42 5824 K (some (.int c)) h 0 0 := fun c e => by
    rw [e] at hK
    exact amRet.of (by decide) (by decide) (hK h (rsFr.rf h) w)
  by_cases ok : okS s0 lane
  · obtain ⟨s, s4, rfl⟩ := in3.mp ok.1
    have ec : (nI s).toNatClampNeg = s := amCl_nI (by omega)
    by_cases c : lackR (X.2.2.2.2 s) lane i X.1.ord.length < 0
    · have key := key0 _ (by rw [filmR, if_neg (fun z => z ok), ec, if_pos c])
      have c' : (0 ≤ lackR (X.2.2.2.2 s) lane i X.1.ord.length) = False := eq_false (by rw [Int32.not_le]; exact c)
      refine goX0_film hF 60 ?_
      simp (disch := omega) only [wX0_film_0, uX0_film_0, wX0_film_1, wX0_film_2, wX0_film_5, wX0_film_8, wX0_film_9, wX0_film_10, wX0_film_11, wX0_film_12, wX0_film_13, wX0_film_14, wX0_film_15, wX0_film_18, wX0_film_21, wX0_film_24, wX0_film_26, wX0_film_28, wX0_film_31, wX0_film_33, wX0_film_34, wX0_film_35, wX0_film_36, wX0_film_39, wX0_film_42, wX0_film_43, wX0_film_46, uX0_film_46, wX0_film_47, wX0_film_49, uX0_film_49, wX0_film_51, wX0_film_52, wX0_film_55, wX0_film_58, wX0_film_61, wX0_film_62, wX0_film_65, wX0_film_66, wX0_film_67, wX0_film_68, wX0_film_69, wX0_film_71, wX0_film_72, wX0_film_73, wX0_film_76, wX0_film_78, wX0_film_79, wX0_film_82, wX0_film_83, wX0_film_86, wX0_film_89, wX0_film_92, wX0_film_93, wX0_film_96, wX0_film_99, hX0_film_83_1, hX0_film_83_2, hX0_film_83_3, amSI_1, amSI_2, amSI_3, amSI_s, amU_at, amIsR_ref, amIsR_null, amIsR_rf, amRf_some, amRf_none, amClr_int, amClr_ref, amClr_null, amClr_long, amClr_ra, amClr_rf, amFit_int, amFit_oref, amFit_aref, amFit_onull, amFit_anull, amOptSome, amOptNone, List.cons_append, List.nil_append, true_and, and_true, true_implies, not_true_eq_false, not_false_eq_true, false_implies, and_self, Nat.add_zero, Nat.zero_add, ne_eq, Prod.mk.injEq, amC01_0, amC01_1, amC01_nb, amNb0, amNb1, amTcpI_d, Nat.reduceLeDiff, Nat.reduceAdd, Nat.reduceSub, Nat.reduceEqDiff, Nat.le_refl, amN0le, hR.s, hR.r, tX0_isSheet_d, ok, tX1_many_d, hm, tX0_lacks_d]
      refine ⟨fun _ => ⟨X.2.2.2.2, s, X.1.ord.length, hR, hsh, rfl, s4, rfl, n7, ?_⟩, fun z => absurd ok z⟩
      simp (disch := omega) only [wX0_film_0, uX0_film_0, wX0_film_1, wX0_film_2, wX0_film_5, wX0_film_8, wX0_film_9, wX0_film_10, wX0_film_11, wX0_film_12, wX0_film_13, wX0_film_14, wX0_film_15, wX0_film_18, wX0_film_21, wX0_film_24, wX0_film_26, wX0_film_28, wX0_film_31, wX0_film_33, wX0_film_34, wX0_film_35, wX0_film_36, wX0_film_39, wX0_film_42, wX0_film_43, wX0_film_46, uX0_film_46, wX0_film_47, wX0_film_49, uX0_film_49, wX0_film_51, wX0_film_52, wX0_film_55, wX0_film_58, wX0_film_61, wX0_film_62, wX0_film_65, wX0_film_66, wX0_film_67, wX0_film_68, wX0_film_69, wX0_film_71, wX0_film_72, wX0_film_73, wX0_film_76, wX0_film_78, wX0_film_79, wX0_film_82, wX0_film_83, wX0_film_86, wX0_film_89, wX0_film_92, wX0_film_93, wX0_film_96, wX0_film_99, hX0_film_83_1, hX0_film_83_2, hX0_film_83_3, amSI_1, amSI_2, amSI_3, amSI_s, amU_at, amIsR_ref, amIsR_null, amIsR_rf, amRf_some, amRf_none, amClr_int, amClr_ref, amClr_null, amClr_long, amClr_ra, amClr_rf, amFit_int, amFit_oref, amFit_aref, amFit_onull, amFit_anull, amOptSome, amOptNone, List.cons_append, List.nil_append, true_and, and_true, true_implies, not_true_eq_false, not_false_eq_true, false_implies, and_self, Nat.add_zero, Nat.zero_add, ne_eq, Prod.mk.injEq, amC01_0, amC01_1, amC01_nb, amNb0, amNb1, amTcpI_d, Nat.reduceLeDiff, Nat.reduceAdd, Nat.reduceSub, Nat.reduceEqDiff, Nat.le_refl, amN0le, hR.s, hR.r, c']
      exact key
    · rw [filmR, if_neg (fun z => z ok), ec, if_neg c] at hK
      obtain ⟨l0, k, vs, j, eo, rfl, rfl, j31, jl⟩ := lack_ok c
      rw [eo] at hK l0
      replace hK : ∀ h', rsFr h h' → RsW h' (X.setSh s (some (k, filmL X.1 vs (nI j).toNatClampNeg X.1.ord.length))) → K (some (.int (nI X.1.ord.length))) h' := hK
      rw [amCl_nI j31] at hK
      have n00 : (0 ≤ nI 0) = True := eq_true (by decide)
      have loop : ∀ t p g, p + t = X.1.ord.length → rsFr h g → RsW g (X.setSh s (some (k, filmL X.1 vs j p))) → (∀ q, q < X.1.ord.length → g.2.1 33 q = nI ((X.1.rd X.1.ord 0).2.getD q PL0).1 ∧ ((X.1.rd X.1.ord 0).2.getD q PL0).1 < 1048576) → F 49 [.ref 24, .int (nI s), .int (nI k), .int (nI j), .int (nI 0), .int (nI p)] [] g (6 * p) (832 * p) := by
        intro t
        induction t with
        | zero =>
          intro p g e fg wg hf
          have e : p = X.1.ord.length := by omega
          subst e
          have key := hK g fg wg
          have hR := wg.1.1
          have hm : g.2.1 28 1 = nI X.1.ord.length := wg.1.2.1.many
          have a1 : (6 * X.1.ord.length ≤ 42) = True := eq_true (by omega)
          have a2 : (832 * X.1.ord.length ≤ 5824) = True := eq_true (by omega)
          refine goX0_film hF 60 ?_
          simp (disch := omega) only [wX0_film_0, uX0_film_0, wX0_film_1, wX0_film_2, wX0_film_5, wX0_film_8, wX0_film_9, wX0_film_10, wX0_film_11, wX0_film_12, wX0_film_13, wX0_film_14, wX0_film_15, wX0_film_18, wX0_film_21, wX0_film_24, wX0_film_26, wX0_film_28, wX0_film_31, wX0_film_33, wX0_film_34, wX0_film_35, wX0_film_36, wX0_film_39, wX0_film_42, wX0_film_43, wX0_film_46, uX0_film_46, wX0_film_47, wX0_film_49, uX0_film_49, wX0_film_51, wX0_film_52, wX0_film_55, wX0_film_58, wX0_film_61, wX0_film_62, wX0_film_65, wX0_film_66, wX0_film_67, wX0_film_68, wX0_film_69, wX0_film_71, wX0_film_72, wX0_film_73, wX0_film_76, wX0_film_78, wX0_film_79, wX0_film_82, wX0_film_83, wX0_film_86, wX0_film_89, wX0_film_92, wX0_film_93, wX0_film_96, wX0_film_99, hX0_film_83_1, hX0_film_83_2, hX0_film_83_3, amSI_1, amSI_2, amSI_3, amSI_s, amU_at, amIsR_ref, amIsR_null, amIsR_rf, amRf_some, amRf_none, amClr_int, amClr_ref, amClr_null, amClr_long, amClr_ra, amClr_rf, amFit_int, amFit_oref, amFit_aref, amFit_onull, amFit_anull, amOptSome, amOptNone, List.cons_append, List.nil_append, true_and, and_true, true_implies, not_true_eq_false, not_false_eq_true, false_implies, and_self, Nat.add_zero, Nat.zero_add, ne_eq, Prod.mk.injEq, amC01_0, amC01_1, amC01_nb, amNb0, amNb1, amTcpI_d, Nat.reduceLeDiff, Nat.reduceAdd, Nat.reduceSub, Nat.reduceEqDiff, Nat.le_refl, amN0le, hR.s, hR.r, amLeI, amLtI, amEqI, amLe0, amGt0, amEq0, amNotPosI, amGe0, amVI, amCl_nI, amAdd, amSub, amMul, tX1_many_d, hm, a1, a2]
          exact amRet.of (by omega) (by omega) key
        | succ t ih =>
          intro p g e fg wg hf
          have hR := wg.1.1
          obtain ⟨b1, b2, b3, b4, b5⟩ := hR.sheet s4
          have hm : g.2.1 28 1 = nI X.1.ord.length := wg.1.2.1.many
          have gn := wg.1.2.2.2
          have a1 : (6 * p ≤ 42) = True := eq_true (by omega)
          have a2 : (832 * p ≤ 5824) = True := eq_true (by omega)
          have a3 : (6 * p + 6 ≤ 42) = True := eq_true (by omega)
          have a4 : (832 * p + 832 ≤ 5824) = True := eq_true (by omega)
          have q : (X.1.ord.length ≤ p) = False := eq_false (by omega)
          obtain ⟨r2, r3⟩ := hf p (by omega)
          have pl := pop_le ((X.1.rd X.1.ord 0).2.getD p PL0).1
          have hsg := wg.2.2.2.2.2.2.2.1 s s4
          rw [setSh_at] at hsg
          have k4 := hsg.1
          refine goX0_film hF 60 ?_
          simp (disch := omega) only [wX0_film_0, uX0_film_0, wX0_film_1, wX0_film_2, wX0_film_5, wX0_film_8, wX0_film_9, wX0_film_10, wX0_film_11, wX0_film_12, wX0_film_13, wX0_film_14, wX0_film_15, wX0_film_18, wX0_film_21, wX0_film_24, wX0_film_26, wX0_film_28, wX0_film_31, wX0_film_33, wX0_film_34, wX0_film_35, wX0_film_36, wX0_film_39, wX0_film_42, wX0_film_43, wX0_film_46, uX0_film_46, wX0_film_47, wX0_film_49, uX0_film_49, wX0_film_51, wX0_film_52, wX0_film_55, wX0_film_58, wX0_film_61, wX0_film_62, wX0_film_65, wX0_film_66, wX0_film_67, wX0_film_68, wX0_film_69, wX0_film_71, wX0_film_72, wX0_film_73, wX0_film_76, wX0_film_78, wX0_film_79, wX0_film_82, wX0_film_83, wX0_film_86, wX0_film_89, wX0_film_92, wX0_film_93, wX0_film_96, wX0_film_99, hX0_film_83_1, hX0_film_83_2, hX0_film_83_3, amSI_1, amSI_2, amSI_3, amSI_s, amU_at, amIsR_ref, amIsR_null, amIsR_rf, amRf_some, amRf_none, amClr_int, amClr_ref, amClr_null, amClr_long, amClr_ra, amClr_rf, amFit_int, amFit_oref, amFit_aref, amFit_onull, amFit_anull, amOptSome, amOptNone, List.cons_append, List.nil_append, true_and, and_true, true_implies, not_true_eq_false, not_false_eq_true, false_implies, and_self, Nat.add_zero, Nat.zero_add, ne_eq, Prod.mk.injEq, amC01_0, amC01_1, amC01_nb, amNb0, amNb1, amTcpI_d, Nat.reduceLeDiff, Nat.reduceAdd, Nat.reduceSub, Nat.reduceEqDiff, Nat.le_refl, amN0le, hR.s, hR.r, amLeI, amLtI, amEqI, amLe0, amGt0, amEq0, amNotPosI, amGe0, amVI, amCl_nI, amAdd, amSub, amMul, tX1_many_d, hm, a1, a2, a3, a4, q, b4, b5, r2, bitCountN r3, am64]
          refine layOk hsg b5 (by rw [filmL_len]; omega) (fun x hx => ?_)
          obtain ⟨g1, g2⟩ := wg.lay (v := lN (pop ((X.1.rd X.1.ord 0).2.getD p PL0).1)) s4 setSh_at hx (j := j + p) (by rw [filmL_len]; omega)
          rw [cut20 _ (by omega) _ k4, filmL_set (by omega), setSh_2] at g2
          obtain ⟨_, _, x', x1', _, x3', _⟩ := hsg
          have ex : 143 ≤ x := by
            rw [hx] at x3'
            cases x3'
            exact x1'
          have nx := ih (p + 1) _ (by omega) (fg.tr g1) g2 (fun q hq => by rw [(amWr_same (h := g) (a := x) (i := 33) (by omega)).2.1]; exact hf q hq)
          simp (disch := omega) only [wX0_film_0, uX0_film_0, wX0_film_1, wX0_film_2, wX0_film_5, wX0_film_8, wX0_film_9, wX0_film_10, wX0_film_11, wX0_film_12, wX0_film_13, wX0_film_14, wX0_film_15, wX0_film_18, wX0_film_21, wX0_film_24, wX0_film_26, wX0_film_28, wX0_film_31, wX0_film_33, wX0_film_34, wX0_film_35, wX0_film_36, wX0_film_39, wX0_film_42, wX0_film_43, wX0_film_46, uX0_film_46, wX0_film_47, wX0_film_49, uX0_film_49, wX0_film_51, wX0_film_52, wX0_film_55, wX0_film_58, wX0_film_61, wX0_film_62, wX0_film_65, wX0_film_66, wX0_film_67, wX0_film_68, wX0_film_69, wX0_film_71, wX0_film_72, wX0_film_73, wX0_film_76, wX0_film_78, wX0_film_79, wX0_film_82, wX0_film_83, wX0_film_86, wX0_film_89, wX0_film_92, wX0_film_93, wX0_film_96, wX0_film_99, hX0_film_83_1, hX0_film_83_2, hX0_film_83_3, amSI_1, amSI_2, amSI_3, amSI_s, amU_at, amIsR_ref, amIsR_null, amIsR_rf, amRf_some, amRf_none, amClr_int, amClr_ref, amClr_null, amClr_long, amClr_ra, amClr_rf, amFit_int, amFit_oref, amFit_aref, amFit_onull, amFit_anull, amOptSome, amOptNone, List.cons_append, List.nil_append, true_and, and_true, true_implies, not_true_eq_false, not_false_eq_true, false_implies, and_self, Nat.add_zero, Nat.zero_add, ne_eq, Prod.mk.injEq, amC01_0, amC01_1, amC01_nb, amNb0, amNb1, amTcpI_d, Nat.reduceLeDiff, Nat.reduceAdd, Nat.reduceSub, Nat.reduceEqDiff, Nat.le_refl, amN0le, hR.s, hR.r, amLeI, amLtI, amEqI, amLe0, amGt0, amEq0, amNotPosI, amGe0, amVI, amCl_nI, amAdd, amSub, amMul, a1, a2, a3, a4]
          exact nx
      refine goX0_film hF 60 ?_
      simp (disch := omega) only [wX0_film_0, uX0_film_0, wX0_film_1, wX0_film_2, wX0_film_5, wX0_film_8, wX0_film_9, wX0_film_10, wX0_film_11, wX0_film_12, wX0_film_13, wX0_film_14, wX0_film_15, wX0_film_18, wX0_film_21, wX0_film_24, wX0_film_26, wX0_film_28, wX0_film_31, wX0_film_33, wX0_film_34, wX0_film_35, wX0_film_36, wX0_film_39, wX0_film_42, wX0_film_43, wX0_film_46, uX0_film_46, wX0_film_47, wX0_film_49, uX0_film_49, wX0_film_51, wX0_film_52, wX0_film_55, wX0_film_58, wX0_film_61, wX0_film_62, wX0_film_65, wX0_film_66, wX0_film_67, wX0_film_68, wX0_film_69, wX0_film_71, wX0_film_72, wX0_film_73, wX0_film_76, wX0_film_78, wX0_film_79, wX0_film_82, wX0_film_83, wX0_film_86, wX0_film_89, wX0_film_92, wX0_film_93, wX0_film_96, wX0_film_99, hX0_film_83_1, hX0_film_83_2, hX0_film_83_3, amSI_1, amSI_2, amSI_3, amSI_s, amU_at, amIsR_ref, amIsR_null, amIsR_rf, amRf_some, amRf_none, amClr_int, amClr_ref, amClr_null, amClr_long, amClr_ra, amClr_rf, amFit_int, amFit_oref, amFit_aref, amFit_onull, amFit_anull, amOptSome, amOptNone, List.cons_append, List.nil_append, true_and, and_true, true_implies, not_true_eq_false, not_false_eq_true, false_implies, and_self, Nat.add_zero, Nat.zero_add, ne_eq, Prod.mk.injEq, amC01_0, amC01_1, amC01_nb, amNb0, amNb1, amTcpI_d, Nat.reduceLeDiff, Nat.reduceAdd, Nat.reduceSub, Nat.reduceEqDiff, Nat.le_refl, amN0le, hR.s, hR.r, tX0_isSheet_d, ok, tX1_many_d, hm, tX0_lacks_d]
      refine ⟨fun _ => ⟨X.2.2.2.2, s, X.1.ord.length, hR, hsh, rfl, s4, rfl, n7, ?_⟩, fun z => absurd ok z⟩
      rw [eo, l0]
      simp (disch := omega) only [wX0_film_0, uX0_film_0, wX0_film_1, wX0_film_2, wX0_film_5, wX0_film_8, wX0_film_9, wX0_film_10, wX0_film_11, wX0_film_12, wX0_film_13, wX0_film_14, wX0_film_15, wX0_film_18, wX0_film_21, wX0_film_24, wX0_film_26, wX0_film_28, wX0_film_31, wX0_film_33, wX0_film_34, wX0_film_35, wX0_film_36, wX0_film_39, wX0_film_42, wX0_film_43, wX0_film_46, uX0_film_46, wX0_film_47, wX0_film_49, uX0_film_49, wX0_film_51, wX0_film_52, wX0_film_55, wX0_film_58, wX0_film_61, wX0_film_62, wX0_film_65, wX0_film_66, wX0_film_67, wX0_film_68, wX0_film_69, wX0_film_71, wX0_film_72, wX0_film_73, wX0_film_76, wX0_film_78, wX0_film_79, wX0_film_82, wX0_film_83, wX0_film_86, wX0_film_89, wX0_film_92, wX0_film_93, wX0_film_96, wX0_film_99, hX0_film_83_1, hX0_film_83_2, hX0_film_83_3, amSI_1, amSI_2, amSI_3, amSI_s, amU_at, amIsR_ref, amIsR_null, amIsR_rf, amRf_some, amRf_none, amClr_int, amClr_ref, amClr_null, amClr_long, amClr_ra, amClr_rf, amFit_int, amFit_oref, amFit_aref, amFit_onull, amFit_anull, amOptSome, amOptNone, List.cons_append, List.nil_append, true_and, and_true, true_implies, not_true_eq_false, not_false_eq_true, false_implies, and_self, Nat.add_zero, Nat.zero_add, ne_eq, Prod.mk.injEq, amC01_0, amC01_1, amC01_nb, amNb0, amNb1, amTcpI_d, Nat.reduceLeDiff, Nat.reduceAdd, Nat.reduceSub, Nat.reduceEqDiff, Nat.le_refl, amN0le, hR.s, hR.r, amLeI, amLtI, amEqI, amLe0, amGt0, amEq0, amNotPosI, amGe0, amVI, amCl_nI, amAdd, amSub, amMul, n00]
      refine goPre w.1 0 (by decide) (fun m' q1 q2 => ?_)
      obtain ⟨f1, w1⟩ := w.rdk q2
      have nx := loop X.1.ord.length 0 _ (by omega) f1 (by rw [filmL_0, setSh_id eo]; exact w1) (fun q hq => q1.pk q (by rw [X.1.rd_len]; exact hq))
      refine goX0_film hF 60 ?_
      simp (disch := omega) only [wX0_film_0, uX0_film_0, wX0_film_1, wX0_film_2, wX0_film_5, wX0_film_8, wX0_film_9, wX0_film_10, wX0_film_11, wX0_film_12, wX0_film_13, wX0_film_14, wX0_film_15, wX0_film_18, wX0_film_21, wX0_film_24, wX0_film_26, wX0_film_28, wX0_film_31, wX0_film_33, wX0_film_34, wX0_film_35, wX0_film_36, wX0_film_39, wX0_film_42, wX0_film_43, wX0_film_46, uX0_film_46, wX0_film_47, wX0_film_49, uX0_film_49, wX0_film_51, wX0_film_52, wX0_film_55, wX0_film_58, wX0_film_61, wX0_film_62, wX0_film_65, wX0_film_66, wX0_film_67, wX0_film_68, wX0_film_69, wX0_film_71, wX0_film_72, wX0_film_73, wX0_film_76, wX0_film_78, wX0_film_79, wX0_film_82, wX0_film_83, wX0_film_86, wX0_film_89, wX0_film_92, wX0_film_93, wX0_film_96, wX0_film_99, hX0_film_83_1, hX0_film_83_2, hX0_film_83_3, amSI_1, amSI_2, amSI_3, amSI_s, amU_at, amIsR_ref, amIsR_null, amIsR_rf, amRf_some, amRf_none, amClr_int, amClr_ref, amClr_null, amClr_long, amClr_ra, amClr_rf, amFit_int, amFit_oref, amFit_aref, amFit_onull, amFit_anull, amOptSome, amOptNone, List.cons_append, List.nil_append, true_and, and_true, true_implies, not_true_eq_false, not_false_eq_true, false_implies, and_self, Nat.add_zero, Nat.zero_add, ne_eq, Prod.mk.injEq, amC01_0, amC01_1, amC01_nb, amNb0, amNb1, amTcpI_d, Nat.reduceLeDiff, Nat.reduceAdd, Nat.reduceSub, Nat.reduceEqDiff, Nat.le_refl, amN0le, hR.s, hR.r]
      exact nx
  · have key := key0 (-1) (by rw [filmR, if_pos ok])
    refine goX0_film hF 60 ?_
    simp (disch := omega) only [wX0_film_0, uX0_film_0, wX0_film_1, wX0_film_2, wX0_film_5, wX0_film_8, wX0_film_9, wX0_film_10, wX0_film_11, wX0_film_12, wX0_film_13, wX0_film_14, wX0_film_15, wX0_film_18, wX0_film_21, wX0_film_24, wX0_film_26, wX0_film_28, wX0_film_31, wX0_film_33, wX0_film_34, wX0_film_35, wX0_film_36, wX0_film_39, wX0_film_42, wX0_film_43, wX0_film_46, uX0_film_46, wX0_film_47, wX0_film_49, uX0_film_49, wX0_film_51, wX0_film_52, wX0_film_55, wX0_film_58, wX0_film_61, wX0_film_62, wX0_film_65, wX0_film_66, wX0_film_67, wX0_film_68, wX0_film_69, wX0_film_71, wX0_film_72, wX0_film_73, wX0_film_76, wX0_film_78, wX0_film_79, wX0_film_82, wX0_film_83, wX0_film_86, wX0_film_89, wX0_film_92, wX0_film_93, wX0_film_96, wX0_film_99, hX0_film_83_1, hX0_film_83_2, hX0_film_83_3, amSI_1, amSI_2, amSI_3, amSI_s, amU_at, amIsR_ref, amIsR_null, amIsR_rf, amRf_some, amRf_none, amClr_int, amClr_ref, amClr_null, amClr_long, amClr_ra, amClr_rf, amFit_int, amFit_oref, amFit_aref, amFit_onull, amFit_anull, amOptSome, amOptNone, List.cons_append, List.nil_append, true_and, and_true, true_implies, not_true_eq_false, not_false_eq_true, false_implies, and_self, Nat.add_zero, Nat.zero_add, ne_eq, Prod.mk.injEq, amC01_0, amC01_1, amC01_nb, amNb0, amNb1, amTcpI_d, Nat.reduceLeDiff, Nat.reduceAdd, Nat.reduceSub, Nat.reduceEqDiff, Nat.le_refl, amN0le, hR.s, hR.r, tX0_isSheet_d, ok]
    exact key
def tX0_filmP : amT := fun as h K => tX0_film as h K (fun _ _ _ => False)
theorem metX0_filmP (l : Launch) (G : amG) (hl : l.stackTraces = false) : amMet l G yX0_film (ws_ yX0_film cX0_film 6 (some .int)) 10 42 5824 tX0_filmP := (metX0_film l G hl).plain
theorem tX0_filmP_d {a : Nat} {s0 lane i : Int32} {h : amH} {K : Option Value → amH → Prop} : tX0_filmP [.ref a, .int s0, .int lane, .int i] h K = ∃ X : XS, a = (24 : Nat) ∧ RsW h X ∧ ∀ h', rsFr h h' → RsW h' (filmR X s0 lane i).1 → K (some (.int (filmR X s0 lane i).2)) h' := rfl
