/-! the system's sheets made -/
set_option maxRecDepth 100000
theorem amNew_1 {h : amH} {s : Nat × Nat} {i : Nat} (hi : i < h.2.2.2.2) : (amNew h s).1 i = h.1 i := if_neg (by omega)
theorem ShIs.lt {h : amH} {sh : Nat → Option (Nat × List Int64)} (q : ShIs h sh) {t i : Nat} (ht : t < 4) (hi : h.2.2.2.1 (57 + t) 0 = some i) : 143 ≤ i ∧ i < h.2.2.2.2 := by
  have := q.1 t ht
  cases ho : sh t with
  | none =>
    rw [ho] at this
    have this : h.2.2.2.1 (57 + t) 0 = none := this
    rw [this] at hi; cases hi
  | some v =>
    obtain ⟨k, vs⟩ := v
    rw [ho] at this
    obtain ⟨_, _, j, j1, j2, j3, _⟩ := this
    rw [hi] at j3
    cases j3
    exact ⟨j1, j2⟩
/-- a new row in the sheet s -/
theorem RsW.newrow {h : amH} {X : XS} (w : RsW h X) {s k n : Nat} (s4 : s < 4) (k4 : k < 4) (n24 : n ≤ 24) : rsFr h (amWr (amNew h (laneK k, n)) (57 + s) 0 (.ref h.2.2.2.2)) ∧ RsW (amWr (amNew h (laneK k, n)) (57 + s) 0 (.ref h.2.2.2.2)) (X.setSh s (some (k, List.replicate n 0))) := by
  have wn := w.1.2.2.2
  have sm : ∀ i : Nat, i < h.2.2.2.2 → amSame h (amNew h (laneK k, n)) i := fun i hi => amNew_same hi
  have at1 : (amNew h (laneK k, n)).1 h.2.2.2.2 = (laneK k, n) := amNew_sh h _
  have at2 : ∀ p, (amNew h (laneK k, n)).2.1 h.2.2.2.2 p = 0 := fun p => by simp [amNew, va_up]
  have at3 : ∀ p, (amNew h (laneK k, n)).2.2.1 h.2.2.2.2 p = 0 := fun p => by simp [amNew, va_up]
  have atn : (amNew h (laneK k, n)).2.2.2.2 = h.2.2.2.2 + 1 := rfl
  generalize amNew h (laneK k, n) = g at sm at1 at2 at3 atn
  have r1 : ∀ i : Nat, i ≠ 57 + s → (amWr g (57 + s) 0 (.ref h.2.2.2.2)).2.2.2.1 i = g.2.2.2.1 i := fun i hi => if_neg hi
  have r2 : (amWr g (57 + s) 0 (.ref h.2.2.2.2)).2.2.2.1 (57 + s) 0 = some h.2.2.2.2 := by simp [amWr, va_up]
  have e1 : (amWr g (57 + s) 0 (.ref h.2.2.2.2)).1 = g.1 := rfl
  have e2 : (amWr g (57 + s) 0 (.ref h.2.2.2.2)).2.1 = g.2.1 := rfl
  have e3 : (amWr g (57 + s) 0 (.ref h.2.2.2.2)).2.2.1 = g.2.2.1 := rfl
  have e5 : (amWr g (57 + s) 0 (.ref h.2.2.2.2)).2.2.2.2 = g.2.2.2.2 := rfl
  generalize amWr g (57 + s) 0 (.ref h.2.2.2.2) = g' at r1 r2 e1 e2 e3 e5
  have hsh := w.2.2.2.2.2.2.2
  refine w.shw (fun i hi => by rw [e1]; exact (sm i (by omega)).1) (fun i hi => by rw [e2]; exact (sm i (by omega)).2.1) (fun i hi => by rw [e3]; exact (sm i (by omega)).2.2.1) (fun i hi h57 => by rw [r1 i (by omega)]; exact (sm i (by omega)).2.2.2) (by rw [e5, atn]; omega) (hsh.put (s := s) ?_ (fun t ht hne => by rw [r1 _ (by omega), (sm _ (by omega)).2.2.2]) (by rw [e5, atn]; omega) (fun t i ht hne hi hlt => by rw [e1, e2, e3]; exact ⟨(sm i hlt).1, (sm i hlt).2.1, (sm i hlt).2.2.1⟩) (fun t i ht hne hi => ?_))
  · refine ⟨k4, by rw [List.length_replicate]; exact n24, h.2.2.2.2, wn, by rw [e5, atn]; omega, r2, by rw [e1, at1, List.length_replicate], fun p hp => ?_⟩
    rw [repI_getD, e2, e3, at2, at3]
    split
    · rfl
    · rfl
  · rw [r2]
    intro e
    have := (hsh.lt ht hi).2
    cases e
    omega
def tX0_sheet : amT := fun as h K => match as with
  | [.ref a, .int s0, .int lane, .int n] => ∃ X : XS, a = (24 : Nat) ∧ RsW h X ∧ ∀ h', rsFr h h' → RsW h' (sheetR X s0 lane n).1 → K (some (.int (sheetR X s0 lane n).2)) h'
  | _ => False
/-! ReadingStages.sheet(III)I -/
def kX0_sheet : Nat → Bool := fun pc => false
def rX0_sheet : List (Nat × amS) := [(2, 2, 0, 0, tX0_isSheet), (17, 1, 0, 0, amTget 0 24), (57, 2, 0, 0, amTput 5 0)]
def rxX0_sheet : List (Nat × amXS) := [(27, 1, 3, 54, amTnewX 2), (38, 1, 3, 54, amTnewX 4), (49, 1, 3, 54, amTnewX 1), (55, 1, 3, 54, amTnewX 5)]
def hdX0_sheet : List (Nat × Nat × Nat) := [(27, 4, 63), (38, 4, 63), (49, 4, 63), (55, 4, 63)]
def eX0_sheet (retX : amXR) (ret : Option Value → amH → Nat → Nat → Prop) (F : amX) : Nat → amX := amWpX cX0_sheet kX0_sheet (amLkX rxX0_sheet) (amHd hdX0_sheet) (amLk rX0_sheet) (some .int) 3 54 retX ret F
def sX0_sheet (retX : amXR) (ret : Option Value → amH → Nat → Nat → Prop) (F : amX) : Nat → amX := amWsX cX0_sheet kX0_sheet (amLkX rxX0_sheet) (amHd hdX0_sheet) (amLk rX0_sheet) (some .int) 3 54 retX ret F
theorem hX0_sheet_27_4 {retX X ls q h k z} : amCat (amHd hdX0_sheet 27 4) retX X ls 4 q h k z = X 63 ls [.ref q] h k z := rfl
theorem hX0_sheet_38_4 {retX X ls q h k z} : amCat (amHd hdX0_sheet 38 4) retX X ls 4 q h k z = X 63 ls [.ref q] h k z := rfl
theorem hX0_sheet_49_4 {retX X ls q h k z} : amCat (amHd hdX0_sheet 49 4) retX X ls 4 q h k z = X 63 ls [.ref q] h k z := rfl
theorem hX0_sheet_55_4 {retX X ls q h k z} : amCat (amHd hdX0_sheet 55 4) retX X ls 4 q h k z = X 63 ls [.ref q] h k z := rfl
theorem evxX0_sheet (l : Launch) (G : amG) (hl : l.stackTraces = false) : ∀ pc S i sz, amLkX rxX0_sheet pc = some S → decode cX0_sheet pc = .ok (i, sz) → amSiteX pc G l yX0_sheet.cls yX0_sheet.name yX0_sheet.desc (amRm 9 3 54) i sz S.1 S.2.1 S.2.2.1 S.2.2.2 := amLkX_ok (by
  refine List.forall_mem_cons.mpr ⟨⟨_, _, dX0_sheet_27, amSiteNewX hl rfl (by decide) (by decide)⟩, ?_⟩
  refine List.forall_mem_cons.mpr ⟨⟨_, _, dX0_sheet_38, amSiteNewX hl rfl (by decide) (by decide)⟩, ?_⟩
  refine List.forall_mem_cons.mpr ⟨⟨_, _, dX0_sheet_49, amSiteNewX hl rfl (by decide) (by decide)⟩, ?_⟩
  refine List.forall_mem_cons.mpr ⟨⟨_, _, dX0_sheet_55, amSiteNewX hl rfl (by decide) (by decide)⟩, ?_⟩
  exact fun _ h => absurd h List.not_mem_nil)
theorem hkX0_sheet : ∀ q ∈ hdX0_sheet, amHdOk yX0_sheet.cls [(16, 60, 63, 467)] q := by
  refine List.forall_mem_cons.mpr ⟨⟨[], (16, 60, 63, 467), [], "java/lang/NegativeArraySizeException", rfl, fun _ h => absurd h List.not_mem_nil, by decide, by decide, q1196, List.mem_of_getElem? (i := 25) rfl, rfl⟩, ?_⟩
  refine List.forall_mem_cons.mpr ⟨⟨[], (16, 60, 63, 467), [], "java/lang/NegativeArraySizeException", rfl, fun _ h => absurd h List.not_mem_nil, by decide, by decide, q1196, List.mem_of_getElem? (i := 25) rfl, rfl⟩, ?_⟩
  refine List.forall_mem_cons.mpr ⟨⟨[], (16, 60, 63, 467), [], "java/lang/NegativeArraySizeException", rfl, fun _ h => absurd h List.not_mem_nil, by decide, by decide, q1196, List.mem_of_getElem? (i := 25) rfl, rfl⟩, ?_⟩
  refine List.forall_mem_cons.mpr ⟨⟨[], (16, 60, 63, 467), [], "java/lang/NegativeArraySizeException", rfl, fun _ h => absurd h List.not_mem_nil, by decide, by decide, q1196, List.mem_of_getElem? (i := 25) rfl, rfl⟩, ?_⟩
  exact fun _ h => absurd h List.not_mem_nil
theorem wX0_sheet_0 {ret F n h k z} {retX : amXR} {v0 v2 v3 v4 st x} : eX0_sheet retX ret F (n + 1) 0 [v0, .int x, v2, v3, v4] (st) h k z = (eX0_sheet retX ret F n 1 [v0, .int x, v2, v3, v4] (.int x :: st) h k z) := (amWpX_dec rfl rfl dX0_sheet_0 rfl).trans rfl
theorem uX0_sheet_0 {ret F n h k z} {retX : amXR} {v0 v2 v3 v4 st x} : sX0_sheet retX ret F n 0 [v0, .int x, v2, v3, v4] (st) h k z = (eX0_sheet retX ret F n 1 [v0, .int x, v2, v3, v4] (.int x :: st) h k z) := (amWsX_dec rfl dX0_sheet_0 rfl).trans rfl
theorem wX0_sheet_1 {ret F n h k z} {retX : amXR} {v0 v1 v3 v4 st x} : eX0_sheet retX ret F (n + 1) 1 [v0, v1, .int x, v3, v4] (st) h k z = (eX0_sheet retX ret F n 2 [v0, v1, .int x, v3, v4] (.int x :: st) h k z) := (amWpX_dec rfl rfl dX0_sheet_1 rfl).trans rfl
theorem wX0_sheet_2 {ret F n h k z} {retX : amXR} {v0 v1 v2 v3 v4 x1 x0} : eX0_sheet retX ret F (n + 1) 2 [v0, v1, v2, v3, v4] (.int x1 :: .int x0 :: []) h k z = (k + 0 ≤ 3 ∧ z + 0 ≤ 54 ∧ tX0_isSheet [.int x0, .int x1] h (fun v h => eX0_sheet retX ret F n 5 [v0, v1, v2, v3, v4] (v.toList ++ ([])) h (k + 0) (z + 0))) := (amWpX_dec rfl rfl dX0_sheet_2 rfl).trans (amS2 (Nat.le_of_ble_eq_true rfl) (Nat.le_of_ble_eq_true rfl))
theorem wX0_sheet_5 {ret F n h k z} {retX : amXR} {v0 v1 v2 v3 v4 st x} : eX0_sheet retX ret F (n + 1) 5 [v0, v1, v2, v3, v4] (.int x :: st) h k z = ((x = 0 → eX0_sheet retX ret F n 14 [v0, v1, v2, v3, v4] (st) h k z) ∧ (¬ x = 0 → eX0_sheet retX ret F n 8 [v0, v1, v2, v3, v4] (st) h k z)) := (amWpX_dec rfl rfl dX0_sheet_5 rfl).trans rfl
theorem wX0_sheet_8 {ret F n h k z} {retX : amXR} {v0 v1 v2 v4 st x} : eX0_sheet retX ret F (n + 1) 8 [v0, v1, v2, .int x, v4] (st) h k z = (eX0_sheet retX ret F n 9 [v0, v1, v2, .int x, v4] (.int x :: st) h k z) := (amWpX_dec rfl rfl dX0_sheet_8 rfl).trans rfl
theorem wX0_sheet_9 {ret F n h k z} {retX : amXR} {v0 v1 v2 v3 v4 st} : eX0_sheet retX ret F (n + 1) 9 [v0, v1, v2, v3, v4] (st) h k z = (eX0_sheet retX ret F n 11 [v0, v1, v2, v3, v4] (.int (nI 24) :: st) h k z) := (amWpX_dec rfl rfl dX0_sheet_9 rfl).trans rfl
theorem wX0_sheet_11 {ret F n h k z} {retX : amXR} {v0 v1 v2 v3 v4 st y x} : eX0_sheet retX ret F (n + 1) 11 [v0, v1, v2, v3, v4] (.int y :: .int x :: st) h k z = ((x ≤ y → eX0_sheet retX ret F n 16 [v0, v1, v2, v3, v4] (st) h k z) ∧ (¬ x ≤ y → eX0_sheet retX ret F n 14 [v0, v1, v2, v3, v4] (st) h k z)) := (amWpX_dec rfl rfl dX0_sheet_11 rfl).trans rfl
theorem wX0_sheet_14 {ret F n h k z} {retX : amXR} {v0 v1 v2 v3 v4 st} : eX0_sheet retX ret F (n + 1) 14 [v0, v1, v2, v3, v4] (st) h k z = (eX0_sheet retX ret F n 15 [v0, v1, v2, v3, v4] (.int (-1) :: st) h k z) := (amWpX_dec rfl rfl dX0_sheet_14 rfl).trans rfl
theorem wX0_sheet_15 {ret F n h k z} {retX : amXR} {v0 v1 v2 v3 v4 x} : eX0_sheet retX ret F (n + 1) 15 [v0, v1, v2, v3, v4] ([.int x]) h k z = (ret (some (.int x)) h k z) := (amWpX_dec rfl rfl dX0_sheet_15 rfl).trans (amTrue ⟨_, rfl, rfl⟩)
theorem wX0_sheet_16 {ret F n h k z} {retX : amXR} {v0 v1 v2 v3 v4 st} : eX0_sheet retX ret F (n + 1) 16 [v0, v1, v2, v3, v4] (st) h k z = (amIsR v0 ∧ eX0_sheet retX ret F n 17 [v0, v1, v2, v3, v4] (v0 :: st) h k z) := (amWpX_dec rfl rfl dX0_sheet_16 rfl).trans rfl
theorem wX0_sheet_17 {ret F n h k z} {retX : amXR} {v0 v1 v2 v3 v4 a} : eX0_sheet retX ret F (n + 1) 17 [v0, v1, v2, v3, v4] (.ref a :: []) h k z = (k + 0 ≤ 3 ∧ z + 0 ≤ 54 ∧ h.1 a = (0, 0) ∧ eX0_sheet retX ret F n 20 [v0, v1, v2, v3, v4] (va_rf (h.2.2.2.1 a 24) :: []) h (k + 0) (z + 0)) := (amWpX_dec rfl rfl dX0_sheet_17 rfl).trans (amS2 (Nat.le_of_ble_eq_true rfl) (Nat.le_of_ble_eq_true rfl))
theorem wX0_sheet_20 {ret F n h k z} {retX : amXR} {v0 v2 v3 v4 st x} : eX0_sheet retX ret F (n + 1) 20 [v0, .int x, v2, v3, v4] (st) h k z = (eX0_sheet retX ret F n 21 [v0, .int x, v2, v3, v4] (.int x :: st) h k z) := (amWpX_dec rfl rfl dX0_sheet_20 rfl).trans rfl
theorem wX0_sheet_21 {ret F n h k z} {retX : amXR} {v0 v1 v2 v3 v4 st x a} : eX0_sheet retX ret F (n + 1) 21 [v0, v1, v2, v3, v4] (.int x :: .ref a :: st) h k z = (6 ≤ (h.1 a).1 ∧ (h.1 a).1 ≤ 8 ∧ vp_in x (h.1 a).2 ∧ eX0_sheet retX ret F n 22 [v0, v1, v2, v3, v4] (va_rf (h.2.2.2.1 a x.toNatClampNeg) :: st) h k z) := (amWpX_dec rfl rfl dX0_sheet_21 rfl).trans rfl
theorem wX0_sheet_22 {ret F n h k z} {retX : amXR} {v0 v1 v3 v4 st x} : eX0_sheet retX ret F (n + 1) 22 [v0, v1, .int x, v3, v4] (st) h k z = (eX0_sheet retX ret F n 23 [v0, v1, .int x, v3, v4] (.int x :: st) h k z) := (amWpX_dec rfl rfl dX0_sheet_22 rfl).trans rfl
theorem wX0_sheet_23 {ret F n h k z} {retX : amXR} {v0 v1 v2 v3 v4 st x} : eX0_sheet retX ret F (n + 1) 23 [v0, v1, v2, v3, v4] (.int x :: st) h k z = ((¬ x = 0 → eX0_sheet retX ret F n 32 [v0, v1, v2, v3, v4] (st) h k z) ∧ (x = 0 → eX0_sheet retX ret F n 26 [v0, v1, v2, v3, v4] (st) h k z)) := (amWpX_dec rfl rfl dX0_sheet_23 rfl).trans rfl
theorem wX0_sheet_26 {ret F n h k z} {retX : amXR} {v0 v1 v2 v4 st x} : eX0_sheet retX ret F (n + 1) 26 [v0, v1, v2, .int x, v4] (st) h k z = (eX0_sheet retX ret F n 27 [v0, v1, v2, .int x, v4] (.int x :: st) h k z) := (amWpX_dec rfl rfl dX0_sheet_26 rfl).trans rfl
theorem wX0_sheet_27 {ret F n h k z} {retX : amXR} {v0 v1 v2 v3 v4 r0 x} : eX0_sheet retX ret F (n + 1) 27 [v0, v1, v2, v3, v4] (.int x :: r0 :: []) h k z = (k + 3 ≤ 3 ∧ z + 54 ≤ 54 ∧ amTnewX 2 [.int x] h (fun v h => eX0_sheet retX ret F n 29 [v0, v1, v2, v3, v4] (v.toList ++ (r0 :: [])) h (k + 3) (z + 54)) (fun ex q h => amCat (amHd hdX0_sheet 27 ex) retX (eX0_sheet retX ret F n) [v0, v1, v2, v3, v4] ex q h (k + 3) (z + 54))) := (amWpX_thr rfl rfl dX0_sheet_27 rfl).trans (amS2 (Nat.le_of_ble_eq_true rfl) (Nat.le_of_ble_eq_true rfl))
theorem wX0_sheet_29 {ret F n h k z} {retX : amXR} {v0 v1 v2 v3 v4 st} : eX0_sheet retX ret F (n + 1) 29 [v0, v1, v2, v3, v4] (st) h k z = (eX0_sheet retX ret F n 57 [v0, v1, v2, v3, v4] (st) h k z) := (amWpX_dec rfl rfl dX0_sheet_29 rfl).trans rfl
theorem wX0_sheet_32 {ret F n h k z} {retX : amXR} {v0 v1 v3 v4 st x} : eX0_sheet retX ret F (n + 1) 32 [v0, v1, .int x, v3, v4] (st) h k z = (eX0_sheet retX ret F n 33 [v0, v1, .int x, v3, v4] (.int x :: st) h k z) := (amWpX_dec rfl rfl dX0_sheet_32 rfl).trans rfl
theorem wX0_sheet_33 {ret F n h k z} {retX : amXR} {v0 v1 v2 v3 v4 st} : eX0_sheet retX ret F (n + 1) 33 [v0, v1, v2, v3, v4] (st) h k z = (eX0_sheet retX ret F n 34 [v0, v1, v2, v3, v4] (.int (nI 1) :: st) h k z) := (amWpX_dec rfl rfl dX0_sheet_33 rfl).trans rfl
theorem wX0_sheet_34 {ret F n h k z} {retX : amXR} {v0 v1 v2 v3 v4 st y x} : eX0_sheet retX ret F (n + 1) 34 [v0, v1, v2, v3, v4] (.int y :: .int x :: st) h k z = ((¬ x = y → eX0_sheet retX ret F n 43 [v0, v1, v2, v3, v4] (st) h k z) ∧ (x = y → eX0_sheet retX ret F n 37 [v0, v1, v2, v3, v4] (st) h k z)) := (amWpX_dec rfl rfl dX0_sheet_34 rfl).trans rfl
theorem wX0_sheet_37 {ret F n h k z} {retX : amXR} {v0 v1 v2 v4 st x} : eX0_sheet retX ret F (n + 1) 37 [v0, v1, v2, .int x, v4] (st) h k z = (eX0_sheet retX ret F n 38 [v0, v1, v2, .int x, v4] (.int x :: st) h k z) := (amWpX_dec rfl rfl dX0_sheet_37 rfl).trans rfl
theorem wX0_sheet_38 {ret F n h k z} {retX : amXR} {v0 v1 v2 v3 v4 r0 x} : eX0_sheet retX ret F (n + 1) 38 [v0, v1, v2, v3, v4] (.int x :: r0 :: []) h k z = (k + 3 ≤ 3 ∧ z + 54 ≤ 54 ∧ amTnewX 4 [.int x] h (fun v h => eX0_sheet retX ret F n 40 [v0, v1, v2, v3, v4] (v.toList ++ (r0 :: [])) h (k + 3) (z + 54)) (fun ex q h => amCat (amHd hdX0_sheet 38 ex) retX (eX0_sheet retX ret F n) [v0, v1, v2, v3, v4] ex q h (k + 3) (z + 54))) := (amWpX_thr rfl rfl dX0_sheet_38 rfl).trans (amS2 (Nat.le_of_ble_eq_true rfl) (Nat.le_of_ble_eq_true rfl))
theorem wX0_sheet_40 {ret F n h k z} {retX : amXR} {v0 v1 v2 v3 v4 st} : eX0_sheet retX ret F (n + 1) 40 [v0, v1, v2, v3, v4] (st) h k z = (eX0_sheet retX ret F n 57 [v0, v1, v2, v3, v4] (st) h k z) := (amWpX_dec rfl rfl dX0_sheet_40 rfl).trans rfl
theorem wX0_sheet_43 {ret F n h k z} {retX : amXR} {v0 v1 v3 v4 st x} : eX0_sheet retX ret F (n + 1) 43 [v0, v1, .int x, v3, v4] (st) h k z = (eX0_sheet retX ret F n 44 [v0, v1, .int x, v3, v4] (.int x :: st) h k z) := (amWpX_dec rfl rfl dX0_sheet_43 rfl).trans rfl
theorem wX0_sheet_44 {ret F n h k z} {retX : amXR} {v0 v1 v2 v3 v4 st} : eX0_sheet retX ret F (n + 1) 44 [v0, v1, v2, v3, v4] (st) h k z = (eX0_sheet retX ret F n 45 [v0, v1, v2, v3, v4] (.int (nI 2) :: st) h k z) := (amWpX_dec rfl rfl dX0_sheet_44 rfl).trans rfl
theorem wX0_sheet_45 {ret F n h k z} {retX : amXR} {v0 v1 v2 v3 v4 st y x} : eX0_sheet retX ret F (n + 1) 45 [v0, v1, v2, v3, v4] (.int y :: .int x :: st) h k z = ((¬ x = y → eX0_sheet retX ret F n 54 [v0, v1, v2, v3, v4] (st) h k z) ∧ (x = y → eX0_sheet retX ret F n 48 [v0, v1, v2, v3, v4] (st) h k z)) := (amWpX_dec rfl rfl dX0_sheet_45 rfl).trans rfl
theorem wX0_sheet_48 {ret F n h k z} {retX : amXR} {v0 v1 v2 v4 st x} : eX0_sheet retX ret F (n + 1) 48 [v0, v1, v2, .int x, v4] (st) h k z = (eX0_sheet retX ret F n 49 [v0, v1, v2, .int x, v4] (.int x :: st) h k z) := (amWpX_dec rfl rfl dX0_sheet_48 rfl).trans rfl
theorem wX0_sheet_49 {ret F n h k z} {retX : amXR} {v0 v1 v2 v3 v4 r0 x} : eX0_sheet retX ret F (n + 1) 49 [v0, v1, v2, v3, v4] (.int x :: r0 :: []) h k z = (k + 3 ≤ 3 ∧ z + 54 ≤ 54 ∧ amTnewX 1 [.int x] h (fun v h => eX0_sheet retX ret F n 51 [v0, v1, v2, v3, v4] (v.toList ++ (r0 :: [])) h (k + 3) (z + 54)) (fun ex q h => amCat (amHd hdX0_sheet 49 ex) retX (eX0_sheet retX ret F n) [v0, v1, v2, v3, v4] ex q h (k + 3) (z + 54))) := (amWpX_thr rfl rfl dX0_sheet_49 rfl).trans (amS2 (Nat.le_of_ble_eq_true rfl) (Nat.le_of_ble_eq_true rfl))
theorem wX0_sheet_51 {ret F n h k z} {retX : amXR} {v0 v1 v2 v3 v4 st} : eX0_sheet retX ret F (n + 1) 51 [v0, v1, v2, v3, v4] (st) h k z = (eX0_sheet retX ret F n 57 [v0, v1, v2, v3, v4] (st) h k z) := (amWpX_dec rfl rfl dX0_sheet_51 rfl).trans rfl
theorem wX0_sheet_54 {ret F n h k z} {retX : amXR} {v0 v1 v2 v4 st x} : eX0_sheet retX ret F (n + 1) 54 [v0, v1, v2, .int x, v4] (st) h k z = (eX0_sheet retX ret F n 55 [v0, v1, v2, .int x, v4] (.int x :: st) h k z) := (amWpX_dec rfl rfl dX0_sheet_54 rfl).trans rfl
theorem wX0_sheet_55 {ret F n h k z} {retX : amXR} {v0 v1 v2 v3 v4 r0 x} : eX0_sheet retX ret F (n + 1) 55 [v0, v1, v2, v3, v4] (.int x :: r0 :: []) h k z = (k + 3 ≤ 3 ∧ z + 54 ≤ 54 ∧ amTnewX 5 [.int x] h (fun v h => eX0_sheet retX ret F n 57 [v0, v1, v2, v3, v4] (v.toList ++ (r0 :: [])) h (k + 3) (z + 54)) (fun ex q h => amCat (amHd hdX0_sheet 55 ex) retX (eX0_sheet retX ret F n) [v0, v1, v2, v3, v4] ex q h (k + 3) (z + 54))) := (amWpX_thr rfl rfl dX0_sheet_55 rfl).trans (amS2 (Nat.le_of_ble_eq_true rfl) (Nat.le_of_ble_eq_true rfl))
theorem wX0_sheet_57 {ret F n h k z} {retX : amXR} {v0 v1 v2 v3 v4 w a} : eX0_sheet retX ret F (n + 1) 57 [v0, v1, v2, v3, v4] (w :: .ref a :: []) h k z = (k + 0 ≤ 3 ∧ z + 0 ≤ 54 ∧ h.1 a = (0, 5) ∧ amN0 ≤ a ∧ amFit (.object "java/lang/Object") w ∧ eX0_sheet retX ret F n 60 [v0, v1, v2, v3, v4] ([]) (amWr h a 0 w) (k + 0) (z + 0)) := (amWpX_dec rfl rfl dX0_sheet_57 rfl).trans (amS2 (Nat.le_of_ble_eq_true rfl) (Nat.le_of_ble_eq_true rfl))
theorem wX0_sheet_60 {ret F n h k z} {retX : amXR} {v0 v1 v2 v3 v4 st} : eX0_sheet retX ret F (n + 1) 60 [v0, v1, v2, v3, v4] (st) h k z = (eX0_sheet retX ret F n 68 [v0, v1, v2, v3, v4] (st) h k z) := (amWpX_dec rfl rfl dX0_sheet_60 rfl).trans rfl
theorem wX0_sheet_63 {ret F n h k z} {retX : amXR} {v0 v1 v2 v3 v4 w st} : eX0_sheet retX ret F (n + 1) 63 [v0, v1, v2, v3, v4] (w :: st) h k z = (amIsR w ∧ eX0_sheet retX ret F n 65 [v0, v1, v2, amClr v3, w] (st) h k z) := (amWpX_dec rfl rfl dX0_sheet_63 rfl).trans (amTrue2 (Nat.le_of_ble_eq_true rfl))
theorem wX0_sheet_65 {ret F n h k z} {retX : amXR} {v0 v1 v2 v3 v4 st} : eX0_sheet retX ret F (n + 1) 65 [v0, v1, v2, v3, v4] (st) h k z = (eX0_sheet retX ret F n 67 [v0, v1, v2, v3, v4] (.int (-14) :: st) h k z) := (amWpX_dec rfl rfl dX0_sheet_65 rfl).trans rfl
theorem wX0_sheet_67 {ret F n h k z} {retX : amXR} {v0 v1 v2 v3 v4 x} : eX0_sheet retX ret F (n + 1) 67 [v0, v1, v2, v3, v4] ([.int x]) h k z = (ret (some (.int x)) h k z) := (amWpX_dec rfl rfl dX0_sheet_67 rfl).trans (amTrue ⟨_, rfl, rfl⟩)
theorem wX0_sheet_68 {ret F n h k z} {retX : amXR} {v0 v1 v2 v4 st x} : eX0_sheet retX ret F (n + 1) 68 [v0, v1, v2, .int x, v4] (st) h k z = (eX0_sheet retX ret F n 69 [v0, v1, v2, .int x, v4] (.int x :: st) h k z) := (amWpX_dec rfl rfl dX0_sheet_68 rfl).trans rfl
theorem wX0_sheet_69 {ret F n h k z} {retX : amXR} {v0 v1 v2 v3 v4 x} : eX0_sheet retX ret F (n + 1) 69 [v0, v1, v2, v3, v4] ([.int x]) h k z = (ret (some (.int x)) h k z) := (amWpX_dec rfl rfl dX0_sheet_69 rfl).trans (amTrue ⟨_, rfl, rfl⟩)
theorem evX0_sheet (l : Launch) (G : amG) (hl : l.stackTraces = false) : ∀ pc S i sz, amLk rX0_sheet pc = some S → decode cX0_sheet pc = .ok (i, sz) → amSiteP pc G l yX0_sheet.cls yX0_sheet.name yX0_sheet.desc (amRm 9 3 54) i sz S.1 S.2.1 S.2.2.1 S.2.2.2 := amLk_ok (by
  refine List.forall_mem_cons.mpr ⟨⟨_, _, dX0_sheet_2, amSite.P (amSiteS (metX0_isSheet l G) rfl (by decide) (by decide) (lw_S q1157 q1158 q86 q1159) ⟨by decide +kernel, by decide +kernel, by decide +kernel⟩)⟩, ?_⟩
  refine List.forall_mem_cons.mpr ⟨⟨_, _, dX0_sheet_17, amSite.P (amSiteGet ⟨_, rfl, by decide, Or.inl q325⟩)⟩, ?_⟩
  refine List.forall_mem_cons.mpr ⟨⟨_, _, dX0_sheet_57, amSite.P (amSitePut ⟨_, rfl, by decide, Or.inr ⟨"ReadingStages", List.mem_of_getElem? (i := 13) rfl⟩⟩ (fun q h => by cases h; rfl))⟩, ?_⟩
  exact fun _ h => absurd h List.not_mem_nil)
theorem goX0_sheet {retX ret F} (hF : amCldX cX0_sheet kX0_sheet (amLkX rxX0_sheet) (amHd hdX0_sheet) (amLk rX0_sheet) (some .int) 3 54 retX ret F) (n : Nat) {pc ls st h k z} (q : sX0_sheet retX ret F n pc ls st h k z) : F pc ls st h k z := hF.1 n pc ls st h k z q
theorem metX0_sheet (l : Launch) (G : amG) (hl : l.stackTraces = false) : amMet l G yX0_sheet (wsW_ yX0_sheet cX0_sheet 5 (some .int) [(16, 60, 63, 467)]) 9 3 54 tX0_sheet := by
  refine amMetH_of (cut := kX0_sheet) (by decide +kernel) (evX0_sheet l G hl) (evxX0_sheet l G hl) q1195 hkX0_sheet ?_
  intro as h K hT
  match as, hT with
  | [.ref a, .int s0, .int lane, .int n], ⟨X, e1, w, hK⟩ =>
  refine ⟨Nat.le_of_ble_eq_true rfl, fun F hF => ?_⟩
  show F 0 [.ref a, .int s0, .int lane, .int n, .retAddr 0] [] h 0 0
  obtain ⟨a, rfl⟩ : ∃ i : Nat, i = a := ⟨_, rfl⟩
  subst e1
  have hR := w.1.1
  have wn := w.1.2.2.2
  have bad : ¬ (okS s0 lane ∧ n ≤ nI 24) → amRet 3 54 K (some (.int (-1))) h 0 0 := fun z => by
    rw [sheetR, if_pos z] at hK
    exact amRet.of (by decide) (by decide) (hK h (rsFr.rf h) w)
  by_cases ok : okS s0 lane
  · obtain ⟨s, s4, rfl⟩ := in3.mp ok.1
    obtain ⟨k, k4, rfl⟩ := in3.mp ok.2
    obtain ⟨b1, b2, b3, b4, b5⟩ := hR.sheet s4
    have wn57 : 57 + s < h.2.2.2.2 := by omega
    refine goX0_sheet hF 60 ?_
    simp (disch := omega) only [wX0_sheet_0, uX0_sheet_0, wX0_sheet_1, wX0_sheet_2, wX0_sheet_5, wX0_sheet_8, wX0_sheet_9, wX0_sheet_11, wX0_sheet_14, wX0_sheet_15, wX0_sheet_16, wX0_sheet_17, wX0_sheet_20, wX0_sheet_21, wX0_sheet_22, wX0_sheet_23, wX0_sheet_26, wX0_sheet_27, wX0_sheet_29, wX0_sheet_32, wX0_sheet_33, wX0_sheet_34, wX0_sheet_37, wX0_sheet_38, wX0_sheet_40, wX0_sheet_43, wX0_sheet_44, wX0_sheet_45, wX0_sheet_48, wX0_sheet_49, wX0_sheet_51, wX0_sheet_54, wX0_sheet_55, wX0_sheet_57, wX0_sheet_60, wX0_sheet_63, wX0_sheet_65, wX0_sheet_67, wX0_sheet_68, wX0_sheet_69, hX0_sheet_27_4, hX0_sheet_38_4, hX0_sheet_49_4, hX0_sheet_55_4, amSI_1, amSI_2, amSI_3, amSI_s, amU_at, amIsR_ref, amIsR_null, amIsR_rf, amRf_some, amRf_none, amClr_int, amClr_ref, amClr_null, amClr_long, amClr_ra, amClr_rf, amFit_int, amFit_oref, amFit_aref, amFit_onull, amFit_anull, amOptSome, amOptNone, List.cons_append, List.nil_append, true_and, and_true, true_implies, not_true_eq_false, not_false_eq_true, false_implies, and_self, Nat.add_zero, Nat.zero_add, ne_eq, Prod.mk.injEq, amC01_0, amC01_1, amC01_nb, amNb0, amNb1, amTcpI_d, Nat.reduceLeDiff, Nat.reduceAdd, Nat.reduceSub, Nat.reduceEqDiff, Nat.le_refl, amN0le, hR.s, hR.r, b4, b5, amLeI, amLtI, amEqI, amLe0, amGt0, amEq0, amNotPosI, amGe0, amVI, amCl_nI, amAdd, amSub, amMul, tX0_isSheet_d, ok, amTnewX_d, amNew_1]
    refine ⟨fun z => absurd ok z, fun _ => ⟨fun q3 => ?_, fun q3 => bad (fun z => q3 z.2)⟩⟩
    by_cases q4 : n < 0
    · have key : ∀ d, amRet 3 54 K (some (.int (-14))) (amMore h d) 3 54 := fun d => by
        rw [sheetR, if_neg (fun z => z ⟨ok, q3⟩), if_pos q4] at hK
        exact amRet.of (by decide) (by decide) (hK _ (w.more d).1 (w.more d).2)
      have c0 : n.toNatClampNeg ≤ 24 := by
        have := Int32.lt_iff_toInt_lt.mp q4
        have z0 : (0 : Int32).toInt = 0 := by decide
        show n.toInt.toNat ≤ 24
        omega
      exact ⟨fun _ => ⟨fun _ => ⟨fun _ => ⟨c0, fun z => absurd q4 z, fun _ _ d => key d⟩, fun _ => ⟨c0, fun z => absurd q4 z, fun _ _ d => key d⟩⟩, fun _ => ⟨c0, fun z => absurd q4 z, fun _ _ d => key d⟩⟩, fun _ => ⟨c0, fun z => absurd q4 z, fun _ _ d => key d⟩⟩
    · rw [sheetR, if_neg (fun z => z ⟨ok, q3⟩), if_neg q4, amCl_nI (by omega), amCl_nI (by omega)] at hK
      have hc := clamp_lt n
      have ex := clamp_id q4
      generalize n.toNatClampNeg = l at hc ex hK
      subst ex
      have l24 : l ≤ 24 := (amLeI (by omega) (by decide)).mp q3
      have key := hK _ (w.newrow s4 k4 l24).1 (w.newrow s4 k4 l24).2
      have key := fun (a b : Nat) (ha : a ≤ 3) (hb : b ≤ 54) => amRet.of (mc := 3) (ms := 54) ha hb key
      refine ⟨fun e0 => ⟨fun e1 => ⟨fun e2 => ?_, fun e2 => ?_⟩, fun e1 => ?_⟩, fun e0 => ?_⟩
      · obtain rfl : k = 3 := by omega
        exact ⟨l24, fun _ => key _ _ (by decide) (by decide), fun z => absurd z q4⟩
      · subst e2
        exact ⟨l24, fun _ => key _ _ (by decide) (by decide), fun z => absurd z q4⟩
      · subst e1
        exact ⟨l24, fun _ => key _ _ (by decide) (by decide), fun z => absurd z q4⟩
      · subst e0
        exact ⟨l24, fun _ => key _ _ (by decide) (by decide), fun z => absurd z q4⟩
  · refine goX0_sheet hF 60 ?_
    simp (disch := omega) only [wX0_sheet_0, uX0_sheet_0, wX0_sheet_1, wX0_sheet_2, wX0_sheet_5, wX0_sheet_8, wX0_sheet_9, wX0_sheet_11, wX0_sheet_14, wX0_sheet_15, wX0_sheet_16, wX0_sheet_17, wX0_sheet_20, wX0_sheet_21, wX0_sheet_22, wX0_sheet_23, wX0_sheet_26, wX0_sheet_27, wX0_sheet_29, wX0_sheet_32, wX0_sheet_33, wX0_sheet_34, wX0_sheet_37, wX0_sheet_38, wX0_sheet_40, wX0_sheet_43, wX0_sheet_44, wX0_sheet_45, wX0_sheet_48, wX0_sheet_49, wX0_sheet_51, wX0_sheet_54, wX0_sheet_55, wX0_sheet_57, wX0_sheet_60, wX0_sheet_63, wX0_sheet_65, wX0_sheet_67, wX0_sheet_68, wX0_sheet_69, hX0_sheet_27_4, hX0_sheet_38_4, hX0_sheet_49_4, hX0_sheet_55_4, amSI_1, amSI_2, amSI_3, amSI_s, amU_at, amIsR_ref, amIsR_null, amIsR_rf, amRf_some, amRf_none, amClr_int, amClr_ref, amClr_null, amClr_long, amClr_ra, amClr_rf, amFit_int, amFit_oref, amFit_aref, amFit_onull, amFit_anull, amOptSome, amOptNone, List.cons_append, List.nil_append, true_and, and_true, true_implies, not_true_eq_false, not_false_eq_true, false_implies, and_self, Nat.add_zero, Nat.zero_add, ne_eq, Prod.mk.injEq, amC01_0, amC01_1, amC01_nb, amNb0, amNb1, amTcpI_d, Nat.reduceLeDiff, Nat.reduceAdd, Nat.reduceSub, Nat.reduceEqDiff, Nat.le_refl, amN0le, hR.s, hR.r, tX0_isSheet_d, ok]
    exact bad (fun z => ok z.1)
theorem tX0_sheet_d {a : Nat} {s0 lane n : Int32} {h : amH} {K : Option Value → amH → Prop} : tX0_sheet [.ref a, .int s0, .int lane, .int n] h K = ∃ X : XS, a = (24 : Nat) ∧ RsW h X ∧ ∀ h', rsFr h h' → RsW h' (sheetR X s0 lane n).1 → K (some (.int (sheetR X s0 lane n).2)) h' := rfl
